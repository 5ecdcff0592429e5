/-! WatchStack -/
set_option maxRecDepth 100000
def RX0 : String := "WatchStack"
def TX0 : u_T := fun k => match k with
  | 0 => ("WatchStack", "now", "LWatchStack$Told;", false)
  | 1 => ("WatchStack", "images", "[LWatchStack$Told;", true)
  | 2 => ("WatchStack", "tape", "[B", true)
  | 3 => ("WatchStack", "taped", "I", false)
  | 4 => ("WatchStack", "faultKind", "I", false)
  | 5 => ("WatchStack", "faultPlace", "I", false)
  | 6 => ("WatchStack", "grown", "I", false)
  | 7 => ("WatchStack", "growth", "I", false)
  | 8 => ("WatchStack", "answers", "[I", true)
  | 9 => ("WatchStack", "order", "[I", true)
  | 10 => ("WatchStack", "isOrder", "Z", false)
  | 11 => ("WatchStack", "ladder", "[LWatchStack$Rung;", true)
  | 12 => ("WatchStack", "lives", "[LWatchStack$Life;", true)
  | 13 => ("WatchStack", "hads", "[I", true)
  | 14 => ("WatchStack", "woken", "[I", true)
  | 15 => ("WatchStack", "slept", "[I", true)
  | 16 => ("WatchStack", "looked", "[Z", true)
  | 17 => ("WatchStack", "recordTick", "[I", true)
  | 18 => ("WatchStack", "recordKind", "[I", true)
  | 19 => ("WatchStack", "recordWho", "[I", true)
  | 20 => ("WatchStack", "recordLevel", "[I", true)
  | 21 => ("WatchStack", "opens", "[I", true)
  | 22 => ("WatchStack", "closes", "[I", true)
  | 23 => ("WatchStack", "setIn", "[I", true)
  | 24 => ("WatchStack", "records", "I", false)
  | 25 => ("WatchStack", "tick", "I", false)
  | 26 => ("WatchStack", "boards", "I", false)
  | 27 => ("WatchStack", "haltedAt", "I", false)
  | 28 => ("WatchStack", "but", "I", false)
  | 29 => ("WatchStack", "gapsOf", "I", false)
  | 30 => ("WatchStack", "gapWanted", "I", false)
  | 31 => ("WatchStack", "gapFound", "I", false)
  | 32 => ("WatchStack", "ofTask", "LWatchStack$Note;", true)
  | 33 => ("WatchStack", "ofWatcher", "LWatchStack$Note;", true)
  | 34 => ("WatchStack", "greatest", "I", false)
  | _ => ("WatchStack", "uncaught", "I", false)
def tyX0 : Nat → FieldType := fun k => match k with
  | 0 => .object "WatchStack$Told"
  | 1 => .array (.object "WatchStack$Told")
  | 2 => .array .byte
  | 3 => .int
  | 4 => .int
  | 5 => .int
  | 6 => .int
  | 7 => .int
  | 8 => .array .int
  | 9 => .array .int
  | 10 => .boolean
  | 11 => .array (.object "WatchStack$Rung")
  | 12 => .array (.object "WatchStack$Life")
  | 13 => .array .int
  | 14 => .array .int
  | 15 => .array .int
  | 16 => .array .boolean
  | 17 => .array .int
  | 18 => .array .int
  | 19 => .array .int
  | 20 => .array .int
  | 21 => .array .int
  | 22 => .array .int
  | 23 => .array .int
  | 24 => .int
  | 25 => .int
  | 26 => .int
  | 27 => .int
  | 28 => .int
  | 29 => .int
  | 30 => .int
  | 31 => .int
  | 32 => .object "WatchStack$Note"
  | 33 => .object "WatchStack$Note"
  | 34 => .int
  | _ => .int
abbrev wsX00 : List Cond := u_ws RX0 TX0 36
set_option maxRecDepth 100000 in
theorem nmX0 : ∀ a, a < 36 → ∀ b, b < 36 → a ≠ b → (TX0 a).2.1 ≠ (TX0 b).2.1 := by decide +kernel
set_option maxRecDepth 100000 in
theorem tyX0_ok : ∀ k, k < 36 → parseFieldDescriptor (TX0 k).2.2.1 = some (tyX0 k) := by decide +kernel
abbrev cX0_init : ByteArray := prog_1_method_3_code
def yX0_init : MethodName := ⟨RX0, "<init>", "()V"⟩
def dkwX0_init_11 : List UInt8 := [182, 0, 110, 177]
abbrev dktX0_init_11 : List UInt8 := dkwX0_init_11 ++ []
def dkwX0_init_10 : List UInt8 := [8, 162, 0, 22, 42, 180, 0, 58, 27, 187, 0, 56, 89, 183, 0, 109, 83, 132, 1, 1, 167, 255, 235, 42]
abbrev dktX0_init_10 : List UInt8 := dkwX0_init_10 ++ dktX0_init_11
def dkwX0_init_9 : List UInt8 := [187, 0, 96, 89, 183, 0, 98, 181, 0, 99, 42, 187, 0, 103, 89, 183, 0, 105, 181, 0, 106, 3, 60, 27]
abbrev dktX0_init_9 : List UInt8 := dkwX0_init_9 ++ dktX0_init_10
def dkwX0_init_8 : List UInt8 := [8, 188, 10, 181, 0, 87, 42, 8, 188, 10, 181, 0, 90, 42, 16, 19, 188, 10, 181, 0, 93, 42]
abbrev dktX0_init_8 : List UInt8 := dkwX0_init_8 ++ dktX0_init_9
def dkwX0_init_7 : List UInt8 := [188, 10, 181, 0, 78, 42, 17, 11, 184, 188, 10, 181, 0, 81, 42, 17, 11, 184, 188, 10, 181, 0, 84, 42]
abbrev dktX0_init_7 : List UInt8 := dkwX0_init_7 ++ dktX0_init_8
def dkwX0_init_6 : List UInt8 := [181, 0, 68, 42, 6, 188, 4, 181, 0, 71, 42, 17, 11, 184, 188, 10, 181, 0, 75, 42, 17, 11, 184]
abbrev dktX0_init_6 : List UInt8 := dkwX0_init_6 ++ dktX0_init_7
def dkwX0_init_5 : List UInt8 := [181, 0, 58, 42, 17, 0, 200, 188, 10, 181, 0, 62, 42, 6, 188, 10, 181, 0, 65, 42, 6, 188, 10]
abbrev dktX0_init_5 : List UInt8 := dkwX0_init_5 ++ dktX0_init_6
def dkwX0_init_4 : List UInt8 := [183, 0, 48, 83, 89, 6, 187, 0, 49, 89, 42, 183, 0, 51, 83, 181, 0, 52, 42, 8, 189, 0, 56]
abbrev dktX0_init_4 : List UInt8 := dkwX0_init_4 ++ dktX0_init_5
def dkwX0_init_3 : List UInt8 := [183, 0, 40, 83, 89, 4, 187, 0, 43, 89, 42, 183, 0, 45, 83, 89, 5, 187, 0, 46, 89, 42]
abbrev dktX0_init_3 : List UInt8 := dkwX0_init_3 ++ dktX0_init_4
def dkwX0_init_2 : List UInt8 := [181, 0, 31, 42, 8, 188, 10, 181, 0, 35, 42, 7, 189, 0, 38, 89, 3, 187, 0, 38, 89, 42]
abbrev dktX0_init_2 : List UInt8 := dkwX0_init_2 ++ dktX0_init_3
def dkwX0_init_1 : List UInt8 := [17, 3, 232, 188, 8, 181, 0, 20, 42, 2, 181, 0, 24, 42, 2, 181, 0, 28, 42, 16, 64, 188, 10]
abbrev dktX0_init_1 : List UInt8 := dkwX0_init_1 ++ dktX0_init_2
def dkwX0_init_0 : List UInt8 := [42, 183, 0, 1, 42, 187, 0, 7, 89, 183, 0, 9, 181, 0, 10, 42, 6, 189, 0, 7, 181, 0, 16, 42]
abbrev dktX0_init_0 : List UInt8 := dkwX0_init_0 ++ dktX0_init_1
theorem dksX0_init_0 : cX0_init.data.toList.drop 0 = dktX0_init_0 := by decide +kernel
theorem dksX0_init_1 : cX0_init.data.toList.drop 24 = dktX0_init_1 := dk_seg dksX0_init_0 24 rfl rfl
theorem dksX0_init_2 : cX0_init.data.toList.drop 47 = dktX0_init_2 := dk_seg dksX0_init_1 23 rfl rfl
theorem dksX0_init_3 : cX0_init.data.toList.drop 69 = dktX0_init_3 := dk_seg dksX0_init_2 22 rfl rfl
theorem dksX0_init_4 : cX0_init.data.toList.drop 91 = dktX0_init_4 := dk_seg dksX0_init_3 22 rfl rfl
theorem dksX0_init_5 : cX0_init.data.toList.drop 114 = dktX0_init_5 := dk_seg dksX0_init_4 23 rfl rfl
theorem dksX0_init_6 : cX0_init.data.toList.drop 137 = dktX0_init_6 := dk_seg dksX0_init_5 23 rfl rfl
theorem dksX0_init_7 : cX0_init.data.toList.drop 160 = dktX0_init_7 := dk_seg dksX0_init_6 23 rfl rfl
theorem dksX0_init_8 : cX0_init.data.toList.drop 184 = dktX0_init_8 := dk_seg dksX0_init_7 24 rfl rfl
theorem dksX0_init_9 : cX0_init.data.toList.drop 206 = dktX0_init_9 := dk_seg dksX0_init_8 22 rfl rfl
theorem dksX0_init_10 : cX0_init.data.toList.drop 230 = dktX0_init_10 := dk_seg dksX0_init_9 24 rfl rfl
theorem dksX0_init_11 : cX0_init.data.toList.drop 254 = dktX0_init_11 := dk_seg dksX0_init_10 24 rfl rfl
theorem dX0_init_0 : decode cX0_init 0 = .ok (.aload_n 0, 1) := dk_42 (dk_at dksX0_init_0 0 rfl rfl)
theorem dX0_init_1 : decode cX0_init 1 = .ok (.invokespecial 1, 3) := dk_183 0 1 (dk_at dksX0_init_0 1 rfl rfl)
theorem dX0_init_4 : decode cX0_init 4 = .ok (.aload_n 0, 1) := dk_42 (dk_at dksX0_init_0 4 rfl rfl)
theorem dX0_init_5 : decode cX0_init 5 = .ok (.new 7, 3) := dk_187 0 7 (dk_at dksX0_init_0 5 rfl rfl)
theorem dX0_init_8 : decode cX0_init 8 = .ok (.dup, 1) := dk_89 (dk_at dksX0_init_0 8 rfl rfl)
theorem dX0_init_9 : decode cX0_init 9 = .ok (.invokespecial 9, 3) := dk_183 0 9 (dk_at dksX0_init_0 9 rfl rfl)
theorem dX0_init_12 : decode cX0_init 12 = .ok (.putfield 10, 3) := dk_181 0 10 (dk_at dksX0_init_0 12 rfl rfl)
theorem dX0_init_15 : decode cX0_init 15 = .ok (.aload_n 0, 1) := dk_42 (dk_at dksX0_init_0 15 rfl rfl)
theorem dX0_init_16 : decode cX0_init 16 = .ok (.iconst 3, 1) := dk_6 (dk_at dksX0_init_0 16 rfl rfl)
theorem dX0_init_17 : decode cX0_init 17 = .ok (.anewarray 7, 3) := dk_189 0 7 (dk_at dksX0_init_0 17 rfl rfl)
theorem dX0_init_20 : decode cX0_init 20 = .ok (.putfield 16, 3) := dk_181 0 16 (dk_at dksX0_init_0 20 rfl rfl)
theorem dX0_init_23 : decode cX0_init 23 = .ok (.aload_n 0, 1) := dk_42 (dk_at dksX0_init_0 23 rfl rfl)
theorem dX0_init_24 : decode cX0_init 24 = .ok (.sipush 1000, 3) := dk_17 3 232 (dk_at dksX0_init_1 0 rfl rfl)
theorem dX0_init_27 : decode cX0_init 27 = .ok (.newarray .byte, 2) := dk_188_8 (dk_at dksX0_init_1 3 rfl rfl)
theorem dX0_init_29 : decode cX0_init 29 = .ok (.putfield 20, 3) := dk_181 0 20 (dk_at dksX0_init_1 5 rfl rfl)
theorem dX0_init_32 : decode cX0_init 32 = .ok (.aload_n 0, 1) := dk_42 (dk_at dksX0_init_1 8 rfl rfl)
theorem dX0_init_33 : decode cX0_init 33 = .ok (.iconst (-1), 1) := dk_2 (dk_at dksX0_init_1 9 rfl rfl)
theorem dX0_init_34 : decode cX0_init 34 = .ok (.putfield 24, 3) := dk_181 0 24 (dk_at dksX0_init_1 10 rfl rfl)
theorem dX0_init_37 : decode cX0_init 37 = .ok (.aload_n 0, 1) := dk_42 (dk_at dksX0_init_1 13 rfl rfl)
theorem dX0_init_38 : decode cX0_init 38 = .ok (.iconst (-1), 1) := dk_2 (dk_at dksX0_init_1 14 rfl rfl)
theorem dX0_init_39 : decode cX0_init 39 = .ok (.putfield 28, 3) := dk_181 0 28 (dk_at dksX0_init_1 15 rfl rfl)
theorem dX0_init_42 : decode cX0_init 42 = .ok (.aload_n 0, 1) := dk_42 (dk_at dksX0_init_1 18 rfl rfl)
theorem dX0_init_43 : decode cX0_init 43 = .ok (.bipush 64, 2) := dk_16 64 (dk_at dksX0_init_1 19 rfl rfl)
theorem dX0_init_45 : decode cX0_init 45 = .ok (.newarray .int, 2) := dk_188_10 (dk_at dksX0_init_1 21 rfl rfl)
theorem dX0_init_47 : decode cX0_init 47 = .ok (.putfield 31, 3) := dk_181 0 31 (dk_at dksX0_init_2 0 rfl rfl)
theorem dX0_init_50 : decode cX0_init 50 = .ok (.aload_n 0, 1) := dk_42 (dk_at dksX0_init_2 3 rfl rfl)
theorem dX0_init_51 : decode cX0_init 51 = .ok (.iconst 5, 1) := dk_8 (dk_at dksX0_init_2 4 rfl rfl)
theorem dX0_init_52 : decode cX0_init 52 = .ok (.newarray .int, 2) := dk_188_10 (dk_at dksX0_init_2 5 rfl rfl)
theorem dX0_init_54 : decode cX0_init 54 = .ok (.putfield 35, 3) := dk_181 0 35 (dk_at dksX0_init_2 7 rfl rfl)
theorem dX0_init_57 : decode cX0_init 57 = .ok (.aload_n 0, 1) := dk_42 (dk_at dksX0_init_2 10 rfl rfl)
theorem dX0_init_58 : decode cX0_init 58 = .ok (.iconst 4, 1) := dk_7 (dk_at dksX0_init_2 11 rfl rfl)
theorem dX0_init_59 : decode cX0_init 59 = .ok (.anewarray 38, 3) := dk_189 0 38 (dk_at dksX0_init_2 12 rfl rfl)
theorem dX0_init_62 : decode cX0_init 62 = .ok (.dup, 1) := dk_89 (dk_at dksX0_init_2 15 rfl rfl)
theorem dX0_init_63 : decode cX0_init 63 = .ok (.iconst 0, 1) := dk_3 (dk_at dksX0_init_2 16 rfl rfl)
theorem dX0_init_64 : decode cX0_init 64 = .ok (.new 38, 3) := dk_187 0 38 (dk_at dksX0_init_2 17 rfl rfl)
theorem dX0_init_67 : decode cX0_init 67 = .ok (.dup, 1) := dk_89 (dk_at dksX0_init_2 20 rfl rfl)
theorem dX0_init_68 : decode cX0_init 68 = .ok (.aload_n 0, 1) := dk_42 (dk_at dksX0_init_2 21 rfl rfl)
theorem dX0_init_69 : decode cX0_init 69 = .ok (.invokespecial 40, 3) := dk_183 0 40 (dk_at dksX0_init_3 0 rfl rfl)
theorem dX0_init_72 : decode cX0_init 72 = .ok (.aastore, 1) := dk_83 (dk_at dksX0_init_3 3 rfl rfl)
theorem dX0_init_73 : decode cX0_init 73 = .ok (.dup, 1) := dk_89 (dk_at dksX0_init_3 4 rfl rfl)
theorem dX0_init_74 : decode cX0_init 74 = .ok (.iconst 1, 1) := dk_4 (dk_at dksX0_init_3 5 rfl rfl)
theorem dX0_init_75 : decode cX0_init 75 = .ok (.new 43, 3) := dk_187 0 43 (dk_at dksX0_init_3 6 rfl rfl)
theorem dX0_init_78 : decode cX0_init 78 = .ok (.dup, 1) := dk_89 (dk_at dksX0_init_3 9 rfl rfl)
theorem dX0_init_79 : decode cX0_init 79 = .ok (.aload_n 0, 1) := dk_42 (dk_at dksX0_init_3 10 rfl rfl)
theorem dX0_init_80 : decode cX0_init 80 = .ok (.invokespecial 45, 3) := dk_183 0 45 (dk_at dksX0_init_3 11 rfl rfl)
theorem dX0_init_83 : decode cX0_init 83 = .ok (.aastore, 1) := dk_83 (dk_at dksX0_init_3 14 rfl rfl)
theorem dX0_init_84 : decode cX0_init 84 = .ok (.dup, 1) := dk_89 (dk_at dksX0_init_3 15 rfl rfl)
theorem dX0_init_85 : decode cX0_init 85 = .ok (.iconst 2, 1) := dk_5 (dk_at dksX0_init_3 16 rfl rfl)
theorem dX0_init_86 : decode cX0_init 86 = .ok (.new 46, 3) := dk_187 0 46 (dk_at dksX0_init_3 17 rfl rfl)
theorem dX0_init_89 : decode cX0_init 89 = .ok (.dup, 1) := dk_89 (dk_at dksX0_init_3 20 rfl rfl)
theorem dX0_init_90 : decode cX0_init 90 = .ok (.aload_n 0, 1) := dk_42 (dk_at dksX0_init_3 21 rfl rfl)
theorem dX0_init_91 : decode cX0_init 91 = .ok (.invokespecial 48, 3) := dk_183 0 48 (dk_at dksX0_init_4 0 rfl rfl)
theorem dX0_init_94 : decode cX0_init 94 = .ok (.aastore, 1) := dk_83 (dk_at dksX0_init_4 3 rfl rfl)
theorem dX0_init_95 : decode cX0_init 95 = .ok (.dup, 1) := dk_89 (dk_at dksX0_init_4 4 rfl rfl)
theorem dX0_init_96 : decode cX0_init 96 = .ok (.iconst 3, 1) := dk_6 (dk_at dksX0_init_4 5 rfl rfl)
theorem dX0_init_97 : decode cX0_init 97 = .ok (.new 49, 3) := dk_187 0 49 (dk_at dksX0_init_4 6 rfl rfl)
theorem dX0_init_100 : decode cX0_init 100 = .ok (.dup, 1) := dk_89 (dk_at dksX0_init_4 9 rfl rfl)
theorem dX0_init_101 : decode cX0_init 101 = .ok (.aload_n 0, 1) := dk_42 (dk_at dksX0_init_4 10 rfl rfl)
theorem dX0_init_102 : decode cX0_init 102 = .ok (.invokespecial 51, 3) := dk_183 0 51 (dk_at dksX0_init_4 11 rfl rfl)
theorem dX0_init_105 : decode cX0_init 105 = .ok (.aastore, 1) := dk_83 (dk_at dksX0_init_4 14 rfl rfl)
theorem dX0_init_106 : decode cX0_init 106 = .ok (.putfield 52, 3) := dk_181 0 52 (dk_at dksX0_init_4 15 rfl rfl)
theorem dX0_init_109 : decode cX0_init 109 = .ok (.aload_n 0, 1) := dk_42 (dk_at dksX0_init_4 18 rfl rfl)
theorem dX0_init_110 : decode cX0_init 110 = .ok (.iconst 5, 1) := dk_8 (dk_at dksX0_init_4 19 rfl rfl)
theorem dX0_init_111 : decode cX0_init 111 = .ok (.anewarray 56, 3) := dk_189 0 56 (dk_at dksX0_init_4 20 rfl rfl)
theorem dX0_init_114 : decode cX0_init 114 = .ok (.putfield 58, 3) := dk_181 0 58 (dk_at dksX0_init_5 0 rfl rfl)
theorem dX0_init_117 : decode cX0_init 117 = .ok (.aload_n 0, 1) := dk_42 (dk_at dksX0_init_5 3 rfl rfl)
theorem dX0_init_118 : decode cX0_init 118 = .ok (.sipush 200, 3) := dk_17 0 200 (dk_at dksX0_init_5 4 rfl rfl)
theorem dX0_init_121 : decode cX0_init 121 = .ok (.newarray .int, 2) := dk_188_10 (dk_at dksX0_init_5 7 rfl rfl)
theorem dX0_init_123 : decode cX0_init 123 = .ok (.putfield 62, 3) := dk_181 0 62 (dk_at dksX0_init_5 9 rfl rfl)
theorem dX0_init_126 : decode cX0_init 126 = .ok (.aload_n 0, 1) := dk_42 (dk_at dksX0_init_5 12 rfl rfl)
theorem dX0_init_127 : decode cX0_init 127 = .ok (.iconst 3, 1) := dk_6 (dk_at dksX0_init_5 13 rfl rfl)
theorem dX0_init_128 : decode cX0_init 128 = .ok (.newarray .int, 2) := dk_188_10 (dk_at dksX0_init_5 14 rfl rfl)
theorem dX0_init_130 : decode cX0_init 130 = .ok (.putfield 65, 3) := dk_181 0 65 (dk_at dksX0_init_5 16 rfl rfl)
theorem dX0_init_133 : decode cX0_init 133 = .ok (.aload_n 0, 1) := dk_42 (dk_at dksX0_init_5 19 rfl rfl)
theorem dX0_init_134 : decode cX0_init 134 = .ok (.iconst 3, 1) := dk_6 (dk_at dksX0_init_5 20 rfl rfl)
theorem dX0_init_135 : decode cX0_init 135 = .ok (.newarray .int, 2) := dk_188_10 (dk_at dksX0_init_5 21 rfl rfl)
theorem dX0_init_137 : decode cX0_init 137 = .ok (.putfield 68, 3) := dk_181 0 68 (dk_at dksX0_init_6 0 rfl rfl)
theorem dX0_init_140 : decode cX0_init 140 = .ok (.aload_n 0, 1) := dk_42 (dk_at dksX0_init_6 3 rfl rfl)
theorem dX0_init_141 : decode cX0_init 141 = .ok (.iconst 3, 1) := dk_6 (dk_at dksX0_init_6 4 rfl rfl)
theorem dX0_init_142 : decode cX0_init 142 = .ok (.newarray .boolean, 2) := dk_188_4 (dk_at dksX0_init_6 5 rfl rfl)
theorem dX0_init_144 : decode cX0_init 144 = .ok (.putfield 71, 3) := dk_181 0 71 (dk_at dksX0_init_6 7 rfl rfl)
theorem dX0_init_147 : decode cX0_init 147 = .ok (.aload_n 0, 1) := dk_42 (dk_at dksX0_init_6 10 rfl rfl)
theorem dX0_init_148 : decode cX0_init 148 = .ok (.sipush 3000, 3) := dk_17 11 184 (dk_at dksX0_init_6 11 rfl rfl)
theorem dX0_init_151 : decode cX0_init 151 = .ok (.newarray .int, 2) := dk_188_10 (dk_at dksX0_init_6 14 rfl rfl)
theorem dX0_init_153 : decode cX0_init 153 = .ok (.putfield 75, 3) := dk_181 0 75 (dk_at dksX0_init_6 16 rfl rfl)
theorem dX0_init_156 : decode cX0_init 156 = .ok (.aload_n 0, 1) := dk_42 (dk_at dksX0_init_6 19 rfl rfl)
theorem dX0_init_157 : decode cX0_init 157 = .ok (.sipush 3000, 3) := dk_17 11 184 (dk_at dksX0_init_6 20 rfl rfl)
theorem dX0_init_160 : decode cX0_init 160 = .ok (.newarray .int, 2) := dk_188_10 (dk_at dksX0_init_7 0 rfl rfl)
theorem dX0_init_162 : decode cX0_init 162 = .ok (.putfield 78, 3) := dk_181 0 78 (dk_at dksX0_init_7 2 rfl rfl)
theorem dX0_init_165 : decode cX0_init 165 = .ok (.aload_n 0, 1) := dk_42 (dk_at dksX0_init_7 5 rfl rfl)
theorem dX0_init_166 : decode cX0_init 166 = .ok (.sipush 3000, 3) := dk_17 11 184 (dk_at dksX0_init_7 6 rfl rfl)
theorem dX0_init_169 : decode cX0_init 169 = .ok (.newarray .int, 2) := dk_188_10 (dk_at dksX0_init_7 9 rfl rfl)
theorem dX0_init_171 : decode cX0_init 171 = .ok (.putfield 81, 3) := dk_181 0 81 (dk_at dksX0_init_7 11 rfl rfl)
theorem dX0_init_174 : decode cX0_init 174 = .ok (.aload_n 0, 1) := dk_42 (dk_at dksX0_init_7 14 rfl rfl)
theorem dX0_init_175 : decode cX0_init 175 = .ok (.sipush 3000, 3) := dk_17 11 184 (dk_at dksX0_init_7 15 rfl rfl)
theorem dX0_init_178 : decode cX0_init 178 = .ok (.newarray .int, 2) := dk_188_10 (dk_at dksX0_init_7 18 rfl rfl)
theorem dX0_init_180 : decode cX0_init 180 = .ok (.putfield 84, 3) := dk_181 0 84 (dk_at dksX0_init_7 20 rfl rfl)
theorem dX0_init_183 : decode cX0_init 183 = .ok (.aload_n 0, 1) := dk_42 (dk_at dksX0_init_7 23 rfl rfl)
theorem dX0_init_184 : decode cX0_init 184 = .ok (.iconst 5, 1) := dk_8 (dk_at dksX0_init_8 0 rfl rfl)
theorem dX0_init_185 : decode cX0_init 185 = .ok (.newarray .int, 2) := dk_188_10 (dk_at dksX0_init_8 1 rfl rfl)
theorem dX0_init_187 : decode cX0_init 187 = .ok (.putfield 87, 3) := dk_181 0 87 (dk_at dksX0_init_8 3 rfl rfl)
theorem dX0_init_190 : decode cX0_init 190 = .ok (.aload_n 0, 1) := dk_42 (dk_at dksX0_init_8 6 rfl rfl)
theorem dX0_init_191 : decode cX0_init 191 = .ok (.iconst 5, 1) := dk_8 (dk_at dksX0_init_8 7 rfl rfl)
theorem dX0_init_192 : decode cX0_init 192 = .ok (.newarray .int, 2) := dk_188_10 (dk_at dksX0_init_8 8 rfl rfl)
theorem dX0_init_194 : decode cX0_init 194 = .ok (.putfield 90, 3) := dk_181 0 90 (dk_at dksX0_init_8 10 rfl rfl)
theorem dX0_init_197 : decode cX0_init 197 = .ok (.aload_n 0, 1) := dk_42 (dk_at dksX0_init_8 13 rfl rfl)
theorem dX0_init_198 : decode cX0_init 198 = .ok (.bipush 19, 2) := dk_16 19 (dk_at dksX0_init_8 14 rfl rfl)
theorem dX0_init_200 : decode cX0_init 200 = .ok (.newarray .int, 2) := dk_188_10 (dk_at dksX0_init_8 16 rfl rfl)
theorem dX0_init_202 : decode cX0_init 202 = .ok (.putfield 93, 3) := dk_181 0 93 (dk_at dksX0_init_8 18 rfl rfl)
theorem dX0_init_205 : decode cX0_init 205 = .ok (.aload_n 0, 1) := dk_42 (dk_at dksX0_init_8 21 rfl rfl)
theorem dX0_init_206 : decode cX0_init 206 = .ok (.new 96, 3) := dk_187 0 96 (dk_at dksX0_init_9 0 rfl rfl)
theorem dX0_init_209 : decode cX0_init 209 = .ok (.dup, 1) := dk_89 (dk_at dksX0_init_9 3 rfl rfl)
theorem dX0_init_210 : decode cX0_init 210 = .ok (.invokespecial 98, 3) := dk_183 0 98 (dk_at dksX0_init_9 4 rfl rfl)
theorem dX0_init_213 : decode cX0_init 213 = .ok (.putfield 99, 3) := dk_181 0 99 (dk_at dksX0_init_9 7 rfl rfl)
theorem dX0_init_216 : decode cX0_init 216 = .ok (.aload_n 0, 1) := dk_42 (dk_at dksX0_init_9 10 rfl rfl)
theorem dX0_init_217 : decode cX0_init 217 = .ok (.new 103, 3) := dk_187 0 103 (dk_at dksX0_init_9 11 rfl rfl)
theorem dX0_init_220 : decode cX0_init 220 = .ok (.dup, 1) := dk_89 (dk_at dksX0_init_9 14 rfl rfl)
theorem dX0_init_221 : decode cX0_init 221 = .ok (.invokespecial 105, 3) := dk_183 0 105 (dk_at dksX0_init_9 15 rfl rfl)
theorem dX0_init_224 : decode cX0_init 224 = .ok (.putfield 106, 3) := dk_181 0 106 (dk_at dksX0_init_9 18 rfl rfl)
theorem dX0_init_227 : decode cX0_init 227 = .ok (.iconst 0, 1) := dk_3 (dk_at dksX0_init_9 21 rfl rfl)
theorem dX0_init_228 : decode cX0_init 228 = .ok (.istore_n 1, 1) := dk_60 (dk_at dksX0_init_9 22 rfl rfl)
theorem dX0_init_229 : decode cX0_init 229 = .ok (.iload_n 1, 1) := dk_27 (dk_at dksX0_init_9 23 rfl rfl)
theorem dX0_init_230 : decode cX0_init 230 = .ok (.iconst 5, 1) := dk_8 (dk_at dksX0_init_10 0 rfl rfl)
theorem dX0_init_231 : decode cX0_init 231 = .ok (.if_icmp .ge 22, 3) := dk_162 0 22 (dk_at dksX0_init_10 1 rfl rfl)
theorem dX0_init_234 : decode cX0_init 234 = .ok (.aload_n 0, 1) := dk_42 (dk_at dksX0_init_10 4 rfl rfl)
theorem dX0_init_235 : decode cX0_init 235 = .ok (.getfield 58, 3) := dk_180 0 58 (dk_at dksX0_init_10 5 rfl rfl)
theorem dX0_init_238 : decode cX0_init 238 = .ok (.iload_n 1, 1) := dk_27 (dk_at dksX0_init_10 8 rfl rfl)
theorem dX0_init_239 : decode cX0_init 239 = .ok (.new 56, 3) := dk_187 0 56 (dk_at dksX0_init_10 9 rfl rfl)
theorem dX0_init_242 : decode cX0_init 242 = .ok (.dup, 1) := dk_89 (dk_at dksX0_init_10 12 rfl rfl)
theorem dX0_init_243 : decode cX0_init 243 = .ok (.invokespecial 109, 3) := dk_183 0 109 (dk_at dksX0_init_10 13 rfl rfl)
theorem dX0_init_246 : decode cX0_init 246 = .ok (.aastore, 1) := dk_83 (dk_at dksX0_init_10 16 rfl rfl)
theorem dX0_init_247 : decode cX0_init 247 = .ok (.iinc 1 1, 3) := dk_132 1 1 (dk_at dksX0_init_10 17 rfl rfl)
theorem dX0_init_250 : decode cX0_init 250 = .ok (.goto (-21), 3) := dk_167 255 235 (dk_at dksX0_init_10 20 rfl rfl)
theorem dX0_init_253 : decode cX0_init 253 = .ok (.aload_n 0, 1) := dk_42 (dk_at dksX0_init_10 23 rfl rfl)
theorem dX0_init_254 : decode cX0_init 254 = .ok (.invokevirtual 110, 3) := dk_182 0 110 (dk_at dksX0_init_11 0 rfl rfl)
theorem dX0_init_257 : decode cX0_init 257 = .ok (.return_, 1) := dk_177 (dk_at dksX0_init_11 3 rfl rfl)
abbrev cX0_lays : ByteArray := prog_1_method_41_code
def yX0_lays : MethodName := ⟨RX0, "lays", "()V"⟩
def dkwX0_lays_1 : List UInt8 := [42, 180, 0, 90, 27, 42, 27, 182, 0, 178, 180, 0, 191, 79, 132, 1, 1, 167, 255, 217, 177]
abbrev dktX0_lays_1 : List UInt8 := dkwX0_lays_1 ++ []
def dkwX0_lays_0 : List UInt8 := [3, 60, 27, 42, 182, 0, 159, 162, 0, 37, 42, 180, 0, 87, 27, 42, 27, 182, 0, 178, 180, 0, 188, 79]
abbrev dktX0_lays_0 : List UInt8 := dkwX0_lays_0 ++ dktX0_lays_1
theorem dksX0_lays_0 : cX0_lays.data.toList.drop 0 = dktX0_lays_0 := by decide +kernel
theorem dksX0_lays_1 : cX0_lays.data.toList.drop 24 = dktX0_lays_1 := dk_seg dksX0_lays_0 24 rfl rfl
theorem dX0_lays_0 : decode cX0_lays 0 = .ok (.iconst 0, 1) := dk_3 (dk_at dksX0_lays_0 0 rfl rfl)
theorem dX0_lays_1 : decode cX0_lays 1 = .ok (.istore_n 1, 1) := dk_60 (dk_at dksX0_lays_0 1 rfl rfl)
theorem dX0_lays_2 : decode cX0_lays 2 = .ok (.iload_n 1, 1) := dk_27 (dk_at dksX0_lays_0 2 rfl rfl)
theorem dX0_lays_3 : decode cX0_lays 3 = .ok (.aload_n 0, 1) := dk_42 (dk_at dksX0_lays_0 3 rfl rfl)
theorem dX0_lays_4 : decode cX0_lays 4 = .ok (.invokevirtual 159, 3) := dk_182 0 159 (dk_at dksX0_lays_0 4 rfl rfl)
theorem dX0_lays_7 : decode cX0_lays 7 = .ok (.if_icmp .ge 37, 3) := dk_162 0 37 (dk_at dksX0_lays_0 7 rfl rfl)
theorem dX0_lays_10 : decode cX0_lays 10 = .ok (.aload_n 0, 1) := dk_42 (dk_at dksX0_lays_0 10 rfl rfl)
theorem dX0_lays_11 : decode cX0_lays 11 = .ok (.getfield 87, 3) := dk_180 0 87 (dk_at dksX0_lays_0 11 rfl rfl)
theorem dX0_lays_14 : decode cX0_lays 14 = .ok (.iload_n 1, 1) := dk_27 (dk_at dksX0_lays_0 14 rfl rfl)
theorem dX0_lays_15 : decode cX0_lays 15 = .ok (.aload_n 0, 1) := dk_42 (dk_at dksX0_lays_0 15 rfl rfl)
theorem dX0_lays_16 : decode cX0_lays 16 = .ok (.iload_n 1, 1) := dk_27 (dk_at dksX0_lays_0 16 rfl rfl)
theorem dX0_lays_17 : decode cX0_lays 17 = .ok (.invokevirtual 178, 3) := dk_182 0 178 (dk_at dksX0_lays_0 17 rfl rfl)
theorem dX0_lays_20 : decode cX0_lays 20 = .ok (.getfield 188, 3) := dk_180 0 188 (dk_at dksX0_lays_0 20 rfl rfl)
theorem dX0_lays_23 : decode cX0_lays 23 = .ok (.iastore, 1) := dk_79 (dk_at dksX0_lays_0 23 rfl rfl)
theorem dX0_lays_24 : decode cX0_lays 24 = .ok (.aload_n 0, 1) := dk_42 (dk_at dksX0_lays_1 0 rfl rfl)
theorem dX0_lays_25 : decode cX0_lays 25 = .ok (.getfield 90, 3) := dk_180 0 90 (dk_at dksX0_lays_1 1 rfl rfl)
theorem dX0_lays_28 : decode cX0_lays 28 = .ok (.iload_n 1, 1) := dk_27 (dk_at dksX0_lays_1 4 rfl rfl)
theorem dX0_lays_29 : decode cX0_lays 29 = .ok (.aload_n 0, 1) := dk_42 (dk_at dksX0_lays_1 5 rfl rfl)
theorem dX0_lays_30 : decode cX0_lays 30 = .ok (.iload_n 1, 1) := dk_27 (dk_at dksX0_lays_1 6 rfl rfl)
theorem dX0_lays_31 : decode cX0_lays 31 = .ok (.invokevirtual 178, 3) := dk_182 0 178 (dk_at dksX0_lays_1 7 rfl rfl)
theorem dX0_lays_34 : decode cX0_lays 34 = .ok (.getfield 191, 3) := dk_180 0 191 (dk_at dksX0_lays_1 10 rfl rfl)
theorem dX0_lays_37 : decode cX0_lays 37 = .ok (.iastore, 1) := dk_79 (dk_at dksX0_lays_1 13 rfl rfl)
theorem dX0_lays_38 : decode cX0_lays 38 = .ok (.iinc 1 1, 3) := dk_132 1 1 (dk_at dksX0_lays_1 14 rfl rfl)
theorem dX0_lays_41 : decode cX0_lays 41 = .ok (.goto (-39), 3) := dk_167 255 217 (dk_at dksX0_lays_1 17 rfl rfl)
theorem dX0_lays_44 : decode cX0_lays 44 = .ok (.return_, 1) := dk_177 (dk_at dksX0_lays_1 20 rfl rfl)
abbrev cX0_tasks : ByteArray := prog_1_method_8_code
def yX0_tasks : MethodName := ⟨RX0, "tasks", "()I"⟩
def dkwX0_tasks_0 : List UInt8 := [42, 180, 0, 10, 180, 0, 143, 182, 0, 147, 172]
abbrev dktX0_tasks_0 : List UInt8 := dkwX0_tasks_0 ++ []
theorem dksX0_tasks_0 : cX0_tasks.data.toList.drop 0 = dktX0_tasks_0 := by decide +kernel
theorem dX0_tasks_0 : decode cX0_tasks 0 = .ok (.aload_n 0, 1) := dk_42 (dk_at dksX0_tasks_0 0 rfl rfl)
theorem dX0_tasks_1 : decode cX0_tasks 1 = .ok (.getfield 10, 3) := dk_180 0 10 (dk_at dksX0_tasks_0 1 rfl rfl)
theorem dX0_tasks_4 : decode cX0_tasks 4 = .ok (.getfield 143, 3) := dk_180 0 143 (dk_at dksX0_tasks_0 4 rfl rfl)
theorem dX0_tasks_7 : decode cX0_tasks 7 = .ok (.invokevirtual 147, 3) := dk_182 0 147 (dk_at dksX0_tasks_0 7 rfl rfl)
theorem dX0_tasks_10 : decode cX0_tasks 10 = .ok (.ireturn, 1) := dk_172 (dk_at dksX0_tasks_0 10 rfl rfl)
abbrev cX0_taskOf : ByteArray := prog_1_method_9_code
def yX0_taskOf : MethodName := ⟨RX0, "taskOf", "(I)LWatchStack$Task;"⟩
def dkwX0_taskOf_0 : List UInt8 := [42, 180, 0, 10, 180, 0, 143, 27, 182, 0, 153, 192, 0, 157, 176]
abbrev dktX0_taskOf_0 : List UInt8 := dkwX0_taskOf_0 ++ []
theorem dksX0_taskOf_0 : cX0_taskOf.data.toList.drop 0 = dktX0_taskOf_0 := by decide +kernel
theorem dX0_taskOf_0 : decode cX0_taskOf 0 = .ok (.aload_n 0, 1) := dk_42 (dk_at dksX0_taskOf_0 0 rfl rfl)
theorem dX0_taskOf_1 : decode cX0_taskOf 1 = .ok (.getfield 10, 3) := dk_180 0 10 (dk_at dksX0_taskOf_0 1 rfl rfl)
theorem dX0_taskOf_4 : decode cX0_taskOf 4 = .ok (.getfield 143, 3) := dk_180 0 143 (dk_at dksX0_taskOf_0 4 rfl rfl)
theorem dX0_taskOf_7 : decode cX0_taskOf 7 = .ok (.iload_n 1, 1) := dk_27 (dk_at dksX0_taskOf_0 7 rfl rfl)
theorem dX0_taskOf_8 : decode cX0_taskOf 8 = .ok (.invokevirtual 153, 3) := dk_182 0 153 (dk_at dksX0_taskOf_0 8 rfl rfl)
theorem dX0_taskOf_11 : decode cX0_taskOf 11 = .ok (.checkcast 157, 3) := dk_192 0 157 (dk_at dksX0_taskOf_0 11 rfl rfl)
theorem dX0_taskOf_14 : decode cX0_taskOf 14 = .ok (.areturn, 1) := dk_176 (dk_at dksX0_taskOf_0 14 rfl rfl)
abbrev cX0_feed : ByteArray := prog_1_method_4_code
def yX0_feed : MethodName := ⟨RX0, "feed", "(IIIII)I"⟩
def dkwX0_feed_4 : List UInt8 := [16, 20, 96, 181, 0, 113, 42, 180, 0, 113, 172]
abbrev dktX0_feed_4 : List UInt8 := dkwX0_feed_4 ++ []
def dkwX0_feed_3 : List UInt8 := [16, 24, 16, 8, 21, 7, 7, 112, 104, 100, 122, 145, 84, 132, 7, 1, 167, 255, 215, 42, 89, 180, 0, 113]
abbrev dktX0_feed_3 : List UInt8 := dkwX0_feed_3 ++ dktX0_feed_4
def dkwX0_feed_2 : List UInt8 := [16, 20, 162, 0, 40, 42, 180, 0, 20, 42, 180, 0, 113, 21, 7, 96, 25, 6, 21, 7, 7, 108, 46]
abbrev dktX0_feed_2 : List UInt8 := dkwX0_feed_2 ++ dktX0_feed_3
def dkwX0_feed_1 : List UInt8 := [28, 79, 89, 5, 29, 79, 89, 6, 21, 4, 79, 89, 7, 21, 5, 79, 58, 6, 3, 54, 7, 21, 7]
abbrev dktX0_feed_1 : List UInt8 := dkwX0_feed_1 ++ dktX0_feed_2
def dkwX0_feed_0 : List UInt8 := [42, 180, 0, 113, 16, 20, 96, 17, 3, 232, 164, 0, 5, 2, 172, 8, 188, 10, 89, 3, 27, 79, 89, 4]
abbrev dktX0_feed_0 : List UInt8 := dkwX0_feed_0 ++ dktX0_feed_1
theorem dksX0_feed_0 : cX0_feed.data.toList.drop 0 = dktX0_feed_0 := by decide +kernel
theorem dksX0_feed_1 : cX0_feed.data.toList.drop 24 = dktX0_feed_1 := dk_seg dksX0_feed_0 24 rfl rfl
theorem dksX0_feed_2 : cX0_feed.data.toList.drop 47 = dktX0_feed_2 := dk_seg dksX0_feed_1 23 rfl rfl
theorem dksX0_feed_3 : cX0_feed.data.toList.drop 70 = dktX0_feed_3 := dk_seg dksX0_feed_2 23 rfl rfl
theorem dksX0_feed_4 : cX0_feed.data.toList.drop 94 = dktX0_feed_4 := dk_seg dksX0_feed_3 24 rfl rfl
theorem dX0_feed_0 : decode cX0_feed 0 = .ok (.aload_n 0, 1) := dk_42 (dk_at dksX0_feed_0 0 rfl rfl)
theorem dX0_feed_1 : decode cX0_feed 1 = .ok (.getfield 113, 3) := dk_180 0 113 (dk_at dksX0_feed_0 1 rfl rfl)
theorem dX0_feed_4 : decode cX0_feed 4 = .ok (.bipush 20, 2) := dk_16 20 (dk_at dksX0_feed_0 4 rfl rfl)
theorem dX0_feed_6 : decode cX0_feed 6 = .ok (.iadd, 1) := dk_96 (dk_at dksX0_feed_0 6 rfl rfl)
theorem dX0_feed_7 : decode cX0_feed 7 = .ok (.sipush 1000, 3) := dk_17 3 232 (dk_at dksX0_feed_0 7 rfl rfl)
theorem dX0_feed_10 : decode cX0_feed 10 = .ok (.if_icmp .le 5, 3) := dk_164 0 5 (dk_at dksX0_feed_0 10 rfl rfl)
theorem dX0_feed_13 : decode cX0_feed 13 = .ok (.iconst (-1), 1) := dk_2 (dk_at dksX0_feed_0 13 rfl rfl)
theorem dX0_feed_14 : decode cX0_feed 14 = .ok (.ireturn, 1) := dk_172 (dk_at dksX0_feed_0 14 rfl rfl)
theorem dX0_feed_15 : decode cX0_feed 15 = .ok (.iconst 5, 1) := dk_8 (dk_at dksX0_feed_0 15 rfl rfl)
theorem dX0_feed_16 : decode cX0_feed 16 = .ok (.newarray .int, 2) := dk_188_10 (dk_at dksX0_feed_0 16 rfl rfl)
theorem dX0_feed_18 : decode cX0_feed 18 = .ok (.dup, 1) := dk_89 (dk_at dksX0_feed_0 18 rfl rfl)
theorem dX0_feed_19 : decode cX0_feed 19 = .ok (.iconst 0, 1) := dk_3 (dk_at dksX0_feed_0 19 rfl rfl)
theorem dX0_feed_20 : decode cX0_feed 20 = .ok (.iload_n 1, 1) := dk_27 (dk_at dksX0_feed_0 20 rfl rfl)
theorem dX0_feed_21 : decode cX0_feed 21 = .ok (.iastore, 1) := dk_79 (dk_at dksX0_feed_0 21 rfl rfl)
theorem dX0_feed_22 : decode cX0_feed 22 = .ok (.dup, 1) := dk_89 (dk_at dksX0_feed_0 22 rfl rfl)
theorem dX0_feed_23 : decode cX0_feed 23 = .ok (.iconst 1, 1) := dk_4 (dk_at dksX0_feed_0 23 rfl rfl)
theorem dX0_feed_24 : decode cX0_feed 24 = .ok (.iload_n 2, 1) := dk_28 (dk_at dksX0_feed_1 0 rfl rfl)
theorem dX0_feed_25 : decode cX0_feed 25 = .ok (.iastore, 1) := dk_79 (dk_at dksX0_feed_1 1 rfl rfl)
theorem dX0_feed_26 : decode cX0_feed 26 = .ok (.dup, 1) := dk_89 (dk_at dksX0_feed_1 2 rfl rfl)
theorem dX0_feed_27 : decode cX0_feed 27 = .ok (.iconst 2, 1) := dk_5 (dk_at dksX0_feed_1 3 rfl rfl)
theorem dX0_feed_28 : decode cX0_feed 28 = .ok (.iload_n 3, 1) := dk_29 (dk_at dksX0_feed_1 4 rfl rfl)
theorem dX0_feed_29 : decode cX0_feed 29 = .ok (.iastore, 1) := dk_79 (dk_at dksX0_feed_1 5 rfl rfl)
theorem dX0_feed_30 : decode cX0_feed 30 = .ok (.dup, 1) := dk_89 (dk_at dksX0_feed_1 6 rfl rfl)
theorem dX0_feed_31 : decode cX0_feed 31 = .ok (.iconst 3, 1) := dk_6 (dk_at dksX0_feed_1 7 rfl rfl)
theorem dX0_feed_32 : decode cX0_feed 32 = .ok (.iload 4, 2) := dk_21 4 (dk_at dksX0_feed_1 8 rfl rfl)
theorem dX0_feed_34 : decode cX0_feed 34 = .ok (.iastore, 1) := dk_79 (dk_at dksX0_feed_1 10 rfl rfl)
theorem dX0_feed_35 : decode cX0_feed 35 = .ok (.dup, 1) := dk_89 (dk_at dksX0_feed_1 11 rfl rfl)
theorem dX0_feed_36 : decode cX0_feed 36 = .ok (.iconst 4, 1) := dk_7 (dk_at dksX0_feed_1 12 rfl rfl)
theorem dX0_feed_37 : decode cX0_feed 37 = .ok (.iload 5, 2) := dk_21 5 (dk_at dksX0_feed_1 13 rfl rfl)
theorem dX0_feed_39 : decode cX0_feed 39 = .ok (.iastore, 1) := dk_79 (dk_at dksX0_feed_1 15 rfl rfl)
theorem dX0_feed_40 : decode cX0_feed 40 = .ok (.astore 6, 2) := dk_58 6 (dk_at dksX0_feed_1 16 rfl rfl)
theorem dX0_feed_42 : decode cX0_feed 42 = .ok (.iconst 0, 1) := dk_3 (dk_at dksX0_feed_1 18 rfl rfl)
theorem dX0_feed_43 : decode cX0_feed 43 = .ok (.istore 7, 2) := dk_54 7 (dk_at dksX0_feed_1 19 rfl rfl)
theorem dX0_feed_45 : decode cX0_feed 45 = .ok (.iload 7, 2) := dk_21 7 (dk_at dksX0_feed_1 21 rfl rfl)
theorem dX0_feed_47 : decode cX0_feed 47 = .ok (.bipush 20, 2) := dk_16 20 (dk_at dksX0_feed_2 0 rfl rfl)
theorem dX0_feed_49 : decode cX0_feed 49 = .ok (.if_icmp .ge 40, 3) := dk_162 0 40 (dk_at dksX0_feed_2 2 rfl rfl)
theorem dX0_feed_52 : decode cX0_feed 52 = .ok (.aload_n 0, 1) := dk_42 (dk_at dksX0_feed_2 5 rfl rfl)
theorem dX0_feed_53 : decode cX0_feed 53 = .ok (.getfield 20, 3) := dk_180 0 20 (dk_at dksX0_feed_2 6 rfl rfl)
theorem dX0_feed_56 : decode cX0_feed 56 = .ok (.aload_n 0, 1) := dk_42 (dk_at dksX0_feed_2 9 rfl rfl)
theorem dX0_feed_57 : decode cX0_feed 57 = .ok (.getfield 113, 3) := dk_180 0 113 (dk_at dksX0_feed_2 10 rfl rfl)
theorem dX0_feed_60 : decode cX0_feed 60 = .ok (.iload 7, 2) := dk_21 7 (dk_at dksX0_feed_2 13 rfl rfl)
theorem dX0_feed_62 : decode cX0_feed 62 = .ok (.iadd, 1) := dk_96 (dk_at dksX0_feed_2 15 rfl rfl)
theorem dX0_feed_63 : decode cX0_feed 63 = .ok (.aload 6, 2) := dk_25 6 (dk_at dksX0_feed_2 16 rfl rfl)
theorem dX0_feed_65 : decode cX0_feed 65 = .ok (.iload 7, 2) := dk_21 7 (dk_at dksX0_feed_2 18 rfl rfl)
theorem dX0_feed_67 : decode cX0_feed 67 = .ok (.iconst 4, 1) := dk_7 (dk_at dksX0_feed_2 20 rfl rfl)
theorem dX0_feed_68 : decode cX0_feed 68 = .ok (.idiv, 1) := dk_108 (dk_at dksX0_feed_2 21 rfl rfl)
theorem dX0_feed_69 : decode cX0_feed 69 = .ok (.iaload, 1) := dk_46 (dk_at dksX0_feed_2 22 rfl rfl)
theorem dX0_feed_70 : decode cX0_feed 70 = .ok (.bipush 24, 2) := dk_16 24 (dk_at dksX0_feed_3 0 rfl rfl)
theorem dX0_feed_72 : decode cX0_feed 72 = .ok (.bipush 8, 2) := dk_16 8 (dk_at dksX0_feed_3 2 rfl rfl)
theorem dX0_feed_74 : decode cX0_feed 74 = .ok (.iload 7, 2) := dk_21 7 (dk_at dksX0_feed_3 4 rfl rfl)
theorem dX0_feed_76 : decode cX0_feed 76 = .ok (.iconst 4, 1) := dk_7 (dk_at dksX0_feed_3 6 rfl rfl)
theorem dX0_feed_77 : decode cX0_feed 77 = .ok (.irem, 1) := dk_112 (dk_at dksX0_feed_3 7 rfl rfl)
theorem dX0_feed_78 : decode cX0_feed 78 = .ok (.imul, 1) := dk_104 (dk_at dksX0_feed_3 8 rfl rfl)
theorem dX0_feed_79 : decode cX0_feed 79 = .ok (.isub, 1) := dk_100 (dk_at dksX0_feed_3 9 rfl rfl)
theorem dX0_feed_80 : decode cX0_feed 80 = .ok (.ishr, 1) := dk_122 (dk_at dksX0_feed_3 10 rfl rfl)
theorem dX0_feed_81 : decode cX0_feed 81 = .ok (.i2b, 1) := dk_145 (dk_at dksX0_feed_3 11 rfl rfl)
theorem dX0_feed_82 : decode cX0_feed 82 = .ok (.bastore, 1) := dk_84 (dk_at dksX0_feed_3 12 rfl rfl)
theorem dX0_feed_83 : decode cX0_feed 83 = .ok (.iinc 7 1, 3) := dk_132 7 1 (dk_at dksX0_feed_3 13 rfl rfl)
theorem dX0_feed_86 : decode cX0_feed 86 = .ok (.goto (-41), 3) := dk_167 255 215 (dk_at dksX0_feed_3 16 rfl rfl)
theorem dX0_feed_89 : decode cX0_feed 89 = .ok (.aload_n 0, 1) := dk_42 (dk_at dksX0_feed_3 19 rfl rfl)
theorem dX0_feed_90 : decode cX0_feed 90 = .ok (.dup, 1) := dk_89 (dk_at dksX0_feed_3 20 rfl rfl)
theorem dX0_feed_91 : decode cX0_feed 91 = .ok (.getfield 113, 3) := dk_180 0 113 (dk_at dksX0_feed_3 21 rfl rfl)
theorem dX0_feed_94 : decode cX0_feed 94 = .ok (.bipush 20, 2) := dk_16 20 (dk_at dksX0_feed_4 0 rfl rfl)
theorem dX0_feed_96 : decode cX0_feed 96 = .ok (.iadd, 1) := dk_96 (dk_at dksX0_feed_4 2 rfl rfl)
theorem dX0_feed_97 : decode cX0_feed 97 = .ok (.putfield 113, 3) := dk_181 0 113 (dk_at dksX0_feed_4 3 rfl rfl)
theorem dX0_feed_100 : decode cX0_feed 100 = .ok (.aload_n 0, 1) := dk_42 (dk_at dksX0_feed_4 6 rfl rfl)
theorem dX0_feed_101 : decode cX0_feed 101 = .ok (.getfield 113, 3) := dk_180 0 113 (dk_at dksX0_feed_4 7 rfl rfl)
theorem dX0_feed_104 : decode cX0_feed 104 = .ok (.ireturn, 1) := dk_172 (dk_at dksX0_feed_4 10 rfl rfl)
abbrev cX0_end : ByteArray := prog_1_method_5_code
def yX0_end : MethodName := ⟨RX0, "end", "(I)I"⟩
def dkwX0_end_0 : List UInt8 := [27, 133, 9, 42, 180, 0, 113, 133, 184, 0, 116, 154, 0, 5, 2, 172, 42, 27, 181, 0, 113, 27, 172]
abbrev dktX0_end_0 : List UInt8 := dkwX0_end_0 ++ []
theorem dksX0_end_0 : cX0_end.data.toList.drop 0 = dktX0_end_0 := by decide +kernel
theorem dX0_end_0 : decode cX0_end 0 = .ok (.iload_n 1, 1) := dk_27 (dk_at dksX0_end_0 0 rfl rfl)
theorem dX0_end_1 : decode cX0_end 1 = .ok (.i2l, 1) := dk_133 (dk_at dksX0_end_0 1 rfl rfl)
theorem dX0_end_2 : decode cX0_end 2 = .ok (.lconst 0, 1) := dk_9 (dk_at dksX0_end_0 2 rfl rfl)
theorem dX0_end_3 : decode cX0_end 3 = .ok (.aload_n 0, 1) := dk_42 (dk_at dksX0_end_0 3 rfl rfl)
theorem dX0_end_4 : decode cX0_end 4 = .ok (.getfield 113, 3) := dk_180 0 113 (dk_at dksX0_end_0 4 rfl rfl)
theorem dX0_end_7 : decode cX0_end 7 = .ok (.i2l, 1) := dk_133 (dk_at dksX0_end_0 7 rfl rfl)
theorem dX0_end_8 : decode cX0_end 8 = .ok (.invokestatic 116, 3) := dk_184 0 116 (dk_at dksX0_end_0 8 rfl rfl)
theorem dX0_end_11 : decode cX0_end 11 = .ok (.ifCond .ne 5, 3) := dk_154 0 5 (dk_at dksX0_end_0 11 rfl rfl)
theorem dX0_end_14 : decode cX0_end 14 = .ok (.iconst (-1), 1) := dk_2 (dk_at dksX0_end_0 14 rfl rfl)
theorem dX0_end_15 : decode cX0_end 15 = .ok (.ireturn, 1) := dk_172 (dk_at dksX0_end_0 15 rfl rfl)
theorem dX0_end_16 : decode cX0_end 16 = .ok (.aload_n 0, 1) := dk_42 (dk_at dksX0_end_0 16 rfl rfl)
theorem dX0_end_17 : decode cX0_end 17 = .ok (.iload_n 1, 1) := dk_27 (dk_at dksX0_end_0 17 rfl rfl)
theorem dX0_end_18 : decode cX0_end 18 = .ok (.putfield 113, 3) := dk_181 0 113 (dk_at dksX0_end_0 18 rfl rfl)
theorem dX0_end_21 : decode cX0_end 21 = .ok (.iload_n 1, 1) := dk_27 (dk_at dksX0_end_0 21 rfl rfl)
theorem dX0_end_22 : decode cX0_end 22 = .ok (.ireturn, 1) := dk_172 (dk_at dksX0_end_0 22 rfl rfl)
abbrev cX0_in : ByteArray := prog_1_method_1_code
def yX0_in : MethodName := ⟨RX0, "in", "(JJJ)Z"⟩
def dkwX0_in_0 : List UInt8 := [30, 32, 148, 155, 0, 14, 30, 22, 4, 148, 157, 0, 7, 4, 167, 0, 4, 3, 172]
abbrev dktX0_in_0 : List UInt8 := dkwX0_in_0 ++ []
theorem dksX0_in_0 : cX0_in.data.toList.drop 0 = dktX0_in_0 := by decide +kernel
theorem dX0_in_0 : decode cX0_in 0 = .ok (.lload_n 0, 1) := dk_30 (dk_at dksX0_in_0 0 rfl rfl)
theorem dX0_in_1 : decode cX0_in 1 = .ok (.lload_n 2, 1) := dk_32 (dk_at dksX0_in_0 1 rfl rfl)
theorem dX0_in_2 : decode cX0_in 2 = .ok (.lcmp, 1) := dk_148 (dk_at dksX0_in_0 2 rfl rfl)
theorem dX0_in_3 : decode cX0_in 3 = .ok (.ifCond .lt 14, 3) := dk_155 0 14 (dk_at dksX0_in_0 3 rfl rfl)
theorem dX0_in_6 : decode cX0_in 6 = .ok (.lload_n 0, 1) := dk_30 (dk_at dksX0_in_0 6 rfl rfl)
theorem dX0_in_7 : decode cX0_in 7 = .ok (.lload 4, 2) := dk_22 4 (dk_at dksX0_in_0 7 rfl rfl)
theorem dX0_in_9 : decode cX0_in 9 = .ok (.lcmp, 1) := dk_148 (dk_at dksX0_in_0 9 rfl rfl)
theorem dX0_in_10 : decode cX0_in 10 = .ok (.ifCond .gt 7, 3) := dk_157 0 7 (dk_at dksX0_in_0 10 rfl rfl)
theorem dX0_in_13 : decode cX0_in 13 = .ok (.iconst 1, 1) := dk_4 (dk_at dksX0_in_0 13 rfl rfl)
theorem dX0_in_14 : decode cX0_in 14 = .ok (.goto 4, 3) := dk_167 0 4 (dk_at dksX0_in_0 14 rfl rfl)
theorem dX0_in_17 : decode cX0_in 17 = .ok (.iconst 0, 1) := dk_3 (dk_at dksX0_in_0 17 rfl rfl)
theorem dX0_in_18 : decode cX0_in 18 = .ok (.ireturn, 1) := dk_172 (dk_at dksX0_in_0 18 rfl rfl)
abbrev cX0_board : ByteArray := prog_1_method_6_code
def yX0_board : MethodName := ⟨RX0, "board", "()I"⟩
def dkwX0_board_3 : List UInt8 := [61, 42, 3, 181, 0, 113, 28, 172, 78, 42, 3, 181, 0, 113, 45, 191]
abbrev dktX0_board_3 : List UInt8 := dkwX0_board_3 ++ []
def dkwX0_board_2 : List UInt8 := [181, 0, 113, 28, 172, 76, 42, 43, 180, 0, 137, 181, 0, 129, 42, 43, 180, 0, 140, 181, 0, 24, 16, 252]
abbrev dktX0_board_2 : List UInt8 := dkwX0_board_2 ++ dktX0_board_3
def dkwX0_board_1 : List UInt8 := [42, 182, 0, 110, 42, 3, 181, 0, 129, 42, 2, 181, 0, 24, 42, 180, 0, 10, 180, 0, 132, 61, 42, 3]
abbrev dktX0_board_1 : List UInt8 := dkwX0_board_1 ++ dktX0_board_2
def dkwX0_board_0 : List UInt8 := [187, 0, 120, 89, 42, 180, 0, 20, 42, 180, 0, 113, 183, 0, 122, 182, 0, 125, 76, 42, 43, 181, 0, 10]
abbrev dktX0_board_0 : List UInt8 := dkwX0_board_0 ++ dktX0_board_1
theorem dksX0_board_0 : cX0_board.data.toList.drop 0 = dktX0_board_0 := by decide +kernel
theorem dksX0_board_1 : cX0_board.data.toList.drop 24 = dktX0_board_1 := dk_seg dksX0_board_0 24 rfl rfl
theorem dksX0_board_2 : cX0_board.data.toList.drop 48 = dktX0_board_2 := dk_seg dksX0_board_1 24 rfl rfl
theorem dksX0_board_3 : cX0_board.data.toList.drop 72 = dktX0_board_3 := dk_seg dksX0_board_2 24 rfl rfl
theorem dX0_board_0 : decode cX0_board 0 = .ok (.new 120, 3) := dk_187 0 120 (dk_at dksX0_board_0 0 rfl rfl)
theorem dX0_board_3 : decode cX0_board 3 = .ok (.dup, 1) := dk_89 (dk_at dksX0_board_0 3 rfl rfl)
theorem dX0_board_4 : decode cX0_board 4 = .ok (.aload_n 0, 1) := dk_42 (dk_at dksX0_board_0 4 rfl rfl)
theorem dX0_board_5 : decode cX0_board 5 = .ok (.getfield 20, 3) := dk_180 0 20 (dk_at dksX0_board_0 5 rfl rfl)
theorem dX0_board_8 : decode cX0_board 8 = .ok (.aload_n 0, 1) := dk_42 (dk_at dksX0_board_0 8 rfl rfl)
theorem dX0_board_9 : decode cX0_board 9 = .ok (.getfield 113, 3) := dk_180 0 113 (dk_at dksX0_board_0 9 rfl rfl)
theorem dX0_board_12 : decode cX0_board 12 = .ok (.invokespecial 122, 3) := dk_183 0 122 (dk_at dksX0_board_0 12 rfl rfl)
theorem dX0_board_15 : decode cX0_board 15 = .ok (.invokevirtual 125, 3) := dk_182 0 125 (dk_at dksX0_board_0 15 rfl rfl)
theorem dX0_board_18 : decode cX0_board 18 = .ok (.astore_n 1, 1) := dk_76 (dk_at dksX0_board_0 18 rfl rfl)
theorem dX0_board_19 : decode cX0_board 19 = .ok (.aload_n 0, 1) := dk_42 (dk_at dksX0_board_0 19 rfl rfl)
theorem dX0_board_20 : decode cX0_board 20 = .ok (.aload_n 1, 1) := dk_43 (dk_at dksX0_board_0 20 rfl rfl)
theorem dX0_board_21 : decode cX0_board 21 = .ok (.putfield 10, 3) := dk_181 0 10 (dk_at dksX0_board_0 21 rfl rfl)
theorem dX0_board_24 : decode cX0_board 24 = .ok (.aload_n 0, 1) := dk_42 (dk_at dksX0_board_1 0 rfl rfl)
theorem dX0_board_25 : decode cX0_board 25 = .ok (.invokevirtual 110, 3) := dk_182 0 110 (dk_at dksX0_board_1 1 rfl rfl)
theorem dX0_board_28 : decode cX0_board 28 = .ok (.aload_n 0, 1) := dk_42 (dk_at dksX0_board_1 4 rfl rfl)
theorem dX0_board_29 : decode cX0_board 29 = .ok (.iconst 0, 1) := dk_3 (dk_at dksX0_board_1 5 rfl rfl)
theorem dX0_board_30 : decode cX0_board 30 = .ok (.putfield 129, 3) := dk_181 0 129 (dk_at dksX0_board_1 6 rfl rfl)
theorem dX0_board_33 : decode cX0_board 33 = .ok (.aload_n 0, 1) := dk_42 (dk_at dksX0_board_1 9 rfl rfl)
theorem dX0_board_34 : decode cX0_board 34 = .ok (.iconst (-1), 1) := dk_2 (dk_at dksX0_board_1 10 rfl rfl)
theorem dX0_board_35 : decode cX0_board 35 = .ok (.putfield 24, 3) := dk_181 0 24 (dk_at dksX0_board_1 11 rfl rfl)
theorem dX0_board_38 : decode cX0_board 38 = .ok (.aload_n 0, 1) := dk_42 (dk_at dksX0_board_1 14 rfl rfl)
theorem dX0_board_39 : decode cX0_board 39 = .ok (.getfield 10, 3) := dk_180 0 10 (dk_at dksX0_board_1 15 rfl rfl)
theorem dX0_board_42 : decode cX0_board 42 = .ok (.getfield 132, 3) := dk_180 0 132 (dk_at dksX0_board_1 18 rfl rfl)
theorem dX0_board_45 : decode cX0_board 45 = .ok (.istore_n 2, 1) := dk_61 (dk_at dksX0_board_1 21 rfl rfl)
theorem dX0_board_46 : decode cX0_board 46 = .ok (.aload_n 0, 1) := dk_42 (dk_at dksX0_board_1 22 rfl rfl)
theorem dX0_board_47 : decode cX0_board 47 = .ok (.iconst 0, 1) := dk_3 (dk_at dksX0_board_1 23 rfl rfl)
theorem dX0_board_48 : decode cX0_board 48 = .ok (.putfield 113, 3) := dk_181 0 113 (dk_at dksX0_board_2 0 rfl rfl)
theorem dX0_board_51 : decode cX0_board 51 = .ok (.iload_n 2, 1) := dk_28 (dk_at dksX0_board_2 3 rfl rfl)
theorem dX0_board_52 : decode cX0_board 52 = .ok (.ireturn, 1) := dk_172 (dk_at dksX0_board_2 4 rfl rfl)
theorem dX0_board_53 : decode cX0_board 53 = .ok (.astore_n 1, 1) := dk_76 (dk_at dksX0_board_2 5 rfl rfl)
theorem dX0_board_54 : decode cX0_board 54 = .ok (.aload_n 0, 1) := dk_42 (dk_at dksX0_board_2 6 rfl rfl)
theorem dX0_board_55 : decode cX0_board 55 = .ok (.aload_n 1, 1) := dk_43 (dk_at dksX0_board_2 7 rfl rfl)
theorem dX0_board_56 : decode cX0_board 56 = .ok (.getfield 137, 3) := dk_180 0 137 (dk_at dksX0_board_2 8 rfl rfl)
theorem dX0_board_59 : decode cX0_board 59 = .ok (.putfield 129, 3) := dk_181 0 129 (dk_at dksX0_board_2 11 rfl rfl)
theorem dX0_board_62 : decode cX0_board 62 = .ok (.aload_n 0, 1) := dk_42 (dk_at dksX0_board_2 14 rfl rfl)
theorem dX0_board_63 : decode cX0_board 63 = .ok (.aload_n 1, 1) := dk_43 (dk_at dksX0_board_2 15 rfl rfl)
theorem dX0_board_64 : decode cX0_board 64 = .ok (.getfield 140, 3) := dk_180 0 140 (dk_at dksX0_board_2 16 rfl rfl)
theorem dX0_board_67 : decode cX0_board 67 = .ok (.putfield 24, 3) := dk_181 0 24 (dk_at dksX0_board_2 19 rfl rfl)
theorem dX0_board_70 : decode cX0_board 70 = .ok (.bipush (-4), 2) := dk_16 252 (dk_at dksX0_board_2 22 rfl rfl)
theorem dX0_board_72 : decode cX0_board 72 = .ok (.istore_n 2, 1) := dk_61 (dk_at dksX0_board_3 0 rfl rfl)
theorem dX0_board_73 : decode cX0_board 73 = .ok (.aload_n 0, 1) := dk_42 (dk_at dksX0_board_3 1 rfl rfl)
theorem dX0_board_74 : decode cX0_board 74 = .ok (.iconst 0, 1) := dk_3 (dk_at dksX0_board_3 2 rfl rfl)
theorem dX0_board_75 : decode cX0_board 75 = .ok (.putfield 113, 3) := dk_181 0 113 (dk_at dksX0_board_3 3 rfl rfl)
theorem dX0_board_78 : decode cX0_board 78 = .ok (.iload_n 2, 1) := dk_28 (dk_at dksX0_board_3 6 rfl rfl)
theorem dX0_board_79 : decode cX0_board 79 = .ok (.ireturn, 1) := dk_172 (dk_at dksX0_board_3 7 rfl rfl)
theorem dX0_board_80 : decode cX0_board 80 = .ok (.astore_n 3, 1) := dk_78 (dk_at dksX0_board_3 8 rfl rfl)
theorem dX0_board_81 : decode cX0_board 81 = .ok (.aload_n 0, 1) := dk_42 (dk_at dksX0_board_3 9 rfl rfl)
theorem dX0_board_82 : decode cX0_board 82 = .ok (.iconst 0, 1) := dk_3 (dk_at dksX0_board_3 10 rfl rfl)
theorem dX0_board_83 : decode cX0_board 83 = .ok (.putfield 113, 3) := dk_181 0 113 (dk_at dksX0_board_3 11 rfl rfl)
theorem dX0_board_86 : decode cX0_board 86 = .ok (.aload_n 3, 1) := dk_45 (dk_at dksX0_board_3 14 rfl rfl)
theorem dX0_board_87 : decode cX0_board 87 = .ok (.athrow, 1) := dk_191 (dk_at dksX0_board_3 15 rfl rfl)
abbrev cX0_isOn : ByteArray := prog_1_method_2_code
def yX0_isOn : MethodName := ⟨RX0, "isOn", "(II)Z"⟩
def dkwX0_isOn_0 : List UInt8 := [26, 27, 122, 4, 126, 4, 160, 0, 7, 4, 167, 0, 4, 3, 172]
abbrev dktX0_isOn_0 : List UInt8 := dkwX0_isOn_0 ++ []
theorem dksX0_isOn_0 : cX0_isOn.data.toList.drop 0 = dktX0_isOn_0 := by decide +kernel
theorem dX0_isOn_0 : decode cX0_isOn 0 = .ok (.iload_n 0, 1) := dk_26 (dk_at dksX0_isOn_0 0 rfl rfl)
theorem dX0_isOn_1 : decode cX0_isOn 1 = .ok (.iload_n 1, 1) := dk_27 (dk_at dksX0_isOn_0 1 rfl rfl)
theorem dX0_isOn_2 : decode cX0_isOn 2 = .ok (.ishr, 1) := dk_122 (dk_at dksX0_isOn_0 2 rfl rfl)
theorem dX0_isOn_3 : decode cX0_isOn 3 = .ok (.iconst 1, 1) := dk_4 (dk_at dksX0_isOn_0 3 rfl rfl)
theorem dX0_isOn_4 : decode cX0_isOn 4 = .ok (.iand, 1) := dk_126 (dk_at dksX0_isOn_0 4 rfl rfl)
theorem dX0_isOn_5 : decode cX0_isOn 5 = .ok (.iconst 1, 1) := dk_4 (dk_at dksX0_isOn_0 5 rfl rfl)
theorem dX0_isOn_6 : decode cX0_isOn 6 = .ok (.if_icmp .ne 7, 3) := dk_160 0 7 (dk_at dksX0_isOn_0 6 rfl rfl)
theorem dX0_isOn_9 : decode cX0_isOn 9 = .ok (.iconst 1, 1) := dk_4 (dk_at dksX0_isOn_0 9 rfl rfl)
theorem dX0_isOn_10 : decode cX0_isOn 10 = .ok (.goto 4, 3) := dk_167 0 4 (dk_at dksX0_isOn_0 10 rfl rfl)
theorem dX0_isOn_13 : decode cX0_isOn 13 = .ok (.iconst 0, 1) := dk_3 (dk_at dksX0_isOn_0 13 rfl rfl)
theorem dX0_isOn_14 : decode cX0_isOn 14 = .ok (.ireturn, 1) := dk_172 (dk_at dksX0_isOn_0 14 rfl rfl)
abbrev cX0_fault : ByteArray := prog_1_method_7_code
def yX0_fault : MethodName := ⟨RX0, "fault", "(I)I"⟩
def dkwX0_fault_1 : List UInt8 := [172]
abbrev dktX0_fault_1 : List UInt8 := dkwX0_fault_1 ++ []
def dkwX0_fault_0 : List UInt8 := [27, 154, 0, 10, 42, 180, 0, 129, 167, 0, 16, 27, 4, 160, 0, 10, 42, 180, 0, 24, 167, 0, 4, 2]
abbrev dktX0_fault_0 : List UInt8 := dkwX0_fault_0 ++ dktX0_fault_1
theorem dksX0_fault_0 : cX0_fault.data.toList.drop 0 = dktX0_fault_0 := by decide +kernel
theorem dksX0_fault_1 : cX0_fault.data.toList.drop 24 = dktX0_fault_1 := dk_seg dksX0_fault_0 24 rfl rfl
theorem dX0_fault_0 : decode cX0_fault 0 = .ok (.iload_n 1, 1) := dk_27 (dk_at dksX0_fault_0 0 rfl rfl)
theorem dX0_fault_1 : decode cX0_fault 1 = .ok (.ifCond .ne 10, 3) := dk_154 0 10 (dk_at dksX0_fault_0 1 rfl rfl)
theorem dX0_fault_4 : decode cX0_fault 4 = .ok (.aload_n 0, 1) := dk_42 (dk_at dksX0_fault_0 4 rfl rfl)
theorem dX0_fault_5 : decode cX0_fault 5 = .ok (.getfield 129, 3) := dk_180 0 129 (dk_at dksX0_fault_0 5 rfl rfl)
theorem dX0_fault_8 : decode cX0_fault 8 = .ok (.goto 16, 3) := dk_167 0 16 (dk_at dksX0_fault_0 8 rfl rfl)
theorem dX0_fault_11 : decode cX0_fault 11 = .ok (.iload_n 1, 1) := dk_27 (dk_at dksX0_fault_0 11 rfl rfl)
theorem dX0_fault_12 : decode cX0_fault 12 = .ok (.iconst 1, 1) := dk_4 (dk_at dksX0_fault_0 12 rfl rfl)
theorem dX0_fault_13 : decode cX0_fault 13 = .ok (.if_icmp .ne 10, 3) := dk_160 0 10 (dk_at dksX0_fault_0 13 rfl rfl)
theorem dX0_fault_16 : decode cX0_fault 16 = .ok (.aload_n 0, 1) := dk_42 (dk_at dksX0_fault_0 16 rfl rfl)
theorem dX0_fault_17 : decode cX0_fault 17 = .ok (.getfield 24, 3) := dk_180 0 24 (dk_at dksX0_fault_0 17 rfl rfl)
theorem dX0_fault_20 : decode cX0_fault 20 = .ok (.goto 4, 3) := dk_167 0 4 (dk_at dksX0_fault_0 20 rfl rfl)
theorem dX0_fault_23 : decode cX0_fault 23 = .ok (.iconst (-1), 1) := dk_2 (dk_at dksX0_fault_0 23 rfl rfl)
theorem dX0_fault_24 : decode cX0_fault 24 = .ok (.ireturn, 1) := dk_172 (dk_at dksX0_fault_1 0 rfl rfl)
abbrev cX0_task : ByteArray := prog_1_method_14_code
def yX0_task : MethodName := ⟨RX0, "task", "(II)I"⟩
def dkwX0_task_3 : List UInt8 := [172, 45, 180, 0, 197, 172, 45, 180, 0, 200, 172, 16, 254, 172]
abbrev dktX0_task_3 : List UInt8 := dkwX0_task_3 ++ []
def dkwX0_task_2 : List UInt8 := [45, 180, 0, 182, 172, 45, 180, 0, 185, 172, 45, 180, 0, 188, 172, 45, 180, 0, 191, 172, 45, 180, 0, 194]
abbrev dktX0_task_2 : List UInt8 := dkwX0_task_2 ++ dktX0_task_3
def dkwX0_task_1 : List UInt8 := [170, 0, 0, 0, 0, 77, 0, 0, 0, 0, 0, 0, 0, 6, 0, 0, 0, 42, 0, 0, 0, 47, 0, 0, 0, 52, 0, 0, 0, 57, 0, 0, 0, 62, 0, 0, 0, 67, 0, 0, 0, 72]
abbrev dktX0_task_1 : List UInt8 := dkwX0_task_1 ++ dktX0_task_2
def dkwX0_task_0 : List UInt8 := [42, 27, 182, 0, 168, 154, 0, 6, 16, 254, 172, 42, 27, 182, 0, 178, 78, 28]
abbrev dktX0_task_0 : List UInt8 := dkwX0_task_0 ++ dktX0_task_1
theorem dksX0_task_0 : cX0_task.data.toList.drop 0 = dktX0_task_0 := by decide +kernel
theorem dksX0_task_1 : cX0_task.data.toList.drop 18 = dktX0_task_1 := dk_seg dksX0_task_0 18 rfl rfl
theorem dksX0_task_2 : cX0_task.data.toList.drop 60 = dktX0_task_2 := dk_seg dksX0_task_1 42 rfl rfl
theorem dksX0_task_3 : cX0_task.data.toList.drop 84 = dktX0_task_3 := dk_seg dksX0_task_2 24 rfl rfl
theorem dX0_task_0 : decode cX0_task 0 = .ok (.aload_n 0, 1) := dk_42 (dk_at dksX0_task_0 0 rfl rfl)
theorem dX0_task_1 : decode cX0_task 1 = .ok (.iload_n 1, 1) := dk_27 (dk_at dksX0_task_0 1 rfl rfl)
theorem dX0_task_2 : decode cX0_task 2 = .ok (.invokevirtual 168, 3) := dk_182 0 168 (dk_at dksX0_task_0 2 rfl rfl)
theorem dX0_task_5 : decode cX0_task 5 = .ok (.ifCond .ne 6, 3) := dk_154 0 6 (dk_at dksX0_task_0 5 rfl rfl)
theorem dX0_task_8 : decode cX0_task 8 = .ok (.bipush (-2), 2) := dk_16 254 (dk_at dksX0_task_0 8 rfl rfl)
theorem dX0_task_10 : decode cX0_task 10 = .ok (.ireturn, 1) := dk_172 (dk_at dksX0_task_0 10 rfl rfl)
theorem dX0_task_11 : decode cX0_task 11 = .ok (.aload_n 0, 1) := dk_42 (dk_at dksX0_task_0 11 rfl rfl)
theorem dX0_task_12 : decode cX0_task 12 = .ok (.iload_n 1, 1) := dk_27 (dk_at dksX0_task_0 12 rfl rfl)
theorem dX0_task_13 : decode cX0_task 13 = .ok (.invokevirtual 178, 3) := dk_182 0 178 (dk_at dksX0_task_0 13 rfl rfl)
theorem dX0_task_16 : decode cX0_task 16 = .ok (.astore_n 3, 1) := dk_78 (dk_at dksX0_task_0 16 rfl rfl)
theorem dX0_task_17 : decode cX0_task 17 = .ok (.iload_n 2, 1) := dk_28 (dk_at dksX0_task_0 17 rfl rfl)
theorem dX0_task_18 : decode cX0_task 18 = .ok (.tableswitch 77 0 6 #[42, 47, 52, 57, 62, 67, 72], 42) := by decide +kernel
theorem dX0_task_60 : decode cX0_task 60 = .ok (.aload_n 3, 1) := dk_45 (dk_at dksX0_task_2 0 rfl rfl)
theorem dX0_task_61 : decode cX0_task 61 = .ok (.getfield 182, 3) := dk_180 0 182 (dk_at dksX0_task_2 1 rfl rfl)
theorem dX0_task_64 : decode cX0_task 64 = .ok (.ireturn, 1) := dk_172 (dk_at dksX0_task_2 4 rfl rfl)
theorem dX0_task_65 : decode cX0_task 65 = .ok (.aload_n 3, 1) := dk_45 (dk_at dksX0_task_2 5 rfl rfl)
theorem dX0_task_66 : decode cX0_task 66 = .ok (.getfield 185, 3) := dk_180 0 185 (dk_at dksX0_task_2 6 rfl rfl)
theorem dX0_task_69 : decode cX0_task 69 = .ok (.ireturn, 1) := dk_172 (dk_at dksX0_task_2 9 rfl rfl)
theorem dX0_task_70 : decode cX0_task 70 = .ok (.aload_n 3, 1) := dk_45 (dk_at dksX0_task_2 10 rfl rfl)
theorem dX0_task_71 : decode cX0_task 71 = .ok (.getfield 188, 3) := dk_180 0 188 (dk_at dksX0_task_2 11 rfl rfl)
theorem dX0_task_74 : decode cX0_task 74 = .ok (.ireturn, 1) := dk_172 (dk_at dksX0_task_2 14 rfl rfl)
theorem dX0_task_75 : decode cX0_task 75 = .ok (.aload_n 3, 1) := dk_45 (dk_at dksX0_task_2 15 rfl rfl)
theorem dX0_task_76 : decode cX0_task 76 = .ok (.getfield 191, 3) := dk_180 0 191 (dk_at dksX0_task_2 16 rfl rfl)
theorem dX0_task_79 : decode cX0_task 79 = .ok (.ireturn, 1) := dk_172 (dk_at dksX0_task_2 19 rfl rfl)
theorem dX0_task_80 : decode cX0_task 80 = .ok (.aload_n 3, 1) := dk_45 (dk_at dksX0_task_2 20 rfl rfl)
theorem dX0_task_81 : decode cX0_task 81 = .ok (.getfield 194, 3) := dk_180 0 194 (dk_at dksX0_task_2 21 rfl rfl)
theorem dX0_task_84 : decode cX0_task 84 = .ok (.ireturn, 1) := dk_172 (dk_at dksX0_task_3 0 rfl rfl)
theorem dX0_task_85 : decode cX0_task 85 = .ok (.aload_n 3, 1) := dk_45 (dk_at dksX0_task_3 1 rfl rfl)
theorem dX0_task_86 : decode cX0_task 86 = .ok (.getfield 197, 3) := dk_180 0 197 (dk_at dksX0_task_3 2 rfl rfl)
theorem dX0_task_89 : decode cX0_task 89 = .ok (.ireturn, 1) := dk_172 (dk_at dksX0_task_3 5 rfl rfl)
theorem dX0_task_90 : decode cX0_task 90 = .ok (.aload_n 3, 1) := dk_45 (dk_at dksX0_task_3 6 rfl rfl)
theorem dX0_task_91 : decode cX0_task 91 = .ok (.getfield 200, 3) := dk_180 0 200 (dk_at dksX0_task_3 7 rfl rfl)
theorem dX0_task_94 : decode cX0_task 94 = .ok (.ireturn, 1) := dk_172 (dk_at dksX0_task_3 10 rfl rfl)
theorem dX0_task_95 : decode cX0_task 95 = .ok (.bipush (-2), 2) := dk_16 254 (dk_at dksX0_task_3 11 rfl rfl)
theorem dX0_task_97 : decode cX0_task 97 = .ok (.ireturn, 1) := dk_172 (dk_at dksX0_task_3 13 rfl rfl)
abbrev cX0_isTask : ByteArray := prog_1_method_10_code
def yX0_isTask : MethodName := ⟨RX0, "isTask", "(I)Z"⟩
def dkwX0_isTask_0 : List UInt8 := [27, 133, 9, 42, 182, 0, 159, 4, 100, 133, 184, 0, 116, 172]
abbrev dktX0_isTask_0 : List UInt8 := dkwX0_isTask_0 ++ []
theorem dksX0_isTask_0 : cX0_isTask.data.toList.drop 0 = dktX0_isTask_0 := by decide +kernel
theorem dX0_isTask_0 : decode cX0_isTask 0 = .ok (.iload_n 1, 1) := dk_27 (dk_at dksX0_isTask_0 0 rfl rfl)
theorem dX0_isTask_1 : decode cX0_isTask 1 = .ok (.i2l, 1) := dk_133 (dk_at dksX0_isTask_0 1 rfl rfl)
theorem dX0_isTask_2 : decode cX0_isTask 2 = .ok (.lconst 0, 1) := dk_9 (dk_at dksX0_isTask_0 2 rfl rfl)
theorem dX0_isTask_3 : decode cX0_isTask 3 = .ok (.aload_n 0, 1) := dk_42 (dk_at dksX0_isTask_0 3 rfl rfl)
theorem dX0_isTask_4 : decode cX0_isTask 4 = .ok (.invokevirtual 159, 3) := dk_182 0 159 (dk_at dksX0_isTask_0 4 rfl rfl)
theorem dX0_isTask_7 : decode cX0_isTask 7 = .ok (.iconst 1, 1) := dk_4 (dk_at dksX0_isTask_0 7 rfl rfl)
theorem dX0_isTask_8 : decode cX0_isTask 8 = .ok (.isub, 1) := dk_100 (dk_at dksX0_isTask_0 8 rfl rfl)
theorem dX0_isTask_9 : decode cX0_isTask 9 = .ok (.i2l, 1) := dk_133 (dk_at dksX0_isTask_0 9 rfl rfl)
theorem dX0_isTask_10 : decode cX0_isTask 10 = .ok (.invokestatic 116, 3) := dk_184 0 116 (dk_at dksX0_isTask_0 10 rfl rfl)
theorem dX0_isTask_13 : decode cX0_isTask 13 = .ok (.ireturn, 1) := dk_172 (dk_at dksX0_isTask_0 13 rfl rfl)
abbrev cX0_node : ByteArray := prog_1_method_15_code
def yX0_node : MethodName := ⟨RX0, "node", "(III)I"⟩
def dkwX0_node_2 : List UInt8 := [27, 182, 0, 178, 180, 0, 203, 28, 46, 167, 0, 13, 42, 27, 182, 0, 178, 180, 0, 206, 28, 46, 172]
abbrev dktX0_node_2 : List UInt8 := dkwX0_node_2 ++ []
def dkwX0_node_1 : List UInt8 := [184, 0, 116, 153, 0, 13, 29, 133, 9, 10, 184, 0, 116, 154, 0, 6, 16, 254, 172, 29, 154, 0, 16, 42]
abbrev dktX0_node_1 : List UInt8 := dkwX0_node_1 ++ dktX0_node_2
def dkwX0_node_0 : List UInt8 := [42, 27, 182, 0, 168, 153, 0, 33, 28, 133, 9, 42, 27, 182, 0, 178, 180, 0, 200, 4, 100, 133]
abbrev dktX0_node_0 : List UInt8 := dkwX0_node_0 ++ dktX0_node_1
theorem dksX0_node_0 : cX0_node.data.toList.drop 0 = dktX0_node_0 := by decide +kernel
theorem dksX0_node_1 : cX0_node.data.toList.drop 22 = dktX0_node_1 := dk_seg dksX0_node_0 22 rfl rfl
theorem dksX0_node_2 : cX0_node.data.toList.drop 46 = dktX0_node_2 := dk_seg dksX0_node_1 24 rfl rfl
theorem dX0_node_0 : decode cX0_node 0 = .ok (.aload_n 0, 1) := dk_42 (dk_at dksX0_node_0 0 rfl rfl)
theorem dX0_node_1 : decode cX0_node 1 = .ok (.iload_n 1, 1) := dk_27 (dk_at dksX0_node_0 1 rfl rfl)
theorem dX0_node_2 : decode cX0_node 2 = .ok (.invokevirtual 168, 3) := dk_182 0 168 (dk_at dksX0_node_0 2 rfl rfl)
theorem dX0_node_5 : decode cX0_node 5 = .ok (.ifCond .eq 33, 3) := dk_153 0 33 (dk_at dksX0_node_0 5 rfl rfl)
theorem dX0_node_8 : decode cX0_node 8 = .ok (.iload_n 2, 1) := dk_28 (dk_at dksX0_node_0 8 rfl rfl)
theorem dX0_node_9 : decode cX0_node 9 = .ok (.i2l, 1) := dk_133 (dk_at dksX0_node_0 9 rfl rfl)
theorem dX0_node_10 : decode cX0_node 10 = .ok (.lconst 0, 1) := dk_9 (dk_at dksX0_node_0 10 rfl rfl)
theorem dX0_node_11 : decode cX0_node 11 = .ok (.aload_n 0, 1) := dk_42 (dk_at dksX0_node_0 11 rfl rfl)
theorem dX0_node_12 : decode cX0_node 12 = .ok (.iload_n 1, 1) := dk_27 (dk_at dksX0_node_0 12 rfl rfl)
theorem dX0_node_13 : decode cX0_node 13 = .ok (.invokevirtual 178, 3) := dk_182 0 178 (dk_at dksX0_node_0 13 rfl rfl)
theorem dX0_node_16 : decode cX0_node 16 = .ok (.getfield 200, 3) := dk_180 0 200 (dk_at dksX0_node_0 16 rfl rfl)
theorem dX0_node_19 : decode cX0_node 19 = .ok (.iconst 1, 1) := dk_4 (dk_at dksX0_node_0 19 rfl rfl)
theorem dX0_node_20 : decode cX0_node 20 = .ok (.isub, 1) := dk_100 (dk_at dksX0_node_0 20 rfl rfl)
theorem dX0_node_21 : decode cX0_node 21 = .ok (.i2l, 1) := dk_133 (dk_at dksX0_node_0 21 rfl rfl)
theorem dX0_node_22 : decode cX0_node 22 = .ok (.invokestatic 116, 3) := dk_184 0 116 (dk_at dksX0_node_1 0 rfl rfl)
theorem dX0_node_25 : decode cX0_node 25 = .ok (.ifCond .eq 13, 3) := dk_153 0 13 (dk_at dksX0_node_1 3 rfl rfl)
theorem dX0_node_28 : decode cX0_node 28 = .ok (.iload_n 3, 1) := dk_29 (dk_at dksX0_node_1 6 rfl rfl)
theorem dX0_node_29 : decode cX0_node 29 = .ok (.i2l, 1) := dk_133 (dk_at dksX0_node_1 7 rfl rfl)
theorem dX0_node_30 : decode cX0_node 30 = .ok (.lconst 0, 1) := dk_9 (dk_at dksX0_node_1 8 rfl rfl)
theorem dX0_node_31 : decode cX0_node 31 = .ok (.lconst 1, 1) := dk_10 (dk_at dksX0_node_1 9 rfl rfl)
theorem dX0_node_32 : decode cX0_node 32 = .ok (.invokestatic 116, 3) := dk_184 0 116 (dk_at dksX0_node_1 10 rfl rfl)
theorem dX0_node_35 : decode cX0_node 35 = .ok (.ifCond .ne 6, 3) := dk_154 0 6 (dk_at dksX0_node_1 13 rfl rfl)
theorem dX0_node_38 : decode cX0_node 38 = .ok (.bipush (-2), 2) := dk_16 254 (dk_at dksX0_node_1 16 rfl rfl)
theorem dX0_node_40 : decode cX0_node 40 = .ok (.ireturn, 1) := dk_172 (dk_at dksX0_node_1 18 rfl rfl)
theorem dX0_node_41 : decode cX0_node 41 = .ok (.iload_n 3, 1) := dk_29 (dk_at dksX0_node_1 19 rfl rfl)
theorem dX0_node_42 : decode cX0_node 42 = .ok (.ifCond .ne 16, 3) := dk_154 0 16 (dk_at dksX0_node_1 20 rfl rfl)
theorem dX0_node_45 : decode cX0_node 45 = .ok (.aload_n 0, 1) := dk_42 (dk_at dksX0_node_1 23 rfl rfl)
theorem dX0_node_46 : decode cX0_node 46 = .ok (.iload_n 1, 1) := dk_27 (dk_at dksX0_node_2 0 rfl rfl)
theorem dX0_node_47 : decode cX0_node 47 = .ok (.invokevirtual 178, 3) := dk_182 0 178 (dk_at dksX0_node_2 1 rfl rfl)
theorem dX0_node_50 : decode cX0_node 50 = .ok (.getfield 203, 3) := dk_180 0 203 (dk_at dksX0_node_2 4 rfl rfl)
theorem dX0_node_53 : decode cX0_node 53 = .ok (.iload_n 2, 1) := dk_28 (dk_at dksX0_node_2 7 rfl rfl)
theorem dX0_node_54 : decode cX0_node 54 = .ok (.iaload, 1) := dk_46 (dk_at dksX0_node_2 8 rfl rfl)
theorem dX0_node_55 : decode cX0_node 55 = .ok (.goto 13, 3) := dk_167 0 13 (dk_at dksX0_node_2 9 rfl rfl)
theorem dX0_node_58 : decode cX0_node 58 = .ok (.aload_n 0, 1) := dk_42 (dk_at dksX0_node_2 12 rfl rfl)
theorem dX0_node_59 : decode cX0_node 59 = .ok (.iload_n 1, 1) := dk_27 (dk_at dksX0_node_2 13 rfl rfl)
theorem dX0_node_60 : decode cX0_node 60 = .ok (.invokevirtual 178, 3) := dk_182 0 178 (dk_at dksX0_node_2 14 rfl rfl)
theorem dX0_node_63 : decode cX0_node 63 = .ok (.getfield 206, 3) := dk_180 0 206 (dk_at dksX0_node_2 17 rfl rfl)
theorem dX0_node_66 : decode cX0_node 66 = .ok (.iload_n 2, 1) := dk_28 (dk_at dksX0_node_2 20 rfl rfl)
theorem dX0_node_67 : decode cX0_node 67 = .ok (.iaload, 1) := dk_46 (dk_at dksX0_node_2 21 rfl rfl)
theorem dX0_node_68 : decode cX0_node 68 = .ok (.ireturn, 1) := dk_172 (dk_at dksX0_node_2 22 rfl rfl)
abbrev cX0_watcher : ByteArray := prog_1_method_16_code
def yX0_watcher : MethodName := ⟨RX0, "watcher", "(I)I"⟩
def dkwX0_watcher_1 : List UInt8 := [180, 0, 212, 27, 46, 167, 0, 5, 16, 254, 172]
abbrev dktX0_watcher_1 : List UInt8 := dkwX0_watcher_1 ++ []
def dkwX0_watcher_0 : List UInt8 := [27, 133, 9, 42, 180, 0, 10, 180, 0, 209, 4, 100, 133, 184, 0, 116, 153, 0, 15, 42, 180, 0, 10]
abbrev dktX0_watcher_0 : List UInt8 := dkwX0_watcher_0 ++ dktX0_watcher_1
theorem dksX0_watcher_0 : cX0_watcher.data.toList.drop 0 = dktX0_watcher_0 := by decide +kernel
theorem dksX0_watcher_1 : cX0_watcher.data.toList.drop 23 = dktX0_watcher_1 := dk_seg dksX0_watcher_0 23 rfl rfl
theorem dX0_watcher_0 : decode cX0_watcher 0 = .ok (.iload_n 1, 1) := dk_27 (dk_at dksX0_watcher_0 0 rfl rfl)
theorem dX0_watcher_1 : decode cX0_watcher 1 = .ok (.i2l, 1) := dk_133 (dk_at dksX0_watcher_0 1 rfl rfl)
theorem dX0_watcher_2 : decode cX0_watcher 2 = .ok (.lconst 0, 1) := dk_9 (dk_at dksX0_watcher_0 2 rfl rfl)
theorem dX0_watcher_3 : decode cX0_watcher 3 = .ok (.aload_n 0, 1) := dk_42 (dk_at dksX0_watcher_0 3 rfl rfl)
theorem dX0_watcher_4 : decode cX0_watcher 4 = .ok (.getfield 10, 3) := dk_180 0 10 (dk_at dksX0_watcher_0 4 rfl rfl)
theorem dX0_watcher_7 : decode cX0_watcher 7 = .ok (.getfield 209, 3) := dk_180 0 209 (dk_at dksX0_watcher_0 7 rfl rfl)
theorem dX0_watcher_10 : decode cX0_watcher 10 = .ok (.iconst 1, 1) := dk_4 (dk_at dksX0_watcher_0 10 rfl rfl)
theorem dX0_watcher_11 : decode cX0_watcher 11 = .ok (.isub, 1) := dk_100 (dk_at dksX0_watcher_0 11 rfl rfl)
theorem dX0_watcher_12 : decode cX0_watcher 12 = .ok (.i2l, 1) := dk_133 (dk_at dksX0_watcher_0 12 rfl rfl)
theorem dX0_watcher_13 : decode cX0_watcher 13 = .ok (.invokestatic 116, 3) := dk_184 0 116 (dk_at dksX0_watcher_0 13 rfl rfl)
theorem dX0_watcher_16 : decode cX0_watcher 16 = .ok (.ifCond .eq 15, 3) := dk_153 0 15 (dk_at dksX0_watcher_0 16 rfl rfl)
theorem dX0_watcher_19 : decode cX0_watcher 19 = .ok (.aload_n 0, 1) := dk_42 (dk_at dksX0_watcher_0 19 rfl rfl)
theorem dX0_watcher_20 : decode cX0_watcher 20 = .ok (.getfield 10, 3) := dk_180 0 10 (dk_at dksX0_watcher_0 20 rfl rfl)
theorem dX0_watcher_23 : decode cX0_watcher 23 = .ok (.getfield 212, 3) := dk_180 0 212 (dk_at dksX0_watcher_1 0 rfl rfl)
theorem dX0_watcher_26 : decode cX0_watcher 26 = .ok (.iload_n 1, 1) := dk_27 (dk_at dksX0_watcher_1 3 rfl rfl)
theorem dX0_watcher_27 : decode cX0_watcher 27 = .ok (.iaload, 1) := dk_46 (dk_at dksX0_watcher_1 4 rfl rfl)
theorem dX0_watcher_28 : decode cX0_watcher 28 = .ok (.goto 5, 3) := dk_167 0 5 (dk_at dksX0_watcher_1 5 rfl rfl)
theorem dX0_watcher_31 : decode cX0_watcher 31 = .ok (.bipush (-2), 2) := dk_16 254 (dk_at dksX0_watcher_1 8 rfl rfl)
theorem dX0_watcher_33 : decode cX0_watcher 33 = .ok (.ireturn, 1) := dk_172 (dk_at dksX0_watcher_1 10 rfl rfl)
abbrev cX0_injection : ByteArray := prog_1_method_17_code
def yX0_injection : MethodName := ⟨RX0, "injection", "(II)I"⟩
def dkwX0_injection_4 : List UInt8 := [172, 16, 254, 172]
abbrev dktX0_injection_4 : List UInt8 := dkwX0_injection_4 ++ []
def dkwX0_injection_3 : List UInt8 := [45, 180, 0, 220, 172, 45, 180, 0, 221, 172, 45, 180, 0, 224, 172, 45, 180, 0, 227, 172, 45, 180, 0, 230]
abbrev dktX0_injection_3 : List UInt8 := dkwX0_injection_3 ++ dktX0_injection_4
def dkwX0_injection_2 : List UInt8 := [170, 0, 0, 0, 58, 0, 0, 0, 0, 0, 0, 0, 4, 0, 0, 0, 33, 0, 0, 0, 38, 0, 0, 0, 43, 0, 0, 0, 48, 0, 0, 0, 53]
abbrev dktX0_injection_2 : List UInt8 := dkwX0_injection_2 ++ dktX0_injection_3
def dkwX0_injection_1 : List UInt8 := [192, 0, 218, 78, 28]
abbrev dktX0_injection_1 : List UInt8 := dkwX0_injection_1 ++ dktX0_injection_2
def dkwX0_injection_0 : List UInt8 := [42, 27, 182, 0, 215, 154, 0, 6, 16, 254, 172, 42, 180, 0, 10, 180, 0, 175, 27, 182, 0, 153]
abbrev dktX0_injection_0 : List UInt8 := dkwX0_injection_0 ++ dktX0_injection_1
theorem dksX0_injection_0 : cX0_injection.data.toList.drop 0 = dktX0_injection_0 := by decide +kernel
theorem dksX0_injection_1 : cX0_injection.data.toList.drop 22 = dktX0_injection_1 := dk_seg dksX0_injection_0 22 rfl rfl
theorem dksX0_injection_2 : cX0_injection.data.toList.drop 27 = dktX0_injection_2 := dk_seg dksX0_injection_1 5 rfl rfl
theorem dksX0_injection_3 : cX0_injection.data.toList.drop 60 = dktX0_injection_3 := dk_seg dksX0_injection_2 33 rfl rfl
theorem dksX0_injection_4 : cX0_injection.data.toList.drop 84 = dktX0_injection_4 := dk_seg dksX0_injection_3 24 rfl rfl
theorem dX0_injection_0 : decode cX0_injection 0 = .ok (.aload_n 0, 1) := dk_42 (dk_at dksX0_injection_0 0 rfl rfl)
theorem dX0_injection_1 : decode cX0_injection 1 = .ok (.iload_n 1, 1) := dk_27 (dk_at dksX0_injection_0 1 rfl rfl)
theorem dX0_injection_2 : decode cX0_injection 2 = .ok (.invokevirtual 215, 3) := dk_182 0 215 (dk_at dksX0_injection_0 2 rfl rfl)
theorem dX0_injection_5 : decode cX0_injection 5 = .ok (.ifCond .ne 6, 3) := dk_154 0 6 (dk_at dksX0_injection_0 5 rfl rfl)
theorem dX0_injection_8 : decode cX0_injection 8 = .ok (.bipush (-2), 2) := dk_16 254 (dk_at dksX0_injection_0 8 rfl rfl)
theorem dX0_injection_10 : decode cX0_injection 10 = .ok (.ireturn, 1) := dk_172 (dk_at dksX0_injection_0 10 rfl rfl)
theorem dX0_injection_11 : decode cX0_injection 11 = .ok (.aload_n 0, 1) := dk_42 (dk_at dksX0_injection_0 11 rfl rfl)
theorem dX0_injection_12 : decode cX0_injection 12 = .ok (.getfield 10, 3) := dk_180 0 10 (dk_at dksX0_injection_0 12 rfl rfl)
theorem dX0_injection_15 : decode cX0_injection 15 = .ok (.getfield 175, 3) := dk_180 0 175 (dk_at dksX0_injection_0 15 rfl rfl)
theorem dX0_injection_18 : decode cX0_injection 18 = .ok (.iload_n 1, 1) := dk_27 (dk_at dksX0_injection_0 18 rfl rfl)
theorem dX0_injection_19 : decode cX0_injection 19 = .ok (.invokevirtual 153, 3) := dk_182 0 153 (dk_at dksX0_injection_0 19 rfl rfl)
theorem dX0_injection_22 : decode cX0_injection 22 = .ok (.checkcast 218, 3) := dk_192 0 218 (dk_at dksX0_injection_1 0 rfl rfl)
theorem dX0_injection_25 : decode cX0_injection 25 = .ok (.astore_n 3, 1) := dk_78 (dk_at dksX0_injection_1 3 rfl rfl)
theorem dX0_injection_26 : decode cX0_injection 26 = .ok (.iload_n 2, 1) := dk_28 (dk_at dksX0_injection_1 4 rfl rfl)
theorem dX0_injection_27 : decode cX0_injection 27 = .ok (.tableswitch 58 0 4 #[33, 38, 43, 48, 53], 33) := by decide +kernel
theorem dX0_injection_60 : decode cX0_injection 60 = .ok (.aload_n 3, 1) := dk_45 (dk_at dksX0_injection_3 0 rfl rfl)
theorem dX0_injection_61 : decode cX0_injection 61 = .ok (.getfield 220, 3) := dk_180 0 220 (dk_at dksX0_injection_3 1 rfl rfl)
theorem dX0_injection_64 : decode cX0_injection 64 = .ok (.ireturn, 1) := dk_172 (dk_at dksX0_injection_3 4 rfl rfl)
theorem dX0_injection_65 : decode cX0_injection 65 = .ok (.aload_n 3, 1) := dk_45 (dk_at dksX0_injection_3 5 rfl rfl)
theorem dX0_injection_66 : decode cX0_injection 66 = .ok (.getfield 221, 3) := dk_180 0 221 (dk_at dksX0_injection_3 6 rfl rfl)
theorem dX0_injection_69 : decode cX0_injection 69 = .ok (.ireturn, 1) := dk_172 (dk_at dksX0_injection_3 9 rfl rfl)
theorem dX0_injection_70 : decode cX0_injection 70 = .ok (.aload_n 3, 1) := dk_45 (dk_at dksX0_injection_3 10 rfl rfl)
theorem dX0_injection_71 : decode cX0_injection 71 = .ok (.getfield 224, 3) := dk_180 0 224 (dk_at dksX0_injection_3 11 rfl rfl)
theorem dX0_injection_74 : decode cX0_injection 74 = .ok (.ireturn, 1) := dk_172 (dk_at dksX0_injection_3 14 rfl rfl)
theorem dX0_injection_75 : decode cX0_injection 75 = .ok (.aload_n 3, 1) := dk_45 (dk_at dksX0_injection_3 15 rfl rfl)
theorem dX0_injection_76 : decode cX0_injection 76 = .ok (.getfield 227, 3) := dk_180 0 227 (dk_at dksX0_injection_3 16 rfl rfl)
theorem dX0_injection_79 : decode cX0_injection 79 = .ok (.ireturn, 1) := dk_172 (dk_at dksX0_injection_3 19 rfl rfl)
theorem dX0_injection_80 : decode cX0_injection 80 = .ok (.aload_n 3, 1) := dk_45 (dk_at dksX0_injection_3 20 rfl rfl)
theorem dX0_injection_81 : decode cX0_injection 81 = .ok (.getfield 230, 3) := dk_180 0 230 (dk_at dksX0_injection_3 21 rfl rfl)
theorem dX0_injection_84 : decode cX0_injection 84 = .ok (.ireturn, 1) := dk_172 (dk_at dksX0_injection_4 0 rfl rfl)
theorem dX0_injection_85 : decode cX0_injection 85 = .ok (.bipush (-2), 2) := dk_16 254 (dk_at dksX0_injection_4 1 rfl rfl)
theorem dX0_injection_87 : decode cX0_injection 87 = .ok (.ireturn, 1) := dk_172 (dk_at dksX0_injection_4 3 rfl rfl)
abbrev cX0_isInjection : ByteArray := prog_1_method_13_code
def yX0_isInjection : MethodName := ⟨RX0, "isInjection", "(I)Z"⟩
def dkwX0_isInjection_0 : List UInt8 := [27, 133, 9, 42, 180, 0, 10, 180, 0, 175, 182, 0, 147, 4, 100, 133, 184, 0, 116, 172]
abbrev dktX0_isInjection_0 : List UInt8 := dkwX0_isInjection_0 ++ []
theorem dksX0_isInjection_0 : cX0_isInjection.data.toList.drop 0 = dktX0_isInjection_0 := by decide +kernel
theorem dX0_isInjection_0 : decode cX0_isInjection 0 = .ok (.iload_n 1, 1) := dk_27 (dk_at dksX0_isInjection_0 0 rfl rfl)
theorem dX0_isInjection_1 : decode cX0_isInjection 1 = .ok (.i2l, 1) := dk_133 (dk_at dksX0_isInjection_0 1 rfl rfl)
theorem dX0_isInjection_2 : decode cX0_isInjection 2 = .ok (.lconst 0, 1) := dk_9 (dk_at dksX0_isInjection_0 2 rfl rfl)
theorem dX0_isInjection_3 : decode cX0_isInjection 3 = .ok (.aload_n 0, 1) := dk_42 (dk_at dksX0_isInjection_0 3 rfl rfl)
theorem dX0_isInjection_4 : decode cX0_isInjection 4 = .ok (.getfield 10, 3) := dk_180 0 10 (dk_at dksX0_isInjection_0 4 rfl rfl)
theorem dX0_isInjection_7 : decode cX0_isInjection 7 = .ok (.getfield 175, 3) := dk_180 0 175 (dk_at dksX0_isInjection_0 7 rfl rfl)
theorem dX0_isInjection_10 : decode cX0_isInjection 10 = .ok (.invokevirtual 147, 3) := dk_182 0 147 (dk_at dksX0_isInjection_0 10 rfl rfl)
theorem dX0_isInjection_13 : decode cX0_isInjection 13 = .ok (.iconst 1, 1) := dk_4 (dk_at dksX0_isInjection_0 13 rfl rfl)
theorem dX0_isInjection_14 : decode cX0_isInjection 14 = .ok (.isub, 1) := dk_100 (dk_at dksX0_isInjection_0 14 rfl rfl)
theorem dX0_isInjection_15 : decode cX0_isInjection 15 = .ok (.i2l, 1) := dk_133 (dk_at dksX0_isInjection_0 15 rfl rfl)
theorem dX0_isInjection_16 : decode cX0_isInjection 16 = .ok (.invokestatic 116, 3) := dk_184 0 116 (dk_at dksX0_isInjection_0 16 rfl rfl)
theorem dX0_isInjection_19 : decode cX0_isInjection 19 = .ok (.ireturn, 1) := dk_172 (dk_at dksX0_isInjection_0 19 rfl rfl)
abbrev cX0_cost : ByteArray := prog_1_method_18_code
def yX0_cost : MethodName := ⟨RX0, "cost", "(II)I"⟩
def dkwX0_cost_1 : List UInt8 := [28, 4, 160, 0, 7, 4, 167, 0, 4, 3, 182, 0, 233, 167, 0, 5, 16, 254, 172]
abbrev dktX0_cost_1 : List UInt8 := dkwX0_cost_1 ++ []
def dkwX0_cost_0 : List UInt8 := [42, 27, 182, 0, 168, 153, 0, 35, 28, 133, 9, 10, 184, 0, 116, 153, 0, 25, 42, 27, 182, 0, 178, 3]
abbrev dktX0_cost_0 : List UInt8 := dkwX0_cost_0 ++ dktX0_cost_1
theorem dksX0_cost_0 : cX0_cost.data.toList.drop 0 = dktX0_cost_0 := by decide +kernel
theorem dksX0_cost_1 : cX0_cost.data.toList.drop 24 = dktX0_cost_1 := dk_seg dksX0_cost_0 24 rfl rfl
theorem dX0_cost_0 : decode cX0_cost 0 = .ok (.aload_n 0, 1) := dk_42 (dk_at dksX0_cost_0 0 rfl rfl)
theorem dX0_cost_1 : decode cX0_cost 1 = .ok (.iload_n 1, 1) := dk_27 (dk_at dksX0_cost_0 1 rfl rfl)
theorem dX0_cost_2 : decode cX0_cost 2 = .ok (.invokevirtual 168, 3) := dk_182 0 168 (dk_at dksX0_cost_0 2 rfl rfl)
theorem dX0_cost_5 : decode cX0_cost 5 = .ok (.ifCond .eq 35, 3) := dk_153 0 35 (dk_at dksX0_cost_0 5 rfl rfl)
theorem dX0_cost_8 : decode cX0_cost 8 = .ok (.iload_n 2, 1) := dk_28 (dk_at dksX0_cost_0 8 rfl rfl)
theorem dX0_cost_9 : decode cX0_cost 9 = .ok (.i2l, 1) := dk_133 (dk_at dksX0_cost_0 9 rfl rfl)
theorem dX0_cost_10 : decode cX0_cost 10 = .ok (.lconst 0, 1) := dk_9 (dk_at dksX0_cost_0 10 rfl rfl)
theorem dX0_cost_11 : decode cX0_cost 11 = .ok (.lconst 1, 1) := dk_10 (dk_at dksX0_cost_0 11 rfl rfl)
theorem dX0_cost_12 : decode cX0_cost 12 = .ok (.invokestatic 116, 3) := dk_184 0 116 (dk_at dksX0_cost_0 12 rfl rfl)
theorem dX0_cost_15 : decode cX0_cost 15 = .ok (.ifCond .eq 25, 3) := dk_153 0 25 (dk_at dksX0_cost_0 15 rfl rfl)
theorem dX0_cost_18 : decode cX0_cost 18 = .ok (.aload_n 0, 1) := dk_42 (dk_at dksX0_cost_0 18 rfl rfl)
theorem dX0_cost_19 : decode cX0_cost 19 = .ok (.iload_n 1, 1) := dk_27 (dk_at dksX0_cost_0 19 rfl rfl)
theorem dX0_cost_20 : decode cX0_cost 20 = .ok (.invokevirtual 178, 3) := dk_182 0 178 (dk_at dksX0_cost_0 20 rfl rfl)
theorem dX0_cost_23 : decode cX0_cost 23 = .ok (.iconst 0, 1) := dk_3 (dk_at dksX0_cost_0 23 rfl rfl)
theorem dX0_cost_24 : decode cX0_cost 24 = .ok (.iload_n 2, 1) := dk_28 (dk_at dksX0_cost_1 0 rfl rfl)
theorem dX0_cost_25 : decode cX0_cost 25 = .ok (.iconst 1, 1) := dk_4 (dk_at dksX0_cost_1 1 rfl rfl)
theorem dX0_cost_26 : decode cX0_cost 26 = .ok (.if_icmp .ne 7, 3) := dk_160 0 7 (dk_at dksX0_cost_1 2 rfl rfl)
theorem dX0_cost_29 : decode cX0_cost 29 = .ok (.iconst 1, 1) := dk_4 (dk_at dksX0_cost_1 5 rfl rfl)
theorem dX0_cost_30 : decode cX0_cost 30 = .ok (.goto 4, 3) := dk_167 0 4 (dk_at dksX0_cost_1 6 rfl rfl)
theorem dX0_cost_33 : decode cX0_cost 33 = .ok (.iconst 0, 1) := dk_3 (dk_at dksX0_cost_1 9 rfl rfl)
theorem dX0_cost_34 : decode cX0_cost 34 = .ok (.invokevirtual 233, 3) := dk_182 0 233 (dk_at dksX0_cost_1 10 rfl rfl)
theorem dX0_cost_37 : decode cX0_cost 37 = .ok (.goto 5, 3) := dk_167 0 5 (dk_at dksX0_cost_1 13 rfl rfl)
theorem dX0_cost_40 : decode cX0_cost 40 = .ok (.bipush (-2), 2) := dk_16 254 (dk_at dksX0_cost_1 16 rfl rfl)
theorem dX0_cost_42 : decode cX0_cost 42 = .ok (.ireturn, 1) := dk_172 (dk_at dksX0_cost_1 18 rfl rfl)
abbrev cX0_ways : ByteArray := prog_1_method_19_code
def yX0_ways : MethodName := ⟨RX0, "ways", "(I)I"⟩
def dkwX0_ways_0 : List UInt8 := [42, 27, 182, 0, 168, 153, 0, 15, 42, 27, 182, 0, 178, 3, 182, 0, 237, 167, 0, 5, 16, 254, 172]
abbrev dktX0_ways_0 : List UInt8 := dkwX0_ways_0 ++ []
theorem dksX0_ways_0 : cX0_ways.data.toList.drop 0 = dktX0_ways_0 := by decide +kernel
theorem dX0_ways_0 : decode cX0_ways 0 = .ok (.aload_n 0, 1) := dk_42 (dk_at dksX0_ways_0 0 rfl rfl)
theorem dX0_ways_1 : decode cX0_ways 1 = .ok (.iload_n 1, 1) := dk_27 (dk_at dksX0_ways_0 1 rfl rfl)
theorem dX0_ways_2 : decode cX0_ways 2 = .ok (.invokevirtual 168, 3) := dk_182 0 168 (dk_at dksX0_ways_0 2 rfl rfl)
theorem dX0_ways_5 : decode cX0_ways 5 = .ok (.ifCond .eq 15, 3) := dk_153 0 15 (dk_at dksX0_ways_0 5 rfl rfl)
theorem dX0_ways_8 : decode cX0_ways 8 = .ok (.aload_n 0, 1) := dk_42 (dk_at dksX0_ways_0 8 rfl rfl)
theorem dX0_ways_9 : decode cX0_ways 9 = .ok (.iload_n 1, 1) := dk_27 (dk_at dksX0_ways_0 9 rfl rfl)
theorem dX0_ways_10 : decode cX0_ways 10 = .ok (.invokevirtual 178, 3) := dk_182 0 178 (dk_at dksX0_ways_0 10 rfl rfl)
theorem dX0_ways_13 : decode cX0_ways 13 = .ok (.iconst 0, 1) := dk_3 (dk_at dksX0_ways_0 13 rfl rfl)
theorem dX0_ways_14 : decode cX0_ways 14 = .ok (.invokevirtual 237, 3) := dk_182 0 237 (dk_at dksX0_ways_0 14 rfl rfl)
theorem dX0_ways_17 : decode cX0_ways 17 = .ok (.goto 5, 3) := dk_167 0 5 (dk_at dksX0_ways_0 17 rfl rfl)
theorem dX0_ways_20 : decode cX0_ways 20 = .ok (.bipush (-2), 2) := dk_16 254 (dk_at dksX0_ways_0 20 rfl rfl)
theorem dX0_ways_22 : decode cX0_ways 22 = .ok (.ireturn, 1) := dk_172 (dk_at dksX0_ways_0 22 rfl rfl)
abbrev cX0_response : ByteArray := prog_1_method_24_code
def yX0_response : MethodName := ⟨RX0, "response", "(I)I"⟩
def dkwX0_response_0 : List UInt8 := [42, 27, 182, 0, 168, 153, 0, 15, 42, 27, 27, 184, 1, 2, 182, 1, 5, 167, 0, 5, 16, 254, 172]
abbrev dktX0_response_0 : List UInt8 := dkwX0_response_0 ++ []
theorem dksX0_response_0 : cX0_response.data.toList.drop 0 = dktX0_response_0 := by decide +kernel
theorem dX0_response_0 : decode cX0_response 0 = .ok (.aload_n 0, 1) := dk_42 (dk_at dksX0_response_0 0 rfl rfl)
theorem dX0_response_1 : decode cX0_response 1 = .ok (.iload_n 1, 1) := dk_27 (dk_at dksX0_response_0 1 rfl rfl)
theorem dX0_response_2 : decode cX0_response 2 = .ok (.invokevirtual 168, 3) := dk_182 0 168 (dk_at dksX0_response_0 2 rfl rfl)
theorem dX0_response_5 : decode cX0_response 5 = .ok (.ifCond .eq 15, 3) := dk_153 0 15 (dk_at dksX0_response_0 5 rfl rfl)
theorem dX0_response_8 : decode cX0_response 8 = .ok (.aload_n 0, 1) := dk_42 (dk_at dksX0_response_0 8 rfl rfl)
theorem dX0_response_9 : decode cX0_response 9 = .ok (.iload_n 1, 1) := dk_27 (dk_at dksX0_response_0 9 rfl rfl)
theorem dX0_response_10 : decode cX0_response 10 = .ok (.iload_n 1, 1) := dk_27 (dk_at dksX0_response_0 10 rfl rfl)
theorem dX0_response_11 : decode cX0_response 11 = .ok (.invokestatic 258, 3) := dk_184 1 2 (dk_at dksX0_response_0 11 rfl rfl)
theorem dX0_response_14 : decode cX0_response 14 = .ok (.invokevirtual 261, 3) := dk_182 1 5 (dk_at dksX0_response_0 14 rfl rfl)
theorem dX0_response_17 : decode cX0_response 17 = .ok (.goto 5, 3) := dk_167 0 5 (dk_at dksX0_response_0 17 rfl rfl)
theorem dX0_response_20 : decode cX0_response 20 = .ok (.bipush (-2), 2) := dk_16 254 (dk_at dksX0_response_0 20 rfl rfl)
theorem dX0_response_22 : decode cX0_response 22 = .ok (.ireturn, 1) := dk_172 (dk_at dksX0_response_0 22 rfl rfl)
abbrev cX0_lesser : ByteArray := prog_1_method_23_code
def yX0_lesser : MethodName := ⟨RX0, "lesser", "(I)I"⟩
def dkwX0_lesser_0 : List UInt8 := [4, 26, 120, 4, 100, 172]
abbrev dktX0_lesser_0 : List UInt8 := dkwX0_lesser_0 ++ []
theorem dksX0_lesser_0 : cX0_lesser.data.toList.drop 0 = dktX0_lesser_0 := by decide +kernel
theorem dX0_lesser_0 : decode cX0_lesser 0 = .ok (.iconst 1, 1) := dk_4 (dk_at dksX0_lesser_0 0 rfl rfl)
theorem dX0_lesser_1 : decode cX0_lesser 1 = .ok (.iload_n 0, 1) := dk_26 (dk_at dksX0_lesser_0 1 rfl rfl)
theorem dX0_lesser_2 : decode cX0_lesser 2 = .ok (.ishl, 1) := dk_120 (dk_at dksX0_lesser_0 2 rfl rfl)
theorem dX0_lesser_3 : decode cX0_lesser 3 = .ok (.iconst 1, 1) := dk_4 (dk_at dksX0_lesser_0 3 rfl rfl)
theorem dX0_lesser_4 : decode cX0_lesser 4 = .ok (.isub, 1) := dk_100 (dk_at dksX0_lesser_0 4 rfl rfl)
theorem dX0_lesser_5 : decode cX0_lesser 5 = .ok (.ireturn, 1) := dk_172 (dk_at dksX0_lesser_0 5 rfl rfl)
abbrev cX0_responseOf : ByteArray := prog_1_method_22_code
def yX0_responseOf : MethodName := ⟨RX0, "responseOf", "(II)I"⟩
def dkwX0_responseOf_4 : List UInt8 := [54, 4, 132, 6, 1, 167, 255, 205, 167, 255, 175, 21, 4, 29, 163, 0, 8, 21, 4, 167, 0, 4, 2, 172]
abbrev dktX0_responseOf_4 : List UInt8 := dkwX0_responseOf_4 ++ []
def dkwX0_responseOf_3 : List UInt8 := [21, 6, 182, 0, 178, 180, 0, 185, 184, 0, 254, 42, 21, 6, 182, 0, 247, 104, 167, 0, 4, 3, 96]
abbrev dktX0_responseOf_3 : List UInt8 := dkwX0_responseOf_3 ++ dktX0_responseOf_4
def dkwX0_responseOf_2 : List UInt8 := [21, 6, 42, 182, 0, 159, 162, 0, 48, 21, 4, 28, 21, 6, 184, 0, 250, 153, 0, 27, 21, 5, 42]
abbrev dktX0_responseOf_2 : List UInt8 := dkwX0_responseOf_2 ++ dktX0_responseOf_3
def dkwX0_responseOf_1 : List UInt8 := [159, 0, 80, 21, 4, 29, 163, 0, 74, 21, 4, 54, 5, 42, 27, 182, 0, 247, 54, 4, 3, 54, 6]
abbrev dktX0_responseOf_1 : List UInt8 := dkwX0_responseOf_1 ++ dktX0_responseOf_2
def dkwX0_responseOf_0 : List UInt8 := [42, 27, 182, 0, 178, 180, 0, 185, 62, 42, 27, 182, 0, 247, 54, 4, 3, 54, 5, 21, 4, 21, 5]
abbrev dktX0_responseOf_0 : List UInt8 := dkwX0_responseOf_0 ++ dktX0_responseOf_1
theorem dksX0_responseOf_0 : cX0_responseOf.data.toList.drop 0 = dktX0_responseOf_0 := by decide +kernel
theorem dksX0_responseOf_1 : cX0_responseOf.data.toList.drop 23 = dktX0_responseOf_1 := dk_seg dksX0_responseOf_0 23 rfl rfl
theorem dksX0_responseOf_2 : cX0_responseOf.data.toList.drop 46 = dktX0_responseOf_2 := dk_seg dksX0_responseOf_1 23 rfl rfl
theorem dksX0_responseOf_3 : cX0_responseOf.data.toList.drop 69 = dktX0_responseOf_3 := dk_seg dksX0_responseOf_2 23 rfl rfl
theorem dksX0_responseOf_4 : cX0_responseOf.data.toList.drop 92 = dktX0_responseOf_4 := dk_seg dksX0_responseOf_3 23 rfl rfl
theorem dX0_responseOf_0 : decode cX0_responseOf 0 = .ok (.aload_n 0, 1) := dk_42 (dk_at dksX0_responseOf_0 0 rfl rfl)
theorem dX0_responseOf_1 : decode cX0_responseOf 1 = .ok (.iload_n 1, 1) := dk_27 (dk_at dksX0_responseOf_0 1 rfl rfl)
theorem dX0_responseOf_2 : decode cX0_responseOf 2 = .ok (.invokevirtual 178, 3) := dk_182 0 178 (dk_at dksX0_responseOf_0 2 rfl rfl)
theorem dX0_responseOf_5 : decode cX0_responseOf 5 = .ok (.getfield 185, 3) := dk_180 0 185 (dk_at dksX0_responseOf_0 5 rfl rfl)
theorem dX0_responseOf_8 : decode cX0_responseOf 8 = .ok (.istore_n 3, 1) := dk_62 (dk_at dksX0_responseOf_0 8 rfl rfl)
theorem dX0_responseOf_9 : decode cX0_responseOf 9 = .ok (.aload_n 0, 1) := dk_42 (dk_at dksX0_responseOf_0 9 rfl rfl)
theorem dX0_responseOf_10 : decode cX0_responseOf 10 = .ok (.iload_n 1, 1) := dk_27 (dk_at dksX0_responseOf_0 10 rfl rfl)
theorem dX0_responseOf_11 : decode cX0_responseOf 11 = .ok (.invokevirtual 247, 3) := dk_182 0 247 (dk_at dksX0_responseOf_0 11 rfl rfl)
theorem dX0_responseOf_14 : decode cX0_responseOf 14 = .ok (.istore 4, 2) := dk_54 4 (dk_at dksX0_responseOf_0 14 rfl rfl)
theorem dX0_responseOf_16 : decode cX0_responseOf 16 = .ok (.iconst 0, 1) := dk_3 (dk_at dksX0_responseOf_0 16 rfl rfl)
theorem dX0_responseOf_17 : decode cX0_responseOf 17 = .ok (.istore 5, 2) := dk_54 5 (dk_at dksX0_responseOf_0 17 rfl rfl)
theorem dX0_responseOf_19 : decode cX0_responseOf 19 = .ok (.iload 4, 2) := dk_21 4 (dk_at dksX0_responseOf_0 19 rfl rfl)
theorem dX0_responseOf_21 : decode cX0_responseOf 21 = .ok (.iload 5, 2) := dk_21 5 (dk_at dksX0_responseOf_0 21 rfl rfl)
theorem dX0_responseOf_23 : decode cX0_responseOf 23 = .ok (.if_icmp .eq 80, 3) := dk_159 0 80 (dk_at dksX0_responseOf_1 0 rfl rfl)
theorem dX0_responseOf_26 : decode cX0_responseOf 26 = .ok (.iload 4, 2) := dk_21 4 (dk_at dksX0_responseOf_1 3 rfl rfl)
theorem dX0_responseOf_28 : decode cX0_responseOf 28 = .ok (.iload_n 3, 1) := dk_29 (dk_at dksX0_responseOf_1 5 rfl rfl)
theorem dX0_responseOf_29 : decode cX0_responseOf 29 = .ok (.if_icmp .gt 74, 3) := dk_163 0 74 (dk_at dksX0_responseOf_1 6 rfl rfl)
theorem dX0_responseOf_32 : decode cX0_responseOf 32 = .ok (.iload 4, 2) := dk_21 4 (dk_at dksX0_responseOf_1 9 rfl rfl)
theorem dX0_responseOf_34 : decode cX0_responseOf 34 = .ok (.istore 5, 2) := dk_54 5 (dk_at dksX0_responseOf_1 11 rfl rfl)
theorem dX0_responseOf_36 : decode cX0_responseOf 36 = .ok (.aload_n 0, 1) := dk_42 (dk_at dksX0_responseOf_1 13 rfl rfl)
theorem dX0_responseOf_37 : decode cX0_responseOf 37 = .ok (.iload_n 1, 1) := dk_27 (dk_at dksX0_responseOf_1 14 rfl rfl)
theorem dX0_responseOf_38 : decode cX0_responseOf 38 = .ok (.invokevirtual 247, 3) := dk_182 0 247 (dk_at dksX0_responseOf_1 15 rfl rfl)
theorem dX0_responseOf_41 : decode cX0_responseOf 41 = .ok (.istore 4, 2) := dk_54 4 (dk_at dksX0_responseOf_1 18 rfl rfl)
theorem dX0_responseOf_43 : decode cX0_responseOf 43 = .ok (.iconst 0, 1) := dk_3 (dk_at dksX0_responseOf_1 20 rfl rfl)
theorem dX0_responseOf_44 : decode cX0_responseOf 44 = .ok (.istore 6, 2) := dk_54 6 (dk_at dksX0_responseOf_1 21 rfl rfl)
theorem dX0_responseOf_46 : decode cX0_responseOf 46 = .ok (.iload 6, 2) := dk_21 6 (dk_at dksX0_responseOf_2 0 rfl rfl)
theorem dX0_responseOf_48 : decode cX0_responseOf 48 = .ok (.aload_n 0, 1) := dk_42 (dk_at dksX0_responseOf_2 2 rfl rfl)
theorem dX0_responseOf_49 : decode cX0_responseOf 49 = .ok (.invokevirtual 159, 3) := dk_182 0 159 (dk_at dksX0_responseOf_2 3 rfl rfl)
theorem dX0_responseOf_52 : decode cX0_responseOf 52 = .ok (.if_icmp .ge 48, 3) := dk_162 0 48 (dk_at dksX0_responseOf_2 6 rfl rfl)
theorem dX0_responseOf_55 : decode cX0_responseOf 55 = .ok (.iload 4, 2) := dk_21 4 (dk_at dksX0_responseOf_2 9 rfl rfl)
theorem dX0_responseOf_57 : decode cX0_responseOf 57 = .ok (.iload_n 2, 1) := dk_28 (dk_at dksX0_responseOf_2 11 rfl rfl)
theorem dX0_responseOf_58 : decode cX0_responseOf 58 = .ok (.iload 6, 2) := dk_21 6 (dk_at dksX0_responseOf_2 12 rfl rfl)
theorem dX0_responseOf_60 : decode cX0_responseOf 60 = .ok (.invokestatic 250, 3) := dk_184 0 250 (dk_at dksX0_responseOf_2 14 rfl rfl)
theorem dX0_responseOf_63 : decode cX0_responseOf 63 = .ok (.ifCond .eq 27, 3) := dk_153 0 27 (dk_at dksX0_responseOf_2 17 rfl rfl)
theorem dX0_responseOf_66 : decode cX0_responseOf 66 = .ok (.iload 5, 2) := dk_21 5 (dk_at dksX0_responseOf_2 20 rfl rfl)
theorem dX0_responseOf_68 : decode cX0_responseOf 68 = .ok (.aload_n 0, 1) := dk_42 (dk_at dksX0_responseOf_2 22 rfl rfl)
theorem dX0_responseOf_69 : decode cX0_responseOf 69 = .ok (.iload 6, 2) := dk_21 6 (dk_at dksX0_responseOf_3 0 rfl rfl)
theorem dX0_responseOf_71 : decode cX0_responseOf 71 = .ok (.invokevirtual 178, 3) := dk_182 0 178 (dk_at dksX0_responseOf_3 2 rfl rfl)
theorem dX0_responseOf_74 : decode cX0_responseOf 74 = .ok (.getfield 185, 3) := dk_180 0 185 (dk_at dksX0_responseOf_3 5 rfl rfl)
theorem dX0_responseOf_77 : decode cX0_responseOf 77 = .ok (.invokestatic 254, 3) := dk_184 0 254 (dk_at dksX0_responseOf_3 8 rfl rfl)
theorem dX0_responseOf_80 : decode cX0_responseOf 80 = .ok (.aload_n 0, 1) := dk_42 (dk_at dksX0_responseOf_3 11 rfl rfl)
theorem dX0_responseOf_81 : decode cX0_responseOf 81 = .ok (.iload 6, 2) := dk_21 6 (dk_at dksX0_responseOf_3 12 rfl rfl)
theorem dX0_responseOf_83 : decode cX0_responseOf 83 = .ok (.invokevirtual 247, 3) := dk_182 0 247 (dk_at dksX0_responseOf_3 14 rfl rfl)
theorem dX0_responseOf_86 : decode cX0_responseOf 86 = .ok (.imul, 1) := dk_104 (dk_at dksX0_responseOf_3 17 rfl rfl)
theorem dX0_responseOf_87 : decode cX0_responseOf 87 = .ok (.goto 4, 3) := dk_167 0 4 (dk_at dksX0_responseOf_3 18 rfl rfl)
theorem dX0_responseOf_90 : decode cX0_responseOf 90 = .ok (.iconst 0, 1) := dk_3 (dk_at dksX0_responseOf_3 21 rfl rfl)
theorem dX0_responseOf_91 : decode cX0_responseOf 91 = .ok (.iadd, 1) := dk_96 (dk_at dksX0_responseOf_3 22 rfl rfl)
theorem dX0_responseOf_92 : decode cX0_responseOf 92 = .ok (.istore 4, 2) := dk_54 4 (dk_at dksX0_responseOf_4 0 rfl rfl)
theorem dX0_responseOf_94 : decode cX0_responseOf 94 = .ok (.iinc 6 1, 3) := dk_132 6 1 (dk_at dksX0_responseOf_4 2 rfl rfl)
theorem dX0_responseOf_97 : decode cX0_responseOf 97 = .ok (.goto (-51), 3) := dk_167 255 205 (dk_at dksX0_responseOf_4 5 rfl rfl)
theorem dX0_responseOf_100 : decode cX0_responseOf 100 = .ok (.goto (-81), 3) := dk_167 255 175 (dk_at dksX0_responseOf_4 8 rfl rfl)
theorem dX0_responseOf_103 : decode cX0_responseOf 103 = .ok (.iload 4, 2) := dk_21 4 (dk_at dksX0_responseOf_4 11 rfl rfl)
theorem dX0_responseOf_105 : decode cX0_responseOf 105 = .ok (.iload_n 3, 1) := dk_29 (dk_at dksX0_responseOf_4 13 rfl rfl)
theorem dX0_responseOf_106 : decode cX0_responseOf 106 = .ok (.if_icmp .gt 8, 3) := dk_163 0 8 (dk_at dksX0_responseOf_4 14 rfl rfl)
theorem dX0_responseOf_109 : decode cX0_responseOf 109 = .ok (.iload 4, 2) := dk_21 4 (dk_at dksX0_responseOf_4 17 rfl rfl)
theorem dX0_responseOf_111 : decode cX0_responseOf 111 = .ok (.goto 4, 3) := dk_167 0 4 (dk_at dksX0_responseOf_4 19 rfl rfl)
theorem dX0_responseOf_114 : decode cX0_responseOf 114 = .ok (.iconst (-1), 1) := dk_2 (dk_at dksX0_responseOf_4 22 rfl rfl)
theorem dX0_responseOf_115 : decode cX0_responseOf 115 = .ok (.ireturn, 1) := dk_172 (dk_at dksX0_responseOf_4 23 rfl rfl)
abbrev cX0_longer : ByteArray := prog_1_method_21_code
def yX0_longer : MethodName := ⟨RX0, "longer", "(I)I"⟩
def dkwX0_longer_1 : List UInt8 := [96, 172]
abbrev dktX0_longer_1 : List UInt8 := dkwX0_longer_1 ++ []
def dkwX0_longer_0 : List UInt8 := [42, 27, 182, 0, 178, 182, 0, 241, 27, 42, 180, 0, 28, 160, 0, 10, 42, 180, 0, 244, 167, 0, 4, 3]
abbrev dktX0_longer_0 : List UInt8 := dkwX0_longer_0 ++ dktX0_longer_1
theorem dksX0_longer_0 : cX0_longer.data.toList.drop 0 = dktX0_longer_0 := by decide +kernel
theorem dksX0_longer_1 : cX0_longer.data.toList.drop 24 = dktX0_longer_1 := dk_seg dksX0_longer_0 24 rfl rfl
theorem dX0_longer_0 : decode cX0_longer 0 = .ok (.aload_n 0, 1) := dk_42 (dk_at dksX0_longer_0 0 rfl rfl)
theorem dX0_longer_1 : decode cX0_longer 1 = .ok (.iload_n 1, 1) := dk_27 (dk_at dksX0_longer_0 1 rfl rfl)
theorem dX0_longer_2 : decode cX0_longer 2 = .ok (.invokevirtual 178, 3) := dk_182 0 178 (dk_at dksX0_longer_0 2 rfl rfl)
theorem dX0_longer_5 : decode cX0_longer 5 = .ok (.invokevirtual 241, 3) := dk_182 0 241 (dk_at dksX0_longer_0 5 rfl rfl)
theorem dX0_longer_8 : decode cX0_longer 8 = .ok (.iload_n 1, 1) := dk_27 (dk_at dksX0_longer_0 8 rfl rfl)
theorem dX0_longer_9 : decode cX0_longer 9 = .ok (.aload_n 0, 1) := dk_42 (dk_at dksX0_longer_0 9 rfl rfl)
theorem dX0_longer_10 : decode cX0_longer 10 = .ok (.getfield 28, 3) := dk_180 0 28 (dk_at dksX0_longer_0 10 rfl rfl)
theorem dX0_longer_13 : decode cX0_longer 13 = .ok (.if_icmp .ne 10, 3) := dk_160 0 10 (dk_at dksX0_longer_0 13 rfl rfl)
theorem dX0_longer_16 : decode cX0_longer 16 = .ok (.aload_n 0, 1) := dk_42 (dk_at dksX0_longer_0 16 rfl rfl)
theorem dX0_longer_17 : decode cX0_longer 17 = .ok (.getfield 244, 3) := dk_180 0 244 (dk_at dksX0_longer_0 17 rfl rfl)
theorem dX0_longer_20 : decode cX0_longer 20 = .ok (.goto 4, 3) := dk_167 0 4 (dk_at dksX0_longer_0 20 rfl rfl)
theorem dX0_longer_23 : decode cX0_longer 23 = .ok (.iconst 0, 1) := dk_3 (dk_at dksX0_longer_0 23 rfl rfl)
theorem dX0_longer_24 : decode cX0_longer 24 = .ok (.iadd, 1) := dk_96 (dk_at dksX0_longer_1 0 rfl rfl)
theorem dX0_longer_25 : decode cX0_longer 25 = .ok (.ireturn, 1) := dk_172 (dk_at dksX0_longer_1 1 rfl rfl)
abbrev cX0_up : ByteArray := prog_1_method_20_code
def yX0_up : MethodName := ⟨RX0, "up", "(II)I"⟩
def dkwX0_up_0 : List UInt8 := [26, 27, 96, 4, 100, 27, 108, 172]
abbrev dktX0_up_0 : List UInt8 := dkwX0_up_0 ++ []
theorem dksX0_up_0 : cX0_up.data.toList.drop 0 = dktX0_up_0 := by decide +kernel
theorem dX0_up_0 : decode cX0_up 0 = .ok (.iload_n 0, 1) := dk_26 (dk_at dksX0_up_0 0 rfl rfl)
theorem dX0_up_1 : decode cX0_up 1 = .ok (.iload_n 1, 1) := dk_27 (dk_at dksX0_up_0 1 rfl rfl)
theorem dX0_up_2 : decode cX0_up 2 = .ok (.iadd, 1) := dk_96 (dk_at dksX0_up_0 2 rfl rfl)
theorem dX0_up_3 : decode cX0_up 3 = .ok (.iconst 1, 1) := dk_4 (dk_at dksX0_up_0 3 rfl rfl)
theorem dX0_up_4 : decode cX0_up 4 = .ok (.isub, 1) := dk_100 (dk_at dksX0_up_0 4 rfl rfl)
theorem dX0_up_5 : decode cX0_up 5 = .ok (.iload_n 1, 1) := dk_27 (dk_at dksX0_up_0 5 rfl rfl)
theorem dX0_up_6 : decode cX0_up 6 = .ok (.idiv, 1) := dk_108 (dk_at dksX0_up_0 6 rfl rfl)
theorem dX0_up_7 : decode cX0_up 7 = .ok (.ireturn, 1) := dk_172 (dk_at dksX0_up_0 7 rfl rfl)
abbrev cX0_least : ByteArray := prog_1_method_26_code
def yX0_least : MethodName := ⟨RX0, "least", "(II)I"⟩
def dkwX0_least_2 : List UInt8 := [182, 1, 21, 172]
abbrev dktX0_least_2 : List UInt8 := dkwX0_least_2 ++ []
def dkwX0_least_1 : List UInt8 := [27, 27, 184, 1, 2, 182, 1, 5, 62, 29, 2, 160, 0, 7, 2, 167, 0, 10, 42, 27, 28, 29]
abbrev dktX0_least_1 : List UInt8 := dkwX0_least_1 ++ dktX0_least_2
def dkwX0_least_0 : List UInt8 := [42, 27, 182, 0, 168, 153, 0, 15, 28, 133, 9, 20, 1, 19, 184, 0, 116, 154, 0, 6, 16, 254, 172, 42]
abbrev dktX0_least_0 : List UInt8 := dkwX0_least_0 ++ dktX0_least_1
theorem dksX0_least_0 : cX0_least.data.toList.drop 0 = dktX0_least_0 := by decide +kernel
theorem dksX0_least_1 : cX0_least.data.toList.drop 24 = dktX0_least_1 := dk_seg dksX0_least_0 24 rfl rfl
theorem dksX0_least_2 : cX0_least.data.toList.drop 46 = dktX0_least_2 := dk_seg dksX0_least_1 22 rfl rfl
theorem dX0_least_0 : decode cX0_least 0 = .ok (.aload_n 0, 1) := dk_42 (dk_at dksX0_least_0 0 rfl rfl)
theorem dX0_least_1 : decode cX0_least 1 = .ok (.iload_n 1, 1) := dk_27 (dk_at dksX0_least_0 1 rfl rfl)
theorem dX0_least_2 : decode cX0_least 2 = .ok (.invokevirtual 168, 3) := dk_182 0 168 (dk_at dksX0_least_0 2 rfl rfl)
theorem dX0_least_5 : decode cX0_least 5 = .ok (.ifCond .eq 15, 3) := dk_153 0 15 (dk_at dksX0_least_0 5 rfl rfl)
theorem dX0_least_8 : decode cX0_least 8 = .ok (.iload_n 2, 1) := dk_28 (dk_at dksX0_least_0 8 rfl rfl)
theorem dX0_least_9 : decode cX0_least 9 = .ok (.i2l, 1) := dk_133 (dk_at dksX0_least_0 9 rfl rfl)
theorem dX0_least_10 : decode cX0_least 10 = .ok (.lconst 0, 1) := dk_9 (dk_at dksX0_least_0 10 rfl rfl)
theorem dX0_least_11 : decode cX0_least 11 = .ok (.ldc2_w 275, 3) := dk_20 1 19 (dk_at dksX0_least_0 11 rfl rfl)
theorem dX0_least_14 : decode cX0_least 14 = .ok (.invokestatic 116, 3) := dk_184 0 116 (dk_at dksX0_least_0 14 rfl rfl)
theorem dX0_least_17 : decode cX0_least 17 = .ok (.ifCond .ne 6, 3) := dk_154 0 6 (dk_at dksX0_least_0 17 rfl rfl)
theorem dX0_least_20 : decode cX0_least 20 = .ok (.bipush (-2), 2) := dk_16 254 (dk_at dksX0_least_0 20 rfl rfl)
theorem dX0_least_22 : decode cX0_least 22 = .ok (.ireturn, 1) := dk_172 (dk_at dksX0_least_0 22 rfl rfl)
theorem dX0_least_23 : decode cX0_least 23 = .ok (.aload_n 0, 1) := dk_42 (dk_at dksX0_least_0 23 rfl rfl)
theorem dX0_least_24 : decode cX0_least 24 = .ok (.iload_n 1, 1) := dk_27 (dk_at dksX0_least_1 0 rfl rfl)
theorem dX0_least_25 : decode cX0_least 25 = .ok (.iload_n 1, 1) := dk_27 (dk_at dksX0_least_1 1 rfl rfl)
theorem dX0_least_26 : decode cX0_least 26 = .ok (.invokestatic 258, 3) := dk_184 1 2 (dk_at dksX0_least_1 2 rfl rfl)
theorem dX0_least_29 : decode cX0_least 29 = .ok (.invokevirtual 261, 3) := dk_182 1 5 (dk_at dksX0_least_1 5 rfl rfl)
theorem dX0_least_32 : decode cX0_least 32 = .ok (.istore_n 3, 1) := dk_62 (dk_at dksX0_least_1 8 rfl rfl)
theorem dX0_least_33 : decode cX0_least 33 = .ok (.iload_n 3, 1) := dk_29 (dk_at dksX0_least_1 9 rfl rfl)
theorem dX0_least_34 : decode cX0_least 34 = .ok (.iconst (-1), 1) := dk_2 (dk_at dksX0_least_1 10 rfl rfl)
theorem dX0_least_35 : decode cX0_least 35 = .ok (.if_icmp .ne 7, 3) := dk_160 0 7 (dk_at dksX0_least_1 11 rfl rfl)
theorem dX0_least_38 : decode cX0_least 38 = .ok (.iconst (-1), 1) := dk_2 (dk_at dksX0_least_1 14 rfl rfl)
theorem dX0_least_39 : decode cX0_least 39 = .ok (.goto 10, 3) := dk_167 0 10 (dk_at dksX0_least_1 15 rfl rfl)
theorem dX0_least_42 : decode cX0_least 42 = .ok (.aload_n 0, 1) := dk_42 (dk_at dksX0_least_1 18 rfl rfl)
theorem dX0_least_43 : decode cX0_least 43 = .ok (.iload_n 1, 1) := dk_27 (dk_at dksX0_least_1 19 rfl rfl)
theorem dX0_least_44 : decode cX0_least 44 = .ok (.iload_n 2, 1) := dk_28 (dk_at dksX0_least_1 20 rfl rfl)
theorem dX0_least_45 : decode cX0_least 45 = .ok (.iload_n 3, 1) := dk_29 (dk_at dksX0_least_1 21 rfl rfl)
theorem dX0_least_46 : decode cX0_least 46 = .ok (.invokevirtual 277, 3) := dk_182 1 21 (dk_at dksX0_least_2 0 rfl rfl)
theorem dX0_least_49 : decode cX0_least 49 = .ok (.ireturn, 1) := dk_172 (dk_at dksX0_least_2 3 rfl rfl)
abbrev cX0_leastOf : ByteArray := prog_1_method_25_code
def yX0_leastOf : MethodName := ⟨RX0, "leastOf", "(III)I"⟩
def dkwX0_leastOf_5 : List UInt8 := [21, 5, 96, 25, 4, 180, 0, 185, 184, 0, 254, 172]
abbrev dktX0_leastOf_5 : List UInt8 := dkwX0_leastOf_5 ++ []
def dkwX0_leastOf_4 : List UInt8 := [180, 1, 11, 21, 5, 100, 184, 1, 14, 25, 4, 180, 0, 185, 108, 172, 42, 180, 0, 10, 180, 1, 11]
abbrev dktX0_leastOf_4 : List UInt8 := dkwX0_leastOf_4 ++ dktX0_leastOf_5
def dkwX0_leastOf_3 : List UInt8 := [25, 4, 180, 0, 185, 21, 5, 100, 172, 25, 4, 180, 0, 185, 21, 5, 96, 172, 3, 42, 180, 0, 10]
abbrev dktX0_leastOf_3 : List UInt8 := dkwX0_leastOf_3 ++ dktX0_leastOf_4
def dkwX0_leastOf_2 : List UInt8 := [170, 0, 0, 0, 0, 65, 0, 0, 0, 0, 0, 0, 0, 2, 0, 0, 0, 26, 0, 0, 0, 35, 0, 0, 0, 44]
abbrev dktX0_leastOf_2 : List UInt8 := dkwX0_leastOf_2 ++ dktX0_leastOf_3
def dkwX0_leastOf_1 : List UInt8 := [180, 0, 244, 167, 0, 4, 3, 100, 54, 5, 28]
abbrev dktX0_leastOf_1 : List UInt8 := dkwX0_leastOf_1 ++ dktX0_leastOf_2
def dkwX0_leastOf_0 : List UInt8 := [42, 27, 182, 0, 178, 58, 4, 29, 25, 4, 182, 1, 8, 100, 27, 42, 180, 0, 28, 160, 0, 10, 42]
abbrev dktX0_leastOf_0 : List UInt8 := dkwX0_leastOf_0 ++ dktX0_leastOf_1
theorem dksX0_leastOf_0 : cX0_leastOf.data.toList.drop 0 = dktX0_leastOf_0 := by decide +kernel
theorem dksX0_leastOf_1 : cX0_leastOf.data.toList.drop 23 = dktX0_leastOf_1 := dk_seg dksX0_leastOf_0 23 rfl rfl
theorem dksX0_leastOf_2 : cX0_leastOf.data.toList.drop 34 = dktX0_leastOf_2 := dk_seg dksX0_leastOf_1 11 rfl rfl
theorem dksX0_leastOf_3 : cX0_leastOf.data.toList.drop 60 = dktX0_leastOf_3 := dk_seg dksX0_leastOf_2 26 rfl rfl
theorem dksX0_leastOf_4 : cX0_leastOf.data.toList.drop 83 = dktX0_leastOf_4 := dk_seg dksX0_leastOf_3 23 rfl rfl
theorem dksX0_leastOf_5 : cX0_leastOf.data.toList.drop 106 = dktX0_leastOf_5 := dk_seg dksX0_leastOf_4 23 rfl rfl
theorem dX0_leastOf_0 : decode cX0_leastOf 0 = .ok (.aload_n 0, 1) := dk_42 (dk_at dksX0_leastOf_0 0 rfl rfl)
theorem dX0_leastOf_1 : decode cX0_leastOf 1 = .ok (.iload_n 1, 1) := dk_27 (dk_at dksX0_leastOf_0 1 rfl rfl)
theorem dX0_leastOf_2 : decode cX0_leastOf 2 = .ok (.invokevirtual 178, 3) := dk_182 0 178 (dk_at dksX0_leastOf_0 2 rfl rfl)
theorem dX0_leastOf_5 : decode cX0_leastOf 5 = .ok (.astore 4, 2) := dk_58 4 (dk_at dksX0_leastOf_0 5 rfl rfl)
theorem dX0_leastOf_7 : decode cX0_leastOf 7 = .ok (.iload_n 3, 1) := dk_29 (dk_at dksX0_leastOf_0 7 rfl rfl)
theorem dX0_leastOf_8 : decode cX0_leastOf 8 = .ok (.aload 4, 2) := dk_25 4 (dk_at dksX0_leastOf_0 8 rfl rfl)
theorem dX0_leastOf_10 : decode cX0_leastOf 10 = .ok (.invokevirtual 264, 3) := dk_182 1 8 (dk_at dksX0_leastOf_0 10 rfl rfl)
theorem dX0_leastOf_13 : decode cX0_leastOf 13 = .ok (.isub, 1) := dk_100 (dk_at dksX0_leastOf_0 13 rfl rfl)
theorem dX0_leastOf_14 : decode cX0_leastOf 14 = .ok (.iload_n 1, 1) := dk_27 (dk_at dksX0_leastOf_0 14 rfl rfl)
theorem dX0_leastOf_15 : decode cX0_leastOf 15 = .ok (.aload_n 0, 1) := dk_42 (dk_at dksX0_leastOf_0 15 rfl rfl)
theorem dX0_leastOf_16 : decode cX0_leastOf 16 = .ok (.getfield 28, 3) := dk_180 0 28 (dk_at dksX0_leastOf_0 16 rfl rfl)
theorem dX0_leastOf_19 : decode cX0_leastOf 19 = .ok (.if_icmp .ne 10, 3) := dk_160 0 10 (dk_at dksX0_leastOf_0 19 rfl rfl)
theorem dX0_leastOf_22 : decode cX0_leastOf 22 = .ok (.aload_n 0, 1) := dk_42 (dk_at dksX0_leastOf_0 22 rfl rfl)
theorem dX0_leastOf_23 : decode cX0_leastOf 23 = .ok (.getfield 244, 3) := dk_180 0 244 (dk_at dksX0_leastOf_1 0 rfl rfl)
theorem dX0_leastOf_26 : decode cX0_leastOf 26 = .ok (.goto 4, 3) := dk_167 0 4 (dk_at dksX0_leastOf_1 3 rfl rfl)
theorem dX0_leastOf_29 : decode cX0_leastOf 29 = .ok (.iconst 0, 1) := dk_3 (dk_at dksX0_leastOf_1 6 rfl rfl)
theorem dX0_leastOf_30 : decode cX0_leastOf 30 = .ok (.isub, 1) := dk_100 (dk_at dksX0_leastOf_1 7 rfl rfl)
theorem dX0_leastOf_31 : decode cX0_leastOf 31 = .ok (.istore 5, 2) := dk_54 5 (dk_at dksX0_leastOf_1 8 rfl rfl)
theorem dX0_leastOf_33 : decode cX0_leastOf 33 = .ok (.iload_n 2, 1) := dk_28 (dk_at dksX0_leastOf_1 10 rfl rfl)
theorem dX0_leastOf_34 : decode cX0_leastOf 34 = .ok (.tableswitch 65 0 2 #[26, 35, 44], 26) := by decide +kernel
theorem dX0_leastOf_60 : decode cX0_leastOf 60 = .ok (.aload 4, 2) := dk_25 4 (dk_at dksX0_leastOf_3 0 rfl rfl)
theorem dX0_leastOf_62 : decode cX0_leastOf 62 = .ok (.getfield 185, 3) := dk_180 0 185 (dk_at dksX0_leastOf_3 2 rfl rfl)
theorem dX0_leastOf_65 : decode cX0_leastOf 65 = .ok (.iload 5, 2) := dk_21 5 (dk_at dksX0_leastOf_3 5 rfl rfl)
theorem dX0_leastOf_67 : decode cX0_leastOf 67 = .ok (.isub, 1) := dk_100 (dk_at dksX0_leastOf_3 7 rfl rfl)
theorem dX0_leastOf_68 : decode cX0_leastOf 68 = .ok (.ireturn, 1) := dk_172 (dk_at dksX0_leastOf_3 8 rfl rfl)
theorem dX0_leastOf_69 : decode cX0_leastOf 69 = .ok (.aload 4, 2) := dk_25 4 (dk_at dksX0_leastOf_3 9 rfl rfl)
theorem dX0_leastOf_71 : decode cX0_leastOf 71 = .ok (.getfield 185, 3) := dk_180 0 185 (dk_at dksX0_leastOf_3 11 rfl rfl)
theorem dX0_leastOf_74 : decode cX0_leastOf 74 = .ok (.iload 5, 2) := dk_21 5 (dk_at dksX0_leastOf_3 14 rfl rfl)
theorem dX0_leastOf_76 : decode cX0_leastOf 76 = .ok (.iadd, 1) := dk_96 (dk_at dksX0_leastOf_3 16 rfl rfl)
theorem dX0_leastOf_77 : decode cX0_leastOf 77 = .ok (.ireturn, 1) := dk_172 (dk_at dksX0_leastOf_3 17 rfl rfl)
theorem dX0_leastOf_78 : decode cX0_leastOf 78 = .ok (.iconst 0, 1) := dk_3 (dk_at dksX0_leastOf_3 18 rfl rfl)
theorem dX0_leastOf_79 : decode cX0_leastOf 79 = .ok (.aload_n 0, 1) := dk_42 (dk_at dksX0_leastOf_3 19 rfl rfl)
theorem dX0_leastOf_80 : decode cX0_leastOf 80 = .ok (.getfield 10, 3) := dk_180 0 10 (dk_at dksX0_leastOf_3 20 rfl rfl)
theorem dX0_leastOf_83 : decode cX0_leastOf 83 = .ok (.getfield 267, 3) := dk_180 1 11 (dk_at dksX0_leastOf_4 0 rfl rfl)
theorem dX0_leastOf_86 : decode cX0_leastOf 86 = .ok (.iload 5, 2) := dk_21 5 (dk_at dksX0_leastOf_4 3 rfl rfl)
theorem dX0_leastOf_88 : decode cX0_leastOf 88 = .ok (.isub, 1) := dk_100 (dk_at dksX0_leastOf_4 5 rfl rfl)
theorem dX0_leastOf_89 : decode cX0_leastOf 89 = .ok (.invokestatic 270, 3) := dk_184 1 14 (dk_at dksX0_leastOf_4 6 rfl rfl)
theorem dX0_leastOf_92 : decode cX0_leastOf 92 = .ok (.aload 4, 2) := dk_25 4 (dk_at dksX0_leastOf_4 9 rfl rfl)
theorem dX0_leastOf_94 : decode cX0_leastOf 94 = .ok (.getfield 185, 3) := dk_180 0 185 (dk_at dksX0_leastOf_4 11 rfl rfl)
theorem dX0_leastOf_97 : decode cX0_leastOf 97 = .ok (.idiv, 1) := dk_108 (dk_at dksX0_leastOf_4 14 rfl rfl)
theorem dX0_leastOf_98 : decode cX0_leastOf 98 = .ok (.ireturn, 1) := dk_172 (dk_at dksX0_leastOf_4 15 rfl rfl)
theorem dX0_leastOf_99 : decode cX0_leastOf 99 = .ok (.aload_n 0, 1) := dk_42 (dk_at dksX0_leastOf_4 16 rfl rfl)
theorem dX0_leastOf_100 : decode cX0_leastOf 100 = .ok (.getfield 10, 3) := dk_180 0 10 (dk_at dksX0_leastOf_4 17 rfl rfl)
theorem dX0_leastOf_103 : decode cX0_leastOf 103 = .ok (.getfield 267, 3) := dk_180 1 11 (dk_at dksX0_leastOf_4 20 rfl rfl)
theorem dX0_leastOf_106 : decode cX0_leastOf 106 = .ok (.iload 5, 2) := dk_21 5 (dk_at dksX0_leastOf_5 0 rfl rfl)
theorem dX0_leastOf_108 : decode cX0_leastOf 108 = .ok (.iadd, 1) := dk_96 (dk_at dksX0_leastOf_5 2 rfl rfl)
theorem dX0_leastOf_109 : decode cX0_leastOf 109 = .ok (.aload 4, 2) := dk_25 4 (dk_at dksX0_leastOf_5 3 rfl rfl)
theorem dX0_leastOf_111 : decode cX0_leastOf 111 = .ok (.getfield 185, 3) := dk_180 0 185 (dk_at dksX0_leastOf_5 5 rfl rfl)
theorem dX0_leastOf_114 : decode cX0_leastOf 114 = .ok (.invokestatic 254, 3) := dk_184 0 254 (dk_at dksX0_leastOf_5 8 rfl rfl)
theorem dX0_leastOf_117 : decode cX0_leastOf 117 = .ok (.ireturn, 1) := dk_172 (dk_at dksX0_leastOf_5 11 rfl rfl)
abbrev cX0_room : ByteArray := prog_1_method_29_code
def yX0_room : MethodName := ⟨RX0, "room", "(I)I"⟩
def dkwX0_room_3 : List UInt8 := [2, 181, 0, 28, 29, 172, 58, 4, 42, 2, 181, 0, 28, 25, 4, 191]
abbrev dktX0_room_3 : List UInt8 := dkwX0_room_3 ++ []
def dkwX0_room_2 : List UInt8 := [62, 42, 2, 181, 0, 28, 29, 172, 42, 89, 180, 0, 244, 4, 100, 181, 0, 244, 167, 255, 217, 3, 62, 42]
abbrev dktX0_room_2 : List UInt8 := dkwX0_room_2 ++ dktX0_room_3
def dkwX0_room_1 : List UInt8 := [181, 0, 244, 42, 180, 0, 244, 158, 0, 38, 42, 182, 1, 28, 28, 126, 28, 160, 0, 15, 42, 180, 0, 244]
abbrev dktX0_room_1 : List UInt8 := dkwX0_room_1 ++ dktX0_room_2
def dkwX0_room_0 : List UInt8 := [42, 27, 182, 0, 168, 154, 0, 6, 16, 254, 172, 42, 182, 1, 28, 61, 42, 27, 181, 0, 28, 42, 16, 50]
abbrev dktX0_room_0 : List UInt8 := dkwX0_room_0 ++ dktX0_room_1
theorem dksX0_room_0 : cX0_room.data.toList.drop 0 = dktX0_room_0 := by decide +kernel
theorem dksX0_room_1 : cX0_room.data.toList.drop 24 = dktX0_room_1 := dk_seg dksX0_room_0 24 rfl rfl
theorem dksX0_room_2 : cX0_room.data.toList.drop 48 = dktX0_room_2 := dk_seg dksX0_room_1 24 rfl rfl
theorem dksX0_room_3 : cX0_room.data.toList.drop 72 = dktX0_room_3 := dk_seg dksX0_room_2 24 rfl rfl
theorem dX0_room_0 : decode cX0_room 0 = .ok (.aload_n 0, 1) := dk_42 (dk_at dksX0_room_0 0 rfl rfl)
theorem dX0_room_1 : decode cX0_room 1 = .ok (.iload_n 1, 1) := dk_27 (dk_at dksX0_room_0 1 rfl rfl)
theorem dX0_room_2 : decode cX0_room 2 = .ok (.invokevirtual 168, 3) := dk_182 0 168 (dk_at dksX0_room_0 2 rfl rfl)
theorem dX0_room_5 : decode cX0_room 5 = .ok (.ifCond .ne 6, 3) := dk_154 0 6 (dk_at dksX0_room_0 5 rfl rfl)
theorem dX0_room_8 : decode cX0_room 8 = .ok (.bipush (-2), 2) := dk_16 254 (dk_at dksX0_room_0 8 rfl rfl)
theorem dX0_room_10 : decode cX0_room 10 = .ok (.ireturn, 1) := dk_172 (dk_at dksX0_room_0 10 rfl rfl)
theorem dX0_room_11 : decode cX0_room 11 = .ok (.aload_n 0, 1) := dk_42 (dk_at dksX0_room_0 11 rfl rfl)
theorem dX0_room_12 : decode cX0_room 12 = .ok (.invokevirtual 284, 3) := dk_182 1 28 (dk_at dksX0_room_0 12 rfl rfl)
theorem dX0_room_15 : decode cX0_room 15 = .ok (.istore_n 2, 1) := dk_61 (dk_at dksX0_room_0 15 rfl rfl)
theorem dX0_room_16 : decode cX0_room 16 = .ok (.aload_n 0, 1) := dk_42 (dk_at dksX0_room_0 16 rfl rfl)
theorem dX0_room_17 : decode cX0_room 17 = .ok (.iload_n 1, 1) := dk_27 (dk_at dksX0_room_0 17 rfl rfl)
theorem dX0_room_18 : decode cX0_room 18 = .ok (.putfield 28, 3) := dk_181 0 28 (dk_at dksX0_room_0 18 rfl rfl)
theorem dX0_room_21 : decode cX0_room 21 = .ok (.aload_n 0, 1) := dk_42 (dk_at dksX0_room_0 21 rfl rfl)
theorem dX0_room_22 : decode cX0_room 22 = .ok (.bipush 50, 2) := dk_16 50 (dk_at dksX0_room_0 22 rfl rfl)
theorem dX0_room_24 : decode cX0_room 24 = .ok (.putfield 244, 3) := dk_181 0 244 (dk_at dksX0_room_1 0 rfl rfl)
theorem dX0_room_27 : decode cX0_room 27 = .ok (.aload_n 0, 1) := dk_42 (dk_at dksX0_room_1 3 rfl rfl)
theorem dX0_room_28 : decode cX0_room 28 = .ok (.getfield 244, 3) := dk_180 0 244 (dk_at dksX0_room_1 4 rfl rfl)
theorem dX0_room_31 : decode cX0_room 31 = .ok (.ifCond .le 38, 3) := dk_158 0 38 (dk_at dksX0_room_1 7 rfl rfl)
theorem dX0_room_34 : decode cX0_room 34 = .ok (.aload_n 0, 1) := dk_42 (dk_at dksX0_room_1 10 rfl rfl)
theorem dX0_room_35 : decode cX0_room 35 = .ok (.invokevirtual 284, 3) := dk_182 1 28 (dk_at dksX0_room_1 11 rfl rfl)
theorem dX0_room_38 : decode cX0_room 38 = .ok (.iload_n 2, 1) := dk_28 (dk_at dksX0_room_1 14 rfl rfl)
theorem dX0_room_39 : decode cX0_room 39 = .ok (.iand, 1) := dk_126 (dk_at dksX0_room_1 15 rfl rfl)
theorem dX0_room_40 : decode cX0_room 40 = .ok (.iload_n 2, 1) := dk_28 (dk_at dksX0_room_1 16 rfl rfl)
theorem dX0_room_41 : decode cX0_room 41 = .ok (.if_icmp .ne 15, 3) := dk_160 0 15 (dk_at dksX0_room_1 17 rfl rfl)
theorem dX0_room_44 : decode cX0_room 44 = .ok (.aload_n 0, 1) := dk_42 (dk_at dksX0_room_1 20 rfl rfl)
theorem dX0_room_45 : decode cX0_room 45 = .ok (.getfield 244, 3) := dk_180 0 244 (dk_at dksX0_room_1 21 rfl rfl)
theorem dX0_room_48 : decode cX0_room 48 = .ok (.istore_n 3, 1) := dk_62 (dk_at dksX0_room_2 0 rfl rfl)
theorem dX0_room_49 : decode cX0_room 49 = .ok (.aload_n 0, 1) := dk_42 (dk_at dksX0_room_2 1 rfl rfl)
theorem dX0_room_50 : decode cX0_room 50 = .ok (.iconst (-1), 1) := dk_2 (dk_at dksX0_room_2 2 rfl rfl)
theorem dX0_room_51 : decode cX0_room 51 = .ok (.putfield 28, 3) := dk_181 0 28 (dk_at dksX0_room_2 3 rfl rfl)
theorem dX0_room_54 : decode cX0_room 54 = .ok (.iload_n 3, 1) := dk_29 (dk_at dksX0_room_2 6 rfl rfl)
theorem dX0_room_55 : decode cX0_room 55 = .ok (.ireturn, 1) := dk_172 (dk_at dksX0_room_2 7 rfl rfl)
theorem dX0_room_56 : decode cX0_room 56 = .ok (.aload_n 0, 1) := dk_42 (dk_at dksX0_room_2 8 rfl rfl)
theorem dX0_room_57 : decode cX0_room 57 = .ok (.dup, 1) := dk_89 (dk_at dksX0_room_2 9 rfl rfl)
theorem dX0_room_58 : decode cX0_room 58 = .ok (.getfield 244, 3) := dk_180 0 244 (dk_at dksX0_room_2 10 rfl rfl)
theorem dX0_room_61 : decode cX0_room 61 = .ok (.iconst 1, 1) := dk_4 (dk_at dksX0_room_2 13 rfl rfl)
theorem dX0_room_62 : decode cX0_room 62 = .ok (.isub, 1) := dk_100 (dk_at dksX0_room_2 14 rfl rfl)
theorem dX0_room_63 : decode cX0_room 63 = .ok (.putfield 244, 3) := dk_181 0 244 (dk_at dksX0_room_2 15 rfl rfl)
theorem dX0_room_66 : decode cX0_room 66 = .ok (.goto (-39), 3) := dk_167 255 217 (dk_at dksX0_room_2 18 rfl rfl)
theorem dX0_room_69 : decode cX0_room 69 = .ok (.iconst 0, 1) := dk_3 (dk_at dksX0_room_2 21 rfl rfl)
theorem dX0_room_70 : decode cX0_room 70 = .ok (.istore_n 3, 1) := dk_62 (dk_at dksX0_room_2 22 rfl rfl)
theorem dX0_room_71 : decode cX0_room 71 = .ok (.aload_n 0, 1) := dk_42 (dk_at dksX0_room_2 23 rfl rfl)
theorem dX0_room_72 : decode cX0_room 72 = .ok (.iconst (-1), 1) := dk_2 (dk_at dksX0_room_3 0 rfl rfl)
theorem dX0_room_73 : decode cX0_room 73 = .ok (.putfield 28, 3) := dk_181 0 28 (dk_at dksX0_room_3 1 rfl rfl)
theorem dX0_room_76 : decode cX0_room 76 = .ok (.iload_n 3, 1) := dk_29 (dk_at dksX0_room_3 4 rfl rfl)
theorem dX0_room_77 : decode cX0_room 77 = .ok (.ireturn, 1) := dk_172 (dk_at dksX0_room_3 5 rfl rfl)
theorem dX0_room_78 : decode cX0_room 78 = .ok (.astore 4, 2) := dk_58 4 (dk_at dksX0_room_3 6 rfl rfl)
theorem dX0_room_80 : decode cX0_room 80 = .ok (.aload_n 0, 1) := dk_42 (dk_at dksX0_room_3 8 rfl rfl)
theorem dX0_room_81 : decode cX0_room 81 = .ok (.iconst (-1), 1) := dk_2 (dk_at dksX0_room_3 9 rfl rfl)
theorem dX0_room_82 : decode cX0_room 82 = .ok (.putfield 28, 3) := dk_181 0 28 (dk_at dksX0_room_3 10 rfl rfl)
theorem dX0_room_85 : decode cX0_room 85 = .ok (.aload 4, 2) := dk_25 4 (dk_at dksX0_room_3 13 rfl rfl)
theorem dX0_room_87 : decode cX0_room 87 = .ok (.athrow, 1) := dk_191 (dk_at dksX0_room_3 15 rfl rfl)
abbrev cX0_lawfulNow : ByteArray := prog_1_method_28_code
def yX0_lawfulNow : MethodName := ⟨RX0, "lawfulNow", "()I"⟩
def dkwX0_lawfulNow_1 : List UInt8 := [153, 0, 9, 4, 28, 120, 167, 0, 4, 3, 128, 60, 132, 2, 1, 167, 255, 223, 27, 172]
abbrev dktX0_lawfulNow_1 : List UInt8 := dkwX0_lawfulNow_1 ++ []
def dkwX0_lawfulNow_0 : List UInt8 := [3, 60, 3, 61, 28, 42, 182, 0, 159, 162, 0, 31, 27, 42, 28, 28, 184, 1, 2, 182, 1, 25]
abbrev dktX0_lawfulNow_0 : List UInt8 := dkwX0_lawfulNow_0 ++ dktX0_lawfulNow_1
theorem dksX0_lawfulNow_0 : cX0_lawfulNow.data.toList.drop 0 = dktX0_lawfulNow_0 := by decide +kernel
theorem dksX0_lawfulNow_1 : cX0_lawfulNow.data.toList.drop 22 = dktX0_lawfulNow_1 := dk_seg dksX0_lawfulNow_0 22 rfl rfl
theorem dX0_lawfulNow_0 : decode cX0_lawfulNow 0 = .ok (.iconst 0, 1) := dk_3 (dk_at dksX0_lawfulNow_0 0 rfl rfl)
theorem dX0_lawfulNow_1 : decode cX0_lawfulNow 1 = .ok (.istore_n 1, 1) := dk_60 (dk_at dksX0_lawfulNow_0 1 rfl rfl)
theorem dX0_lawfulNow_2 : decode cX0_lawfulNow 2 = .ok (.iconst 0, 1) := dk_3 (dk_at dksX0_lawfulNow_0 2 rfl rfl)
theorem dX0_lawfulNow_3 : decode cX0_lawfulNow 3 = .ok (.istore_n 2, 1) := dk_61 (dk_at dksX0_lawfulNow_0 3 rfl rfl)
theorem dX0_lawfulNow_4 : decode cX0_lawfulNow 4 = .ok (.iload_n 2, 1) := dk_28 (dk_at dksX0_lawfulNow_0 4 rfl rfl)
theorem dX0_lawfulNow_5 : decode cX0_lawfulNow 5 = .ok (.aload_n 0, 1) := dk_42 (dk_at dksX0_lawfulNow_0 5 rfl rfl)
theorem dX0_lawfulNow_6 : decode cX0_lawfulNow 6 = .ok (.invokevirtual 159, 3) := dk_182 0 159 (dk_at dksX0_lawfulNow_0 6 rfl rfl)
theorem dX0_lawfulNow_9 : decode cX0_lawfulNow 9 = .ok (.if_icmp .ge 31, 3) := dk_162 0 31 (dk_at dksX0_lawfulNow_0 9 rfl rfl)
theorem dX0_lawfulNow_12 : decode cX0_lawfulNow 12 = .ok (.iload_n 1, 1) := dk_27 (dk_at dksX0_lawfulNow_0 12 rfl rfl)
theorem dX0_lawfulNow_13 : decode cX0_lawfulNow 13 = .ok (.aload_n 0, 1) := dk_42 (dk_at dksX0_lawfulNow_0 13 rfl rfl)
theorem dX0_lawfulNow_14 : decode cX0_lawfulNow 14 = .ok (.iload_n 2, 1) := dk_28 (dk_at dksX0_lawfulNow_0 14 rfl rfl)
theorem dX0_lawfulNow_15 : decode cX0_lawfulNow 15 = .ok (.iload_n 2, 1) := dk_28 (dk_at dksX0_lawfulNow_0 15 rfl rfl)
theorem dX0_lawfulNow_16 : decode cX0_lawfulNow 16 = .ok (.invokestatic 258, 3) := dk_184 1 2 (dk_at dksX0_lawfulNow_0 16 rfl rfl)
theorem dX0_lawfulNow_19 : decode cX0_lawfulNow 19 = .ok (.invokevirtual 281, 3) := dk_182 1 25 (dk_at dksX0_lawfulNow_0 19 rfl rfl)
theorem dX0_lawfulNow_22 : decode cX0_lawfulNow 22 = .ok (.ifCond .eq 9, 3) := dk_153 0 9 (dk_at dksX0_lawfulNow_1 0 rfl rfl)
theorem dX0_lawfulNow_25 : decode cX0_lawfulNow 25 = .ok (.iconst 1, 1) := dk_4 (dk_at dksX0_lawfulNow_1 3 rfl rfl)
theorem dX0_lawfulNow_26 : decode cX0_lawfulNow 26 = .ok (.iload_n 2, 1) := dk_28 (dk_at dksX0_lawfulNow_1 4 rfl rfl)
theorem dX0_lawfulNow_27 : decode cX0_lawfulNow 27 = .ok (.ishl, 1) := dk_120 (dk_at dksX0_lawfulNow_1 5 rfl rfl)
theorem dX0_lawfulNow_28 : decode cX0_lawfulNow 28 = .ok (.goto 4, 3) := dk_167 0 4 (dk_at dksX0_lawfulNow_1 6 rfl rfl)
theorem dX0_lawfulNow_31 : decode cX0_lawfulNow 31 = .ok (.iconst 0, 1) := dk_3 (dk_at dksX0_lawfulNow_1 9 rfl rfl)
theorem dX0_lawfulNow_32 : decode cX0_lawfulNow 32 = .ok (.ior, 1) := dk_128 (dk_at dksX0_lawfulNow_1 10 rfl rfl)
theorem dX0_lawfulNow_33 : decode cX0_lawfulNow 33 = .ok (.istore_n 1, 1) := dk_60 (dk_at dksX0_lawfulNow_1 11 rfl rfl)
theorem dX0_lawfulNow_34 : decode cX0_lawfulNow 34 = .ok (.iinc 2 1, 3) := dk_132 2 1 (dk_at dksX0_lawfulNow_1 12 rfl rfl)
theorem dX0_lawfulNow_37 : decode cX0_lawfulNow 37 = .ok (.goto (-33), 3) := dk_167 255 223 (dk_at dksX0_lawfulNow_1 15 rfl rfl)
theorem dX0_lawfulNow_40 : decode cX0_lawfulNow 40 = .ok (.iload_n 1, 1) := dk_27 (dk_at dksX0_lawfulNow_1 18 rfl rfl)
theorem dX0_lawfulNow_41 : decode cX0_lawfulNow 41 = .ok (.ireturn, 1) := dk_172 (dk_at dksX0_lawfulNow_1 19 rfl rfl)
abbrev cX0_isLawful : ByteArray := prog_1_method_27_code
def yX0_isLawful : MethodName := ⟨RX0, "isLawful", "(II)Z"⟩
def dkwX0_isLawful_3 : List UInt8 := [180, 0, 197, 42, 27, 6, 21, 4, 182, 1, 21, 161, 0, 7, 4, 167, 0, 4, 3, 172]
abbrev dktX0_isLawful_3 : List UInt8 := dkwX0_isLawful_3 ++ []
def dkwX0_isLawful_2 : List UInt8 := [182, 1, 21, 161, 0, 37, 45, 180, 0, 194, 42, 27, 5, 21, 4, 182, 1, 21, 163, 0, 22, 45]
abbrev dktX0_isLawful_2 : List UInt8 := dkwX0_isLawful_2 ++ dktX0_isLawful_3
def dkwX0_isLawful_1 : List UInt8 := [180, 0, 188, 42, 27, 3, 21, 4, 182, 1, 21, 163, 0, 52, 45, 180, 0, 191, 42, 27, 4, 21, 4]
abbrev dktX0_isLawful_1 : List UInt8 := dkwX0_isLawful_1 ++ dktX0_isLawful_2
def dkwX0_isLawful_0 : List UInt8 := [42, 27, 182, 0, 178, 78, 42, 27, 28, 182, 1, 5, 54, 4, 21, 4, 2, 160, 0, 5, 3, 172, 45]
abbrev dktX0_isLawful_0 : List UInt8 := dkwX0_isLawful_0 ++ dktX0_isLawful_1
theorem dksX0_isLawful_0 : cX0_isLawful.data.toList.drop 0 = dktX0_isLawful_0 := by decide +kernel
theorem dksX0_isLawful_1 : cX0_isLawful.data.toList.drop 23 = dktX0_isLawful_1 := dk_seg dksX0_isLawful_0 23 rfl rfl
theorem dksX0_isLawful_2 : cX0_isLawful.data.toList.drop 46 = dktX0_isLawful_2 := dk_seg dksX0_isLawful_1 23 rfl rfl
theorem dksX0_isLawful_3 : cX0_isLawful.data.toList.drop 68 = dktX0_isLawful_3 := dk_seg dksX0_isLawful_2 22 rfl rfl
theorem dX0_isLawful_0 : decode cX0_isLawful 0 = .ok (.aload_n 0, 1) := dk_42 (dk_at dksX0_isLawful_0 0 rfl rfl)
theorem dX0_isLawful_1 : decode cX0_isLawful 1 = .ok (.iload_n 1, 1) := dk_27 (dk_at dksX0_isLawful_0 1 rfl rfl)
theorem dX0_isLawful_2 : decode cX0_isLawful 2 = .ok (.invokevirtual 178, 3) := dk_182 0 178 (dk_at dksX0_isLawful_0 2 rfl rfl)
theorem dX0_isLawful_5 : decode cX0_isLawful 5 = .ok (.astore_n 3, 1) := dk_78 (dk_at dksX0_isLawful_0 5 rfl rfl)
theorem dX0_isLawful_6 : decode cX0_isLawful 6 = .ok (.aload_n 0, 1) := dk_42 (dk_at dksX0_isLawful_0 6 rfl rfl)
theorem dX0_isLawful_7 : decode cX0_isLawful 7 = .ok (.iload_n 1, 1) := dk_27 (dk_at dksX0_isLawful_0 7 rfl rfl)
theorem dX0_isLawful_8 : decode cX0_isLawful 8 = .ok (.iload_n 2, 1) := dk_28 (dk_at dksX0_isLawful_0 8 rfl rfl)
theorem dX0_isLawful_9 : decode cX0_isLawful 9 = .ok (.invokevirtual 261, 3) := dk_182 1 5 (dk_at dksX0_isLawful_0 9 rfl rfl)
theorem dX0_isLawful_12 : decode cX0_isLawful 12 = .ok (.istore 4, 2) := dk_54 4 (dk_at dksX0_isLawful_0 12 rfl rfl)
theorem dX0_isLawful_14 : decode cX0_isLawful 14 = .ok (.iload 4, 2) := dk_21 4 (dk_at dksX0_isLawful_0 14 rfl rfl)
theorem dX0_isLawful_16 : decode cX0_isLawful 16 = .ok (.iconst (-1), 1) := dk_2 (dk_at dksX0_isLawful_0 16 rfl rfl)
theorem dX0_isLawful_17 : decode cX0_isLawful 17 = .ok (.if_icmp .ne 5, 3) := dk_160 0 5 (dk_at dksX0_isLawful_0 17 rfl rfl)
theorem dX0_isLawful_20 : decode cX0_isLawful 20 = .ok (.iconst 0, 1) := dk_3 (dk_at dksX0_isLawful_0 20 rfl rfl)
theorem dX0_isLawful_21 : decode cX0_isLawful 21 = .ok (.ireturn, 1) := dk_172 (dk_at dksX0_isLawful_0 21 rfl rfl)
theorem dX0_isLawful_22 : decode cX0_isLawful 22 = .ok (.aload_n 3, 1) := dk_45 (dk_at dksX0_isLawful_0 22 rfl rfl)
theorem dX0_isLawful_23 : decode cX0_isLawful 23 = .ok (.getfield 188, 3) := dk_180 0 188 (dk_at dksX0_isLawful_1 0 rfl rfl)
theorem dX0_isLawful_26 : decode cX0_isLawful 26 = .ok (.aload_n 0, 1) := dk_42 (dk_at dksX0_isLawful_1 3 rfl rfl)
theorem dX0_isLawful_27 : decode cX0_isLawful 27 = .ok (.iload_n 1, 1) := dk_27 (dk_at dksX0_isLawful_1 4 rfl rfl)
theorem dX0_isLawful_28 : decode cX0_isLawful 28 = .ok (.iconst 0, 1) := dk_3 (dk_at dksX0_isLawful_1 5 rfl rfl)
theorem dX0_isLawful_29 : decode cX0_isLawful 29 = .ok (.iload 4, 2) := dk_21 4 (dk_at dksX0_isLawful_1 6 rfl rfl)
theorem dX0_isLawful_31 : decode cX0_isLawful 31 = .ok (.invokevirtual 277, 3) := dk_182 1 21 (dk_at dksX0_isLawful_1 8 rfl rfl)
theorem dX0_isLawful_34 : decode cX0_isLawful 34 = .ok (.if_icmp .gt 52, 3) := dk_163 0 52 (dk_at dksX0_isLawful_1 11 rfl rfl)
theorem dX0_isLawful_37 : decode cX0_isLawful 37 = .ok (.aload_n 3, 1) := dk_45 (dk_at dksX0_isLawful_1 14 rfl rfl)
theorem dX0_isLawful_38 : decode cX0_isLawful 38 = .ok (.getfield 191, 3) := dk_180 0 191 (dk_at dksX0_isLawful_1 15 rfl rfl)
theorem dX0_isLawful_41 : decode cX0_isLawful 41 = .ok (.aload_n 0, 1) := dk_42 (dk_at dksX0_isLawful_1 18 rfl rfl)
theorem dX0_isLawful_42 : decode cX0_isLawful 42 = .ok (.iload_n 1, 1) := dk_27 (dk_at dksX0_isLawful_1 19 rfl rfl)
theorem dX0_isLawful_43 : decode cX0_isLawful 43 = .ok (.iconst 1, 1) := dk_4 (dk_at dksX0_isLawful_1 20 rfl rfl)
theorem dX0_isLawful_44 : decode cX0_isLawful 44 = .ok (.iload 4, 2) := dk_21 4 (dk_at dksX0_isLawful_1 21 rfl rfl)
theorem dX0_isLawful_46 : decode cX0_isLawful 46 = .ok (.invokevirtual 277, 3) := dk_182 1 21 (dk_at dksX0_isLawful_2 0 rfl rfl)
theorem dX0_isLawful_49 : decode cX0_isLawful 49 = .ok (.if_icmp .lt 37, 3) := dk_161 0 37 (dk_at dksX0_isLawful_2 3 rfl rfl)
theorem dX0_isLawful_52 : decode cX0_isLawful 52 = .ok (.aload_n 3, 1) := dk_45 (dk_at dksX0_isLawful_2 6 rfl rfl)
theorem dX0_isLawful_53 : decode cX0_isLawful 53 = .ok (.getfield 194, 3) := dk_180 0 194 (dk_at dksX0_isLawful_2 7 rfl rfl)
theorem dX0_isLawful_56 : decode cX0_isLawful 56 = .ok (.aload_n 0, 1) := dk_42 (dk_at dksX0_isLawful_2 10 rfl rfl)
theorem dX0_isLawful_57 : decode cX0_isLawful 57 = .ok (.iload_n 1, 1) := dk_27 (dk_at dksX0_isLawful_2 11 rfl rfl)
theorem dX0_isLawful_58 : decode cX0_isLawful 58 = .ok (.iconst 2, 1) := dk_5 (dk_at dksX0_isLawful_2 12 rfl rfl)
theorem dX0_isLawful_59 : decode cX0_isLawful 59 = .ok (.iload 4, 2) := dk_21 4 (dk_at dksX0_isLawful_2 13 rfl rfl)
theorem dX0_isLawful_61 : decode cX0_isLawful 61 = .ok (.invokevirtual 277, 3) := dk_182 1 21 (dk_at dksX0_isLawful_2 15 rfl rfl)
theorem dX0_isLawful_64 : decode cX0_isLawful 64 = .ok (.if_icmp .gt 22, 3) := dk_163 0 22 (dk_at dksX0_isLawful_2 18 rfl rfl)
theorem dX0_isLawful_67 : decode cX0_isLawful 67 = .ok (.aload_n 3, 1) := dk_45 (dk_at dksX0_isLawful_2 21 rfl rfl)
theorem dX0_isLawful_68 : decode cX0_isLawful 68 = .ok (.getfield 197, 3) := dk_180 0 197 (dk_at dksX0_isLawful_3 0 rfl rfl)
theorem dX0_isLawful_71 : decode cX0_isLawful 71 = .ok (.aload_n 0, 1) := dk_42 (dk_at dksX0_isLawful_3 3 rfl rfl)
theorem dX0_isLawful_72 : decode cX0_isLawful 72 = .ok (.iload_n 1, 1) := dk_27 (dk_at dksX0_isLawful_3 4 rfl rfl)
theorem dX0_isLawful_73 : decode cX0_isLawful 73 = .ok (.iconst 3, 1) := dk_6 (dk_at dksX0_isLawful_3 5 rfl rfl)
theorem dX0_isLawful_74 : decode cX0_isLawful 74 = .ok (.iload 4, 2) := dk_21 4 (dk_at dksX0_isLawful_3 6 rfl rfl)
theorem dX0_isLawful_76 : decode cX0_isLawful 76 = .ok (.invokevirtual 277, 3) := dk_182 1 21 (dk_at dksX0_isLawful_3 8 rfl rfl)
theorem dX0_isLawful_79 : decode cX0_isLawful 79 = .ok (.if_icmp .lt 7, 3) := dk_161 0 7 (dk_at dksX0_isLawful_3 11 rfl rfl)
theorem dX0_isLawful_82 : decode cX0_isLawful 82 = .ok (.iconst 1, 1) := dk_4 (dk_at dksX0_isLawful_3 14 rfl rfl)
theorem dX0_isLawful_83 : decode cX0_isLawful 83 = .ok (.goto 4, 3) := dk_167 0 4 (dk_at dksX0_isLawful_3 15 rfl rfl)
theorem dX0_isLawful_86 : decode cX0_isLawful 86 = .ok (.iconst 0, 1) := dk_3 (dk_at dksX0_isLawful_3 18 rfl rfl)
theorem dX0_isLawful_87 : decode cX0_isLawful 87 = .ok (.ireturn, 1) := dk_172 (dk_at dksX0_isLawful_3 19 rfl rfl)
abbrev cX0_answer : ByteArray := prog_1_method_31_code
def yX0_answer : MethodName := ⟨RX0, "answer", "(III)I"⟩
def dkwX0_answer_3 : List UInt8 := [167, 255, 228, 21, 4, 172]
abbrev dktX0_answer_3 : List UInt8 := dkwX0_answer_3 ++ []
def dkwX0_answer_2 : List UInt8 := [21, 4, 21, 5, 184, 1, 35, 54, 4, 42, 27, 182, 0, 178, 21, 5, 28, 182, 1, 38, 54, 5]
abbrev dktX0_answer_2 : List UInt8 := dkwX0_answer_2 ++ dktX0_answer_3
def dkwX0_answer_1 : List UInt8 := [20, 1, 33, 184, 0, 116, 154, 0, 6, 16, 254, 172, 29, 54, 4, 3, 54, 5, 21, 5, 2, 159, 0, 28]
abbrev dktX0_answer_1 : List UInt8 := dkwX0_answer_1 ++ dktX0_answer_2
def dkwX0_answer_0 : List UInt8 := [42, 27, 182, 0, 168, 153, 0, 27, 28, 133, 9, 20, 1, 31, 184, 0, 116, 153, 0, 15, 29, 133, 9]
abbrev dktX0_answer_0 : List UInt8 := dkwX0_answer_0 ++ dktX0_answer_1
theorem dksX0_answer_0 : cX0_answer.data.toList.drop 0 = dktX0_answer_0 := by decide +kernel
theorem dksX0_answer_1 : cX0_answer.data.toList.drop 23 = dktX0_answer_1 := dk_seg dksX0_answer_0 23 rfl rfl
theorem dksX0_answer_2 : cX0_answer.data.toList.drop 47 = dktX0_answer_2 := dk_seg dksX0_answer_1 24 rfl rfl
theorem dksX0_answer_3 : cX0_answer.data.toList.drop 69 = dktX0_answer_3 := dk_seg dksX0_answer_2 22 rfl rfl
theorem dX0_answer_0 : decode cX0_answer 0 = .ok (.aload_n 0, 1) := dk_42 (dk_at dksX0_answer_0 0 rfl rfl)
theorem dX0_answer_1 : decode cX0_answer 1 = .ok (.iload_n 1, 1) := dk_27 (dk_at dksX0_answer_0 1 rfl rfl)
theorem dX0_answer_2 : decode cX0_answer 2 = .ok (.invokevirtual 168, 3) := dk_182 0 168 (dk_at dksX0_answer_0 2 rfl rfl)
theorem dX0_answer_5 : decode cX0_answer 5 = .ok (.ifCond .eq 27, 3) := dk_153 0 27 (dk_at dksX0_answer_0 5 rfl rfl)
theorem dX0_answer_8 : decode cX0_answer 8 = .ok (.iload_n 2, 1) := dk_28 (dk_at dksX0_answer_0 8 rfl rfl)
theorem dX0_answer_9 : decode cX0_answer 9 = .ok (.i2l, 1) := dk_133 (dk_at dksX0_answer_0 9 rfl rfl)
theorem dX0_answer_10 : decode cX0_answer 10 = .ok (.lconst 0, 1) := dk_9 (dk_at dksX0_answer_0 10 rfl rfl)
theorem dX0_answer_11 : decode cX0_answer 11 = .ok (.ldc2_w 287, 3) := dk_20 1 31 (dk_at dksX0_answer_0 11 rfl rfl)
theorem dX0_answer_14 : decode cX0_answer 14 = .ok (.invokestatic 116, 3) := dk_184 0 116 (dk_at dksX0_answer_0 14 rfl rfl)
theorem dX0_answer_17 : decode cX0_answer 17 = .ok (.ifCond .eq 15, 3) := dk_153 0 15 (dk_at dksX0_answer_0 17 rfl rfl)
theorem dX0_answer_20 : decode cX0_answer 20 = .ok (.iload_n 3, 1) := dk_29 (dk_at dksX0_answer_0 20 rfl rfl)
theorem dX0_answer_21 : decode cX0_answer 21 = .ok (.i2l, 1) := dk_133 (dk_at dksX0_answer_0 21 rfl rfl)
theorem dX0_answer_22 : decode cX0_answer 22 = .ok (.lconst 0, 1) := dk_9 (dk_at dksX0_answer_0 22 rfl rfl)
theorem dX0_answer_23 : decode cX0_answer 23 = .ok (.ldc2_w 289, 3) := dk_20 1 33 (dk_at dksX0_answer_1 0 rfl rfl)
theorem dX0_answer_26 : decode cX0_answer 26 = .ok (.invokestatic 116, 3) := dk_184 0 116 (dk_at dksX0_answer_1 3 rfl rfl)
theorem dX0_answer_29 : decode cX0_answer 29 = .ok (.ifCond .ne 6, 3) := dk_154 0 6 (dk_at dksX0_answer_1 6 rfl rfl)
theorem dX0_answer_32 : decode cX0_answer 32 = .ok (.bipush (-2), 2) := dk_16 254 (dk_at dksX0_answer_1 9 rfl rfl)
theorem dX0_answer_34 : decode cX0_answer 34 = .ok (.ireturn, 1) := dk_172 (dk_at dksX0_answer_1 11 rfl rfl)
theorem dX0_answer_35 : decode cX0_answer 35 = .ok (.iload_n 3, 1) := dk_29 (dk_at dksX0_answer_1 12 rfl rfl)
theorem dX0_answer_36 : decode cX0_answer 36 = .ok (.istore 4, 2) := dk_54 4 (dk_at dksX0_answer_1 13 rfl rfl)
theorem dX0_answer_38 : decode cX0_answer 38 = .ok (.iconst 0, 1) := dk_3 (dk_at dksX0_answer_1 15 rfl rfl)
theorem dX0_answer_39 : decode cX0_answer 39 = .ok (.istore 5, 2) := dk_54 5 (dk_at dksX0_answer_1 16 rfl rfl)
theorem dX0_answer_41 : decode cX0_answer 41 = .ok (.iload 5, 2) := dk_21 5 (dk_at dksX0_answer_1 18 rfl rfl)
theorem dX0_answer_43 : decode cX0_answer 43 = .ok (.iconst (-1), 1) := dk_2 (dk_at dksX0_answer_1 20 rfl rfl)
theorem dX0_answer_44 : decode cX0_answer 44 = .ok (.if_icmp .eq 28, 3) := dk_159 0 28 (dk_at dksX0_answer_1 21 rfl rfl)
theorem dX0_answer_47 : decode cX0_answer 47 = .ok (.iload 4, 2) := dk_21 4 (dk_at dksX0_answer_2 0 rfl rfl)
theorem dX0_answer_49 : decode cX0_answer 49 = .ok (.iload 5, 2) := dk_21 5 (dk_at dksX0_answer_2 2 rfl rfl)
theorem dX0_answer_51 : decode cX0_answer 51 = .ok (.invokestatic 291, 3) := dk_184 1 35 (dk_at dksX0_answer_2 4 rfl rfl)
theorem dX0_answer_54 : decode cX0_answer 54 = .ok (.istore 4, 2) := dk_54 4 (dk_at dksX0_answer_2 7 rfl rfl)
theorem dX0_answer_56 : decode cX0_answer 56 = .ok (.aload_n 0, 1) := dk_42 (dk_at dksX0_answer_2 9 rfl rfl)
theorem dX0_answer_57 : decode cX0_answer 57 = .ok (.iload_n 1, 1) := dk_27 (dk_at dksX0_answer_2 10 rfl rfl)
theorem dX0_answer_58 : decode cX0_answer 58 = .ok (.invokevirtual 178, 3) := dk_182 0 178 (dk_at dksX0_answer_2 11 rfl rfl)
theorem dX0_answer_61 : decode cX0_answer 61 = .ok (.iload 5, 2) := dk_21 5 (dk_at dksX0_answer_2 14 rfl rfl)
theorem dX0_answer_63 : decode cX0_answer 63 = .ok (.iload_n 2, 1) := dk_28 (dk_at dksX0_answer_2 16 rfl rfl)
theorem dX0_answer_64 : decode cX0_answer 64 = .ok (.invokevirtual 294, 3) := dk_182 1 38 (dk_at dksX0_answer_2 17 rfl rfl)
theorem dX0_answer_67 : decode cX0_answer 67 = .ok (.istore 5, 2) := dk_54 5 (dk_at dksX0_answer_2 20 rfl rfl)
theorem dX0_answer_69 : decode cX0_answer 69 = .ok (.goto (-28), 3) := dk_167 255 228 (dk_at dksX0_answer_3 0 rfl rfl)
theorem dX0_answer_72 : decode cX0_answer 72 = .ok (.iload 4, 2) := dk_21 4 (dk_at dksX0_answer_3 3 rfl rfl)
theorem dX0_answer_74 : decode cX0_answer 74 = .ok (.ireturn, 1) := dk_172 (dk_at dksX0_answer_3 5 rfl rfl)
abbrev cX0_follows : ByteArray := prog_1_method_30_code
def yX0_follows : MethodName := ⟨RX0, "follows", "(II)I"⟩
def dkwX0_follows_0 : List UInt8 := [8, 26, 104, 27, 96, 4, 96, 16, 64, 112, 172]
abbrev dktX0_follows_0 : List UInt8 := dkwX0_follows_0 ++ []
theorem dksX0_follows_0 : cX0_follows.data.toList.drop 0 = dktX0_follows_0 := by decide +kernel
theorem dX0_follows_0 : decode cX0_follows 0 = .ok (.iconst 5, 1) := dk_8 (dk_at dksX0_follows_0 0 rfl rfl)
theorem dX0_follows_1 : decode cX0_follows 1 = .ok (.iload_n 0, 1) := dk_26 (dk_at dksX0_follows_0 1 rfl rfl)
theorem dX0_follows_2 : decode cX0_follows 2 = .ok (.imul, 1) := dk_104 (dk_at dksX0_follows_0 2 rfl rfl)
theorem dX0_follows_3 : decode cX0_follows 3 = .ok (.iload_n 1, 1) := dk_27 (dk_at dksX0_follows_0 3 rfl rfl)
theorem dX0_follows_4 : decode cX0_follows 4 = .ok (.iadd, 1) := dk_96 (dk_at dksX0_follows_0 4 rfl rfl)
theorem dX0_follows_5 : decode cX0_follows 5 = .ok (.iconst 1, 1) := dk_4 (dk_at dksX0_follows_0 5 rfl rfl)
theorem dX0_follows_6 : decode cX0_follows 6 = .ok (.iadd, 1) := dk_96 (dk_at dksX0_follows_0 6 rfl rfl)
theorem dX0_follows_7 : decode cX0_follows 7 = .ok (.bipush 64, 2) := dk_16 64 (dk_at dksX0_follows_0 7 rfl rfl)
theorem dX0_follows_9 : decode cX0_follows 9 = .ok (.irem, 1) := dk_112 (dk_at dksX0_follows_0 9 rfl rfl)
theorem dX0_follows_10 : decode cX0_follows 10 = .ok (.ireturn, 1) := dk_172 (dk_at dksX0_follows_0 10 rfl rfl)
abbrev cX0_alike : ByteArray := prog_1_method_33_code
def yX0_alike : MethodName := ⟨RX0, "alike", "(II)I"⟩
def dkwX0_alike_4 : List UInt8 := [167, 255, 224, 29, 172]
abbrev dktX0_alike_4 : List UInt8 := dkwX0_alike_4 ++ []
def dkwX0_alike_3 : List UInt8 := [180, 0, 31, 21, 4, 46, 42, 180, 0, 31, 21, 4, 46, 4, 100, 104, 5, 108, 96, 62, 132, 4, 1]
abbrev dktX0_alike_3 : List UInt8 := dkwX0_alike_3 ++ dktX0_alike_4
def dkwX0_alike_2 : List UInt8 := [182, 0, 178, 3, 28, 182, 1, 41, 3, 62, 3, 54, 4, 21, 4, 16, 64, 162, 0, 31, 29, 42]
abbrev dktX0_alike_2 : List UInt8 := dkwX0_alike_2 ++ dktX0_alike_3
def dkwX0_alike_1 : List UInt8 := [62, 29, 16, 64, 162, 0, 16, 42, 180, 0, 31, 29, 3, 79, 132, 3, 1, 167, 255, 240, 42, 42, 27]
abbrev dktX0_alike_1 : List UInt8 := dkwX0_alike_1 ++ dktX0_alike_2
def dkwX0_alike_0 : List UInt8 := [42, 27, 182, 0, 168, 153, 0, 15, 28, 133, 9, 20, 1, 33, 184, 0, 116, 154, 0, 6, 16, 254, 172, 3]
abbrev dktX0_alike_0 : List UInt8 := dkwX0_alike_0 ++ dktX0_alike_1
theorem dksX0_alike_0 : cX0_alike.data.toList.drop 0 = dktX0_alike_0 := by decide +kernel
theorem dksX0_alike_1 : cX0_alike.data.toList.drop 24 = dktX0_alike_1 := dk_seg dksX0_alike_0 24 rfl rfl
theorem dksX0_alike_2 : cX0_alike.data.toList.drop 47 = dktX0_alike_2 := dk_seg dksX0_alike_1 23 rfl rfl
theorem dksX0_alike_3 : cX0_alike.data.toList.drop 69 = dktX0_alike_3 := dk_seg dksX0_alike_2 22 rfl rfl
theorem dksX0_alike_4 : cX0_alike.data.toList.drop 92 = dktX0_alike_4 := dk_seg dksX0_alike_3 23 rfl rfl
theorem dX0_alike_0 : decode cX0_alike 0 = .ok (.aload_n 0, 1) := dk_42 (dk_at dksX0_alike_0 0 rfl rfl)
theorem dX0_alike_1 : decode cX0_alike 1 = .ok (.iload_n 1, 1) := dk_27 (dk_at dksX0_alike_0 1 rfl rfl)
theorem dX0_alike_2 : decode cX0_alike 2 = .ok (.invokevirtual 168, 3) := dk_182 0 168 (dk_at dksX0_alike_0 2 rfl rfl)
theorem dX0_alike_5 : decode cX0_alike 5 = .ok (.ifCond .eq 15, 3) := dk_153 0 15 (dk_at dksX0_alike_0 5 rfl rfl)
theorem dX0_alike_8 : decode cX0_alike 8 = .ok (.iload_n 2, 1) := dk_28 (dk_at dksX0_alike_0 8 rfl rfl)
theorem dX0_alike_9 : decode cX0_alike 9 = .ok (.i2l, 1) := dk_133 (dk_at dksX0_alike_0 9 rfl rfl)
theorem dX0_alike_10 : decode cX0_alike 10 = .ok (.lconst 0, 1) := dk_9 (dk_at dksX0_alike_0 10 rfl rfl)
theorem dX0_alike_11 : decode cX0_alike 11 = .ok (.ldc2_w 289, 3) := dk_20 1 33 (dk_at dksX0_alike_0 11 rfl rfl)
theorem dX0_alike_14 : decode cX0_alike 14 = .ok (.invokestatic 116, 3) := dk_184 0 116 (dk_at dksX0_alike_0 14 rfl rfl)
theorem dX0_alike_17 : decode cX0_alike 17 = .ok (.ifCond .ne 6, 3) := dk_154 0 6 (dk_at dksX0_alike_0 17 rfl rfl)
theorem dX0_alike_20 : decode cX0_alike 20 = .ok (.bipush (-2), 2) := dk_16 254 (dk_at dksX0_alike_0 20 rfl rfl)
theorem dX0_alike_22 : decode cX0_alike 22 = .ok (.ireturn, 1) := dk_172 (dk_at dksX0_alike_0 22 rfl rfl)
theorem dX0_alike_23 : decode cX0_alike 23 = .ok (.iconst 0, 1) := dk_3 (dk_at dksX0_alike_0 23 rfl rfl)
theorem dX0_alike_24 : decode cX0_alike 24 = .ok (.istore_n 3, 1) := dk_62 (dk_at dksX0_alike_1 0 rfl rfl)
theorem dX0_alike_25 : decode cX0_alike 25 = .ok (.iload_n 3, 1) := dk_29 (dk_at dksX0_alike_1 1 rfl rfl)
theorem dX0_alike_26 : decode cX0_alike 26 = .ok (.bipush 64, 2) := dk_16 64 (dk_at dksX0_alike_1 2 rfl rfl)
theorem dX0_alike_28 : decode cX0_alike 28 = .ok (.if_icmp .ge 16, 3) := dk_162 0 16 (dk_at dksX0_alike_1 4 rfl rfl)
theorem dX0_alike_31 : decode cX0_alike 31 = .ok (.aload_n 0, 1) := dk_42 (dk_at dksX0_alike_1 7 rfl rfl)
theorem dX0_alike_32 : decode cX0_alike 32 = .ok (.getfield 31, 3) := dk_180 0 31 (dk_at dksX0_alike_1 8 rfl rfl)
theorem dX0_alike_35 : decode cX0_alike 35 = .ok (.iload_n 3, 1) := dk_29 (dk_at dksX0_alike_1 11 rfl rfl)
theorem dX0_alike_36 : decode cX0_alike 36 = .ok (.iconst 0, 1) := dk_3 (dk_at dksX0_alike_1 12 rfl rfl)
theorem dX0_alike_37 : decode cX0_alike 37 = .ok (.iastore, 1) := dk_79 (dk_at dksX0_alike_1 13 rfl rfl)
theorem dX0_alike_38 : decode cX0_alike 38 = .ok (.iinc 3 1, 3) := dk_132 3 1 (dk_at dksX0_alike_1 14 rfl rfl)
theorem dX0_alike_41 : decode cX0_alike 41 = .ok (.goto (-16), 3) := dk_167 255 240 (dk_at dksX0_alike_1 17 rfl rfl)
theorem dX0_alike_44 : decode cX0_alike 44 = .ok (.aload_n 0, 1) := dk_42 (dk_at dksX0_alike_1 20 rfl rfl)
theorem dX0_alike_45 : decode cX0_alike 45 = .ok (.aload_n 0, 1) := dk_42 (dk_at dksX0_alike_1 21 rfl rfl)
theorem dX0_alike_46 : decode cX0_alike 46 = .ok (.iload_n 1, 1) := dk_27 (dk_at dksX0_alike_1 22 rfl rfl)
theorem dX0_alike_47 : decode cX0_alike 47 = .ok (.invokevirtual 178, 3) := dk_182 0 178 (dk_at dksX0_alike_2 0 rfl rfl)
theorem dX0_alike_50 : decode cX0_alike 50 = .ok (.iconst 0, 1) := dk_3 (dk_at dksX0_alike_2 3 rfl rfl)
theorem dX0_alike_51 : decode cX0_alike 51 = .ok (.iload_n 2, 1) := dk_28 (dk_at dksX0_alike_2 4 rfl rfl)
theorem dX0_alike_52 : decode cX0_alike 52 = .ok (.invokevirtual 297, 3) := dk_182 1 41 (dk_at dksX0_alike_2 5 rfl rfl)
theorem dX0_alike_55 : decode cX0_alike 55 = .ok (.iconst 0, 1) := dk_3 (dk_at dksX0_alike_2 8 rfl rfl)
theorem dX0_alike_56 : decode cX0_alike 56 = .ok (.istore_n 3, 1) := dk_62 (dk_at dksX0_alike_2 9 rfl rfl)
theorem dX0_alike_57 : decode cX0_alike 57 = .ok (.iconst 0, 1) := dk_3 (dk_at dksX0_alike_2 10 rfl rfl)
theorem dX0_alike_58 : decode cX0_alike 58 = .ok (.istore 4, 2) := dk_54 4 (dk_at dksX0_alike_2 11 rfl rfl)
theorem dX0_alike_60 : decode cX0_alike 60 = .ok (.iload 4, 2) := dk_21 4 (dk_at dksX0_alike_2 13 rfl rfl)
theorem dX0_alike_62 : decode cX0_alike 62 = .ok (.bipush 64, 2) := dk_16 64 (dk_at dksX0_alike_2 15 rfl rfl)
theorem dX0_alike_64 : decode cX0_alike 64 = .ok (.if_icmp .ge 31, 3) := dk_162 0 31 (dk_at dksX0_alike_2 17 rfl rfl)
theorem dX0_alike_67 : decode cX0_alike 67 = .ok (.iload_n 3, 1) := dk_29 (dk_at dksX0_alike_2 20 rfl rfl)
theorem dX0_alike_68 : decode cX0_alike 68 = .ok (.aload_n 0, 1) := dk_42 (dk_at dksX0_alike_2 21 rfl rfl)
theorem dX0_alike_69 : decode cX0_alike 69 = .ok (.getfield 31, 3) := dk_180 0 31 (dk_at dksX0_alike_3 0 rfl rfl)
theorem dX0_alike_72 : decode cX0_alike 72 = .ok (.iload 4, 2) := dk_21 4 (dk_at dksX0_alike_3 3 rfl rfl)
theorem dX0_alike_74 : decode cX0_alike 74 = .ok (.iaload, 1) := dk_46 (dk_at dksX0_alike_3 5 rfl rfl)
theorem dX0_alike_75 : decode cX0_alike 75 = .ok (.aload_n 0, 1) := dk_42 (dk_at dksX0_alike_3 6 rfl rfl)
theorem dX0_alike_76 : decode cX0_alike 76 = .ok (.getfield 31, 3) := dk_180 0 31 (dk_at dksX0_alike_3 7 rfl rfl)
theorem dX0_alike_79 : decode cX0_alike 79 = .ok (.iload 4, 2) := dk_21 4 (dk_at dksX0_alike_3 10 rfl rfl)
theorem dX0_alike_81 : decode cX0_alike 81 = .ok (.iaload, 1) := dk_46 (dk_at dksX0_alike_3 12 rfl rfl)
theorem dX0_alike_82 : decode cX0_alike 82 = .ok (.iconst 1, 1) := dk_4 (dk_at dksX0_alike_3 13 rfl rfl)
theorem dX0_alike_83 : decode cX0_alike 83 = .ok (.isub, 1) := dk_100 (dk_at dksX0_alike_3 14 rfl rfl)
theorem dX0_alike_84 : decode cX0_alike 84 = .ok (.imul, 1) := dk_104 (dk_at dksX0_alike_3 15 rfl rfl)
theorem dX0_alike_85 : decode cX0_alike 85 = .ok (.iconst 2, 1) := dk_5 (dk_at dksX0_alike_3 16 rfl rfl)
theorem dX0_alike_86 : decode cX0_alike 86 = .ok (.idiv, 1) := dk_108 (dk_at dksX0_alike_3 17 rfl rfl)
theorem dX0_alike_87 : decode cX0_alike 87 = .ok (.iadd, 1) := dk_96 (dk_at dksX0_alike_3 18 rfl rfl)
theorem dX0_alike_88 : decode cX0_alike 88 = .ok (.istore_n 3, 1) := dk_62 (dk_at dksX0_alike_3 19 rfl rfl)
theorem dX0_alike_89 : decode cX0_alike 89 = .ok (.iinc 4 1, 3) := dk_132 4 1 (dk_at dksX0_alike_3 20 rfl rfl)
theorem dX0_alike_92 : decode cX0_alike 92 = .ok (.goto (-32), 3) := dk_167 255 224 (dk_at dksX0_alike_4 0 rfl rfl)
theorem dX0_alike_95 : decode cX0_alike 95 = .ok (.iload_n 3, 1) := dk_29 (dk_at dksX0_alike_4 3 rfl rfl)
theorem dX0_alike_96 : decode cX0_alike 96 = .ok (.ireturn, 1) := dk_172 (dk_at dksX0_alike_4 4 rfl rfl)
abbrev cX0_answersFrom : ByteArray := prog_1_method_32_code
def yX0_answersFrom : MethodName := ⟨RX0, "answersFrom", "(LWatchStack$Task;II)V"⟩
def dkwX0_answersFrom_2 : List UInt8 := [21, 5, 184, 0, 250, 153, 0, 12, 42, 43, 21, 5, 21, 4, 182, 1, 41, 132, 5, 1, 167, 255, 221, 177]
abbrev dktX0_answersFrom_2 : List UInt8 := dkwX0_answersFrom_2 ++ []
def dkwX0_answersFrom_1 : List UInt8 := [4, 96, 79, 28, 4, 96, 54, 5, 21, 5, 43, 180, 0, 200, 162, 0, 32, 43, 180, 0, 206, 28, 46]
abbrev dktX0_answersFrom_1 : List UInt8 := dkwX0_answersFrom_1 ++ dktX0_answersFrom_2
def dkwX0_answersFrom_0 : List UInt8 := [29, 28, 184, 1, 35, 54, 4, 43, 180, 0, 206, 28, 46, 154, 0, 14, 42, 180, 0, 31, 21, 4, 92, 46]
abbrev dktX0_answersFrom_0 : List UInt8 := dkwX0_answersFrom_0 ++ dktX0_answersFrom_1
theorem dksX0_answersFrom_0 : cX0_answersFrom.data.toList.drop 0 = dktX0_answersFrom_0 := by decide +kernel
theorem dksX0_answersFrom_1 : cX0_answersFrom.data.toList.drop 24 = dktX0_answersFrom_1 := dk_seg dksX0_answersFrom_0 24 rfl rfl
theorem dksX0_answersFrom_2 : cX0_answersFrom.data.toList.drop 47 = dktX0_answersFrom_2 := dk_seg dksX0_answersFrom_1 23 rfl rfl
theorem dX0_answersFrom_0 : decode cX0_answersFrom 0 = .ok (.iload_n 3, 1) := dk_29 (dk_at dksX0_answersFrom_0 0 rfl rfl)
theorem dX0_answersFrom_1 : decode cX0_answersFrom 1 = .ok (.iload_n 2, 1) := dk_28 (dk_at dksX0_answersFrom_0 1 rfl rfl)
theorem dX0_answersFrom_2 : decode cX0_answersFrom 2 = .ok (.invokestatic 291, 3) := dk_184 1 35 (dk_at dksX0_answersFrom_0 2 rfl rfl)
theorem dX0_answersFrom_5 : decode cX0_answersFrom 5 = .ok (.istore 4, 2) := dk_54 4 (dk_at dksX0_answersFrom_0 5 rfl rfl)
theorem dX0_answersFrom_7 : decode cX0_answersFrom 7 = .ok (.aload_n 1, 1) := dk_43 (dk_at dksX0_answersFrom_0 7 rfl rfl)
theorem dX0_answersFrom_8 : decode cX0_answersFrom 8 = .ok (.getfield 206, 3) := dk_180 0 206 (dk_at dksX0_answersFrom_0 8 rfl rfl)
theorem dX0_answersFrom_11 : decode cX0_answersFrom 11 = .ok (.iload_n 2, 1) := dk_28 (dk_at dksX0_answersFrom_0 11 rfl rfl)
theorem dX0_answersFrom_12 : decode cX0_answersFrom 12 = .ok (.iaload, 1) := dk_46 (dk_at dksX0_answersFrom_0 12 rfl rfl)
theorem dX0_answersFrom_13 : decode cX0_answersFrom 13 = .ok (.ifCond .ne 14, 3) := dk_154 0 14 (dk_at dksX0_answersFrom_0 13 rfl rfl)
theorem dX0_answersFrom_16 : decode cX0_answersFrom 16 = .ok (.aload_n 0, 1) := dk_42 (dk_at dksX0_answersFrom_0 16 rfl rfl)
theorem dX0_answersFrom_17 : decode cX0_answersFrom 17 = .ok (.getfield 31, 3) := dk_180 0 31 (dk_at dksX0_answersFrom_0 17 rfl rfl)
theorem dX0_answersFrom_20 : decode cX0_answersFrom 20 = .ok (.iload 4, 2) := dk_21 4 (dk_at dksX0_answersFrom_0 20 rfl rfl)
theorem dX0_answersFrom_22 : decode cX0_answersFrom 22 = .ok (.dup2, 1) := dk_92 (dk_at dksX0_answersFrom_0 22 rfl rfl)
theorem dX0_answersFrom_23 : decode cX0_answersFrom 23 = .ok (.iaload, 1) := dk_46 (dk_at dksX0_answersFrom_0 23 rfl rfl)
theorem dX0_answersFrom_24 : decode cX0_answersFrom 24 = .ok (.iconst 1, 1) := dk_4 (dk_at dksX0_answersFrom_1 0 rfl rfl)
theorem dX0_answersFrom_25 : decode cX0_answersFrom 25 = .ok (.iadd, 1) := dk_96 (dk_at dksX0_answersFrom_1 1 rfl rfl)
theorem dX0_answersFrom_26 : decode cX0_answersFrom 26 = .ok (.iastore, 1) := dk_79 (dk_at dksX0_answersFrom_1 2 rfl rfl)
theorem dX0_answersFrom_27 : decode cX0_answersFrom 27 = .ok (.iload_n 2, 1) := dk_28 (dk_at dksX0_answersFrom_1 3 rfl rfl)
theorem dX0_answersFrom_28 : decode cX0_answersFrom 28 = .ok (.iconst 1, 1) := dk_4 (dk_at dksX0_answersFrom_1 4 rfl rfl)
theorem dX0_answersFrom_29 : decode cX0_answersFrom 29 = .ok (.iadd, 1) := dk_96 (dk_at dksX0_answersFrom_1 5 rfl rfl)
theorem dX0_answersFrom_30 : decode cX0_answersFrom 30 = .ok (.istore 5, 2) := dk_54 5 (dk_at dksX0_answersFrom_1 6 rfl rfl)
theorem dX0_answersFrom_32 : decode cX0_answersFrom 32 = .ok (.iload 5, 2) := dk_21 5 (dk_at dksX0_answersFrom_1 8 rfl rfl)
theorem dX0_answersFrom_34 : decode cX0_answersFrom 34 = .ok (.aload_n 1, 1) := dk_43 (dk_at dksX0_answersFrom_1 10 rfl rfl)
theorem dX0_answersFrom_35 : decode cX0_answersFrom 35 = .ok (.getfield 200, 3) := dk_180 0 200 (dk_at dksX0_answersFrom_1 11 rfl rfl)
theorem dX0_answersFrom_38 : decode cX0_answersFrom 38 = .ok (.if_icmp .ge 32, 3) := dk_162 0 32 (dk_at dksX0_answersFrom_1 14 rfl rfl)
theorem dX0_answersFrom_41 : decode cX0_answersFrom 41 = .ok (.aload_n 1, 1) := dk_43 (dk_at dksX0_answersFrom_1 17 rfl rfl)
theorem dX0_answersFrom_42 : decode cX0_answersFrom 42 = .ok (.getfield 206, 3) := dk_180 0 206 (dk_at dksX0_answersFrom_1 18 rfl rfl)
theorem dX0_answersFrom_45 : decode cX0_answersFrom 45 = .ok (.iload_n 2, 1) := dk_28 (dk_at dksX0_answersFrom_1 21 rfl rfl)
theorem dX0_answersFrom_46 : decode cX0_answersFrom 46 = .ok (.iaload, 1) := dk_46 (dk_at dksX0_answersFrom_1 22 rfl rfl)
theorem dX0_answersFrom_47 : decode cX0_answersFrom 47 = .ok (.iload 5, 2) := dk_21 5 (dk_at dksX0_answersFrom_2 0 rfl rfl)
theorem dX0_answersFrom_49 : decode cX0_answersFrom 49 = .ok (.invokestatic 250, 3) := dk_184 0 250 (dk_at dksX0_answersFrom_2 2 rfl rfl)
theorem dX0_answersFrom_52 : decode cX0_answersFrom 52 = .ok (.ifCond .eq 12, 3) := dk_153 0 12 (dk_at dksX0_answersFrom_2 5 rfl rfl)
theorem dX0_answersFrom_55 : decode cX0_answersFrom 55 = .ok (.aload_n 0, 1) := dk_42 (dk_at dksX0_answersFrom_2 8 rfl rfl)
theorem dX0_answersFrom_56 : decode cX0_answersFrom 56 = .ok (.aload_n 1, 1) := dk_43 (dk_at dksX0_answersFrom_2 9 rfl rfl)
theorem dX0_answersFrom_57 : decode cX0_answersFrom 57 = .ok (.iload 5, 2) := dk_21 5 (dk_at dksX0_answersFrom_2 10 rfl rfl)
theorem dX0_answersFrom_59 : decode cX0_answersFrom 59 = .ok (.iload 4, 2) := dk_21 4 (dk_at dksX0_answersFrom_2 12 rfl rfl)
theorem dX0_answersFrom_61 : decode cX0_answersFrom 61 = .ok (.invokevirtual 297, 3) := dk_182 1 41 (dk_at dksX0_answersFrom_2 14 rfl rfl)
theorem dX0_answersFrom_64 : decode cX0_answersFrom 64 = .ok (.iinc 5 1, 3) := dk_132 5 1 (dk_at dksX0_answersFrom_2 17 rfl rfl)
theorem dX0_answersFrom_67 : decode cX0_answersFrom 67 = .ok (.goto (-35), 3) := dk_167 255 221 (dk_at dksX0_answersFrom_2 20 rfl rfl)
theorem dX0_answersFrom_70 : decode cX0_answersFrom 70 = .ok (.return_, 1) := dk_177 (dk_at dksX0_answersFrom_2 23 rfl rfl)
abbrev cX0_orders : ByteArray := prog_1_method_36_code
def yX0_orders : MethodName := ⟨RX0, "orders", "()I"⟩
def dkwX0_orders_0 : List UInt8 := [42, 180, 0, 10, 182, 0, 161, 153, 0, 10, 42, 182, 1, 52, 167, 0, 5, 16, 254, 172]
abbrev dktX0_orders_0 : List UInt8 := dkwX0_orders_0 ++ []
theorem dksX0_orders_0 : cX0_orders.data.toList.drop 0 = dktX0_orders_0 := by decide +kernel
theorem dX0_orders_0 : decode cX0_orders 0 = .ok (.aload_n 0, 1) := dk_42 (dk_at dksX0_orders_0 0 rfl rfl)
theorem dX0_orders_1 : decode cX0_orders 1 = .ok (.getfield 10, 3) := dk_180 0 10 (dk_at dksX0_orders_0 1 rfl rfl)
theorem dX0_orders_4 : decode cX0_orders 4 = .ok (.invokevirtual 161, 3) := dk_182 0 161 (dk_at dksX0_orders_0 4 rfl rfl)
theorem dX0_orders_7 : decode cX0_orders 7 = .ok (.ifCond .eq 10, 3) := dk_153 0 10 (dk_at dksX0_orders_0 7 rfl rfl)
theorem dX0_orders_10 : decode cX0_orders 10 = .ok (.aload_n 0, 1) := dk_42 (dk_at dksX0_orders_0 10 rfl rfl)
theorem dX0_orders_11 : decode cX0_orders 11 = .ok (.invokevirtual 308, 3) := dk_182 1 52 (dk_at dksX0_orders_0 11 rfl rfl)
theorem dX0_orders_14 : decode cX0_orders 14 = .ok (.goto 5, 3) := dk_167 0 5 (dk_at dksX0_orders_0 14 rfl rfl)
theorem dX0_orders_17 : decode cX0_orders 17 = .ok (.bipush (-2), 2) := dk_16 254 (dk_at dksX0_orders_0 17 rfl rfl)
theorem dX0_orders_19 : decode cX0_orders 19 = .ok (.ireturn, 1) := dk_172 (dk_at dksX0_orders_0 19 rfl rfl)
abbrev cX0_ordersAll : ByteArray := prog_1_method_35_code
def yX0_ordersAll : MethodName := ⟨RX0, "ordersAll", "()I"⟩
def dkwX0_ordersAll_0 : List UInt8 := [42, 3, 181, 1, 45, 42, 3, 3, 182, 1, 49, 172]
abbrev dktX0_ordersAll_0 : List UInt8 := dkwX0_ordersAll_0 ++ []
theorem dksX0_ordersAll_0 : cX0_ordersAll.data.toList.drop 0 = dktX0_ordersAll_0 := by decide +kernel
theorem dX0_ordersAll_0 : decode cX0_ordersAll 0 = .ok (.aload_n 0, 1) := dk_42 (dk_at dksX0_ordersAll_0 0 rfl rfl)
theorem dX0_ordersAll_1 : decode cX0_ordersAll 1 = .ok (.iconst 0, 1) := dk_3 (dk_at dksX0_ordersAll_0 1 rfl rfl)
theorem dX0_ordersAll_2 : decode cX0_ordersAll 2 = .ok (.putfield 301, 3) := dk_181 1 45 (dk_at dksX0_ordersAll_0 2 rfl rfl)
theorem dX0_ordersAll_5 : decode cX0_ordersAll 5 = .ok (.aload_n 0, 1) := dk_42 (dk_at dksX0_ordersAll_0 5 rfl rfl)
theorem dX0_ordersAll_6 : decode cX0_ordersAll 6 = .ok (.iconst 0, 1) := dk_3 (dk_at dksX0_ordersAll_0 6 rfl rfl)
theorem dX0_ordersAll_7 : decode cX0_ordersAll 7 = .ok (.iconst 0, 1) := dk_3 (dk_at dksX0_ordersAll_0 7 rfl rfl)
theorem dX0_ordersAll_8 : decode cX0_ordersAll 8 = .ok (.invokevirtual 305, 3) := dk_182 1 49 (dk_at dksX0_ordersAll_0 8 rfl rfl)
theorem dX0_ordersAll_11 : decode cX0_ordersAll 11 = .ok (.ireturn, 1) := dk_172 (dk_at dksX0_ordersAll_0 11 rfl rfl)
abbrev cX0_ordersFrom : ByteArray := prog_1_method_34_code
def yX0_ordersFrom : MethodName := ⟨RX0, "ordersFrom", "(II)I"⟩
def dkwX0_ordersFrom_3 : List UInt8 := [4, 21, 4, 120, 128, 28, 4, 96, 182, 1, 49, 96, 62, 132, 4, 1, 167, 255, 191, 29, 172]
abbrev dktX0_ordersFrom_3 : List UInt8 := dkwX0_ordersFrom_3 ++ []
def dkwX0_ordersFrom_2 : List UInt8 := [154, 0, 6, 167, 0, 34, 42, 180, 1, 45, 154, 0, 11, 42, 180, 0, 35, 28, 21, 4, 79, 29, 42, 27]
abbrev dktX0_ordersFrom_2 : List UInt8 := dkwX0_ordersFrom_2 ++ dktX0_ordersFrom_3
def dkwX0_ordersFrom_1 : List UInt8 := [182, 0, 159, 162, 0, 62, 27, 21, 4, 184, 0, 250, 154, 0, 47, 42, 21, 4, 27, 182, 1, 25]
abbrev dktX0_ordersFrom_1 : List UInt8 := dkwX0_ordersFrom_1 ++ dktX0_ordersFrom_2
def dkwX0_ordersFrom_0 : List UInt8 := [28, 42, 182, 0, 159, 160, 0, 10, 42, 4, 181, 1, 45, 4, 172, 3, 62, 3, 54, 4, 21, 4, 42]
abbrev dktX0_ordersFrom_0 : List UInt8 := dkwX0_ordersFrom_0 ++ dktX0_ordersFrom_1
theorem dksX0_ordersFrom_0 : cX0_ordersFrom.data.toList.drop 0 = dktX0_ordersFrom_0 := by decide +kernel
theorem dksX0_ordersFrom_1 : cX0_ordersFrom.data.toList.drop 23 = dktX0_ordersFrom_1 := dk_seg dksX0_ordersFrom_0 23 rfl rfl
theorem dksX0_ordersFrom_2 : cX0_ordersFrom.data.toList.drop 45 = dktX0_ordersFrom_2 := dk_seg dksX0_ordersFrom_1 22 rfl rfl
theorem dksX0_ordersFrom_3 : cX0_ordersFrom.data.toList.drop 69 = dktX0_ordersFrom_3 := dk_seg dksX0_ordersFrom_2 24 rfl rfl
theorem dX0_ordersFrom_0 : decode cX0_ordersFrom 0 = .ok (.iload_n 2, 1) := dk_28 (dk_at dksX0_ordersFrom_0 0 rfl rfl)
theorem dX0_ordersFrom_1 : decode cX0_ordersFrom 1 = .ok (.aload_n 0, 1) := dk_42 (dk_at dksX0_ordersFrom_0 1 rfl rfl)
theorem dX0_ordersFrom_2 : decode cX0_ordersFrom 2 = .ok (.invokevirtual 159, 3) := dk_182 0 159 (dk_at dksX0_ordersFrom_0 2 rfl rfl)
theorem dX0_ordersFrom_5 : decode cX0_ordersFrom 5 = .ok (.if_icmp .ne 10, 3) := dk_160 0 10 (dk_at dksX0_ordersFrom_0 5 rfl rfl)
theorem dX0_ordersFrom_8 : decode cX0_ordersFrom 8 = .ok (.aload_n 0, 1) := dk_42 (dk_at dksX0_ordersFrom_0 8 rfl rfl)
theorem dX0_ordersFrom_9 : decode cX0_ordersFrom 9 = .ok (.iconst 1, 1) := dk_4 (dk_at dksX0_ordersFrom_0 9 rfl rfl)
theorem dX0_ordersFrom_10 : decode cX0_ordersFrom 10 = .ok (.putfield 301, 3) := dk_181 1 45 (dk_at dksX0_ordersFrom_0 10 rfl rfl)
theorem dX0_ordersFrom_13 : decode cX0_ordersFrom 13 = .ok (.iconst 1, 1) := dk_4 (dk_at dksX0_ordersFrom_0 13 rfl rfl)
theorem dX0_ordersFrom_14 : decode cX0_ordersFrom 14 = .ok (.ireturn, 1) := dk_172 (dk_at dksX0_ordersFrom_0 14 rfl rfl)
theorem dX0_ordersFrom_15 : decode cX0_ordersFrom 15 = .ok (.iconst 0, 1) := dk_3 (dk_at dksX0_ordersFrom_0 15 rfl rfl)
theorem dX0_ordersFrom_16 : decode cX0_ordersFrom 16 = .ok (.istore_n 3, 1) := dk_62 (dk_at dksX0_ordersFrom_0 16 rfl rfl)
theorem dX0_ordersFrom_17 : decode cX0_ordersFrom 17 = .ok (.iconst 0, 1) := dk_3 (dk_at dksX0_ordersFrom_0 17 rfl rfl)
theorem dX0_ordersFrom_18 : decode cX0_ordersFrom 18 = .ok (.istore 4, 2) := dk_54 4 (dk_at dksX0_ordersFrom_0 18 rfl rfl)
theorem dX0_ordersFrom_20 : decode cX0_ordersFrom 20 = .ok (.iload 4, 2) := dk_21 4 (dk_at dksX0_ordersFrom_0 20 rfl rfl)
theorem dX0_ordersFrom_22 : decode cX0_ordersFrom 22 = .ok (.aload_n 0, 1) := dk_42 (dk_at dksX0_ordersFrom_0 22 rfl rfl)
theorem dX0_ordersFrom_23 : decode cX0_ordersFrom 23 = .ok (.invokevirtual 159, 3) := dk_182 0 159 (dk_at dksX0_ordersFrom_1 0 rfl rfl)
theorem dX0_ordersFrom_26 : decode cX0_ordersFrom 26 = .ok (.if_icmp .ge 62, 3) := dk_162 0 62 (dk_at dksX0_ordersFrom_1 3 rfl rfl)
theorem dX0_ordersFrom_29 : decode cX0_ordersFrom 29 = .ok (.iload_n 1, 1) := dk_27 (dk_at dksX0_ordersFrom_1 6 rfl rfl)
theorem dX0_ordersFrom_30 : decode cX0_ordersFrom 30 = .ok (.iload 4, 2) := dk_21 4 (dk_at dksX0_ordersFrom_1 7 rfl rfl)
theorem dX0_ordersFrom_32 : decode cX0_ordersFrom 32 = .ok (.invokestatic 250, 3) := dk_184 0 250 (dk_at dksX0_ordersFrom_1 9 rfl rfl)
theorem dX0_ordersFrom_35 : decode cX0_ordersFrom 35 = .ok (.ifCond .ne 47, 3) := dk_154 0 47 (dk_at dksX0_ordersFrom_1 12 rfl rfl)
theorem dX0_ordersFrom_38 : decode cX0_ordersFrom 38 = .ok (.aload_n 0, 1) := dk_42 (dk_at dksX0_ordersFrom_1 15 rfl rfl)
theorem dX0_ordersFrom_39 : decode cX0_ordersFrom 39 = .ok (.iload 4, 2) := dk_21 4 (dk_at dksX0_ordersFrom_1 16 rfl rfl)
theorem dX0_ordersFrom_41 : decode cX0_ordersFrom 41 = .ok (.iload_n 1, 1) := dk_27 (dk_at dksX0_ordersFrom_1 18 rfl rfl)
theorem dX0_ordersFrom_42 : decode cX0_ordersFrom 42 = .ok (.invokevirtual 281, 3) := dk_182 1 25 (dk_at dksX0_ordersFrom_1 19 rfl rfl)
theorem dX0_ordersFrom_45 : decode cX0_ordersFrom 45 = .ok (.ifCond .ne 6, 3) := dk_154 0 6 (dk_at dksX0_ordersFrom_2 0 rfl rfl)
theorem dX0_ordersFrom_48 : decode cX0_ordersFrom 48 = .ok (.goto 34, 3) := dk_167 0 34 (dk_at dksX0_ordersFrom_2 3 rfl rfl)
theorem dX0_ordersFrom_51 : decode cX0_ordersFrom 51 = .ok (.aload_n 0, 1) := dk_42 (dk_at dksX0_ordersFrom_2 6 rfl rfl)
theorem dX0_ordersFrom_52 : decode cX0_ordersFrom 52 = .ok (.getfield 301, 3) := dk_180 1 45 (dk_at dksX0_ordersFrom_2 7 rfl rfl)
theorem dX0_ordersFrom_55 : decode cX0_ordersFrom 55 = .ok (.ifCond .ne 11, 3) := dk_154 0 11 (dk_at dksX0_ordersFrom_2 10 rfl rfl)
theorem dX0_ordersFrom_58 : decode cX0_ordersFrom 58 = .ok (.aload_n 0, 1) := dk_42 (dk_at dksX0_ordersFrom_2 13 rfl rfl)
theorem dX0_ordersFrom_59 : decode cX0_ordersFrom 59 = .ok (.getfield 35, 3) := dk_180 0 35 (dk_at dksX0_ordersFrom_2 14 rfl rfl)
theorem dX0_ordersFrom_62 : decode cX0_ordersFrom 62 = .ok (.iload_n 2, 1) := dk_28 (dk_at dksX0_ordersFrom_2 17 rfl rfl)
theorem dX0_ordersFrom_63 : decode cX0_ordersFrom 63 = .ok (.iload 4, 2) := dk_21 4 (dk_at dksX0_ordersFrom_2 18 rfl rfl)
theorem dX0_ordersFrom_65 : decode cX0_ordersFrom 65 = .ok (.iastore, 1) := dk_79 (dk_at dksX0_ordersFrom_2 20 rfl rfl)
theorem dX0_ordersFrom_66 : decode cX0_ordersFrom 66 = .ok (.iload_n 3, 1) := dk_29 (dk_at dksX0_ordersFrom_2 21 rfl rfl)
theorem dX0_ordersFrom_67 : decode cX0_ordersFrom 67 = .ok (.aload_n 0, 1) := dk_42 (dk_at dksX0_ordersFrom_2 22 rfl rfl)
theorem dX0_ordersFrom_68 : decode cX0_ordersFrom 68 = .ok (.iload_n 1, 1) := dk_27 (dk_at dksX0_ordersFrom_2 23 rfl rfl)
theorem dX0_ordersFrom_69 : decode cX0_ordersFrom 69 = .ok (.iconst 1, 1) := dk_4 (dk_at dksX0_ordersFrom_3 0 rfl rfl)
theorem dX0_ordersFrom_70 : decode cX0_ordersFrom 70 = .ok (.iload 4, 2) := dk_21 4 (dk_at dksX0_ordersFrom_3 1 rfl rfl)
theorem dX0_ordersFrom_72 : decode cX0_ordersFrom 72 = .ok (.ishl, 1) := dk_120 (dk_at dksX0_ordersFrom_3 3 rfl rfl)
theorem dX0_ordersFrom_73 : decode cX0_ordersFrom 73 = .ok (.ior, 1) := dk_128 (dk_at dksX0_ordersFrom_3 4 rfl rfl)
theorem dX0_ordersFrom_74 : decode cX0_ordersFrom 74 = .ok (.iload_n 2, 1) := dk_28 (dk_at dksX0_ordersFrom_3 5 rfl rfl)
theorem dX0_ordersFrom_75 : decode cX0_ordersFrom 75 = .ok (.iconst 1, 1) := dk_4 (dk_at dksX0_ordersFrom_3 6 rfl rfl)
theorem dX0_ordersFrom_76 : decode cX0_ordersFrom 76 = .ok (.iadd, 1) := dk_96 (dk_at dksX0_ordersFrom_3 7 rfl rfl)
theorem dX0_ordersFrom_77 : decode cX0_ordersFrom 77 = .ok (.invokevirtual 305, 3) := dk_182 1 49 (dk_at dksX0_ordersFrom_3 8 rfl rfl)
theorem dX0_ordersFrom_80 : decode cX0_ordersFrom 80 = .ok (.iadd, 1) := dk_96 (dk_at dksX0_ordersFrom_3 11 rfl rfl)
theorem dX0_ordersFrom_81 : decode cX0_ordersFrom 81 = .ok (.istore_n 3, 1) := dk_62 (dk_at dksX0_ordersFrom_3 12 rfl rfl)
theorem dX0_ordersFrom_82 : decode cX0_ordersFrom 82 = .ok (.iinc 4 1, 3) := dk_132 4 1 (dk_at dksX0_ordersFrom_3 13 rfl rfl)
theorem dX0_ordersFrom_85 : decode cX0_ordersFrom 85 = .ok (.goto (-65), 3) := dk_167 255 191 (dk_at dksX0_ordersFrom_3 16 rfl rfl)
theorem dX0_ordersFrom_88 : decode cX0_ordersFrom 88 = .ok (.iload_n 3, 1) := dk_29 (dk_at dksX0_ordersFrom_3 19 rfl rfl)
theorem dX0_ordersFrom_89 : decode cX0_ordersFrom 89 = .ok (.ireturn, 1) := dk_172 (dk_at dksX0_ordersFrom_3 20 rfl rfl)
abbrev cX0_order : ByteArray := prog_1_method_37_code
def yX0_order : MethodName := ⟨RX0, "order", "(I)I"⟩
def dkwX0_order_1 : List UInt8 := [182, 0, 159, 4, 100, 133, 184, 0, 116, 153, 0, 12, 42, 180, 0, 35, 27, 46, 167, 0, 4, 2, 172]
abbrev dktX0_order_1 : List UInt8 := dkwX0_order_1 ++ []
def dkwX0_order_0 : List UInt8 := [42, 180, 0, 10, 182, 0, 161, 154, 0, 6, 16, 254, 172, 42, 182, 1, 52, 158, 0, 28, 27, 133, 9, 42]
abbrev dktX0_order_0 : List UInt8 := dkwX0_order_0 ++ dktX0_order_1
theorem dksX0_order_0 : cX0_order.data.toList.drop 0 = dktX0_order_0 := by decide +kernel
theorem dksX0_order_1 : cX0_order.data.toList.drop 24 = dktX0_order_1 := dk_seg dksX0_order_0 24 rfl rfl
theorem dX0_order_0 : decode cX0_order 0 = .ok (.aload_n 0, 1) := dk_42 (dk_at dksX0_order_0 0 rfl rfl)
theorem dX0_order_1 : decode cX0_order 1 = .ok (.getfield 10, 3) := dk_180 0 10 (dk_at dksX0_order_0 1 rfl rfl)
theorem dX0_order_4 : decode cX0_order 4 = .ok (.invokevirtual 161, 3) := dk_182 0 161 (dk_at dksX0_order_0 4 rfl rfl)
theorem dX0_order_7 : decode cX0_order 7 = .ok (.ifCond .ne 6, 3) := dk_154 0 6 (dk_at dksX0_order_0 7 rfl rfl)
theorem dX0_order_10 : decode cX0_order 10 = .ok (.bipush (-2), 2) := dk_16 254 (dk_at dksX0_order_0 10 rfl rfl)
theorem dX0_order_12 : decode cX0_order 12 = .ok (.ireturn, 1) := dk_172 (dk_at dksX0_order_0 12 rfl rfl)
theorem dX0_order_13 : decode cX0_order 13 = .ok (.aload_n 0, 1) := dk_42 (dk_at dksX0_order_0 13 rfl rfl)
theorem dX0_order_14 : decode cX0_order 14 = .ok (.invokevirtual 308, 3) := dk_182 1 52 (dk_at dksX0_order_0 14 rfl rfl)
theorem dX0_order_17 : decode cX0_order 17 = .ok (.ifCond .le 28, 3) := dk_158 0 28 (dk_at dksX0_order_0 17 rfl rfl)
theorem dX0_order_20 : decode cX0_order 20 = .ok (.iload_n 1, 1) := dk_27 (dk_at dksX0_order_0 20 rfl rfl)
theorem dX0_order_21 : decode cX0_order 21 = .ok (.i2l, 1) := dk_133 (dk_at dksX0_order_0 21 rfl rfl)
theorem dX0_order_22 : decode cX0_order 22 = .ok (.lconst 0, 1) := dk_9 (dk_at dksX0_order_0 22 rfl rfl)
theorem dX0_order_23 : decode cX0_order 23 = .ok (.aload_n 0, 1) := dk_42 (dk_at dksX0_order_0 23 rfl rfl)
theorem dX0_order_24 : decode cX0_order 24 = .ok (.invokevirtual 159, 3) := dk_182 0 159 (dk_at dksX0_order_1 0 rfl rfl)
theorem dX0_order_27 : decode cX0_order 27 = .ok (.iconst 1, 1) := dk_4 (dk_at dksX0_order_1 3 rfl rfl)
theorem dX0_order_28 : decode cX0_order 28 = .ok (.isub, 1) := dk_100 (dk_at dksX0_order_1 4 rfl rfl)
theorem dX0_order_29 : decode cX0_order 29 = .ok (.i2l, 1) := dk_133 (dk_at dksX0_order_1 5 rfl rfl)
theorem dX0_order_30 : decode cX0_order 30 = .ok (.invokestatic 116, 3) := dk_184 0 116 (dk_at dksX0_order_1 6 rfl rfl)
theorem dX0_order_33 : decode cX0_order 33 = .ok (.ifCond .eq 12, 3) := dk_153 0 12 (dk_at dksX0_order_1 9 rfl rfl)
theorem dX0_order_36 : decode cX0_order 36 = .ok (.aload_n 0, 1) := dk_42 (dk_at dksX0_order_1 12 rfl rfl)
theorem dX0_order_37 : decode cX0_order 37 = .ok (.getfield 35, 3) := dk_180 0 35 (dk_at dksX0_order_1 13 rfl rfl)
theorem dX0_order_40 : decode cX0_order 40 = .ok (.iload_n 1, 1) := dk_27 (dk_at dksX0_order_1 16 rfl rfl)
theorem dX0_order_41 : decode cX0_order 41 = .ok (.iaload, 1) := dk_46 (dk_at dksX0_order_1 17 rfl rfl)
theorem dX0_order_42 : decode cX0_order 42 = .ok (.goto 4, 3) := dk_167 0 4 (dk_at dksX0_order_1 18 rfl rfl)
theorem dX0_order_45 : decode cX0_order 45 = .ok (.iconst (-1), 1) := dk_2 (dk_at dksX0_order_1 21 rfl rfl)
theorem dX0_order_46 : decode cX0_order 46 = .ok (.ireturn, 1) := dk_172 (dk_at dksX0_order_1 22 rfl rfl)
abbrev cX0_path : ByteArray := prog_1_method_38_code
def yX0_path : MethodName := ⟨RX0, "path", "(III)I"⟩
def dkwX0_path_2 : List UInt8 := [182, 0, 178, 21, 4, 28, 182, 1, 38, 54, 4, 132, 5, 1, 167, 255, 228, 21, 4, 172]
abbrev dktX0_path_2 : List UInt8 := dkwX0_path_2 ++ []
def dkwX0_path_1 : List UInt8 := [16, 254, 172, 3, 54, 4, 3, 54, 5, 21, 5, 29, 162, 0, 28, 21, 4, 2, 159, 0, 22, 42, 27]
abbrev dktX0_path_1 : List UInt8 := dkwX0_path_1 ++ dktX0_path_2
def dkwX0_path_0 : List UInt8 := [42, 27, 182, 0, 168, 153, 0, 19, 28, 133, 9, 20, 1, 31, 184, 0, 116, 153, 0, 7, 29, 156, 0, 6]
abbrev dktX0_path_0 : List UInt8 := dkwX0_path_0 ++ dktX0_path_1
theorem dksX0_path_0 : cX0_path.data.toList.drop 0 = dktX0_path_0 := by decide +kernel
theorem dksX0_path_1 : cX0_path.data.toList.drop 24 = dktX0_path_1 := dk_seg dksX0_path_0 24 rfl rfl
theorem dksX0_path_2 : cX0_path.data.toList.drop 47 = dktX0_path_2 := dk_seg dksX0_path_1 23 rfl rfl
theorem dX0_path_0 : decode cX0_path 0 = .ok (.aload_n 0, 1) := dk_42 (dk_at dksX0_path_0 0 rfl rfl)
theorem dX0_path_1 : decode cX0_path 1 = .ok (.iload_n 1, 1) := dk_27 (dk_at dksX0_path_0 1 rfl rfl)
theorem dX0_path_2 : decode cX0_path 2 = .ok (.invokevirtual 168, 3) := dk_182 0 168 (dk_at dksX0_path_0 2 rfl rfl)
theorem dX0_path_5 : decode cX0_path 5 = .ok (.ifCond .eq 19, 3) := dk_153 0 19 (dk_at dksX0_path_0 5 rfl rfl)
theorem dX0_path_8 : decode cX0_path 8 = .ok (.iload_n 2, 1) := dk_28 (dk_at dksX0_path_0 8 rfl rfl)
theorem dX0_path_9 : decode cX0_path 9 = .ok (.i2l, 1) := dk_133 (dk_at dksX0_path_0 9 rfl rfl)
theorem dX0_path_10 : decode cX0_path 10 = .ok (.lconst 0, 1) := dk_9 (dk_at dksX0_path_0 10 rfl rfl)
theorem dX0_path_11 : decode cX0_path 11 = .ok (.ldc2_w 287, 3) := dk_20 1 31 (dk_at dksX0_path_0 11 rfl rfl)
theorem dX0_path_14 : decode cX0_path 14 = .ok (.invokestatic 116, 3) := dk_184 0 116 (dk_at dksX0_path_0 14 rfl rfl)
theorem dX0_path_17 : decode cX0_path 17 = .ok (.ifCond .eq 7, 3) := dk_153 0 7 (dk_at dksX0_path_0 17 rfl rfl)
theorem dX0_path_20 : decode cX0_path 20 = .ok (.iload_n 3, 1) := dk_29 (dk_at dksX0_path_0 20 rfl rfl)
theorem dX0_path_21 : decode cX0_path 21 = .ok (.ifCond .ge 6, 3) := dk_156 0 6 (dk_at dksX0_path_0 21 rfl rfl)
theorem dX0_path_24 : decode cX0_path 24 = .ok (.bipush (-2), 2) := dk_16 254 (dk_at dksX0_path_1 0 rfl rfl)
theorem dX0_path_26 : decode cX0_path 26 = .ok (.ireturn, 1) := dk_172 (dk_at dksX0_path_1 2 rfl rfl)
theorem dX0_path_27 : decode cX0_path 27 = .ok (.iconst 0, 1) := dk_3 (dk_at dksX0_path_1 3 rfl rfl)
theorem dX0_path_28 : decode cX0_path 28 = .ok (.istore 4, 2) := dk_54 4 (dk_at dksX0_path_1 4 rfl rfl)
theorem dX0_path_30 : decode cX0_path 30 = .ok (.iconst 0, 1) := dk_3 (dk_at dksX0_path_1 6 rfl rfl)
theorem dX0_path_31 : decode cX0_path 31 = .ok (.istore 5, 2) := dk_54 5 (dk_at dksX0_path_1 7 rfl rfl)
theorem dX0_path_33 : decode cX0_path 33 = .ok (.iload 5, 2) := dk_21 5 (dk_at dksX0_path_1 9 rfl rfl)
theorem dX0_path_35 : decode cX0_path 35 = .ok (.iload_n 3, 1) := dk_29 (dk_at dksX0_path_1 11 rfl rfl)
theorem dX0_path_36 : decode cX0_path 36 = .ok (.if_icmp .ge 28, 3) := dk_162 0 28 (dk_at dksX0_path_1 12 rfl rfl)
theorem dX0_path_39 : decode cX0_path 39 = .ok (.iload 4, 2) := dk_21 4 (dk_at dksX0_path_1 15 rfl rfl)
theorem dX0_path_41 : decode cX0_path 41 = .ok (.iconst (-1), 1) := dk_2 (dk_at dksX0_path_1 17 rfl rfl)
theorem dX0_path_42 : decode cX0_path 42 = .ok (.if_icmp .eq 22, 3) := dk_159 0 22 (dk_at dksX0_path_1 18 rfl rfl)
theorem dX0_path_45 : decode cX0_path 45 = .ok (.aload_n 0, 1) := dk_42 (dk_at dksX0_path_1 21 rfl rfl)
theorem dX0_path_46 : decode cX0_path 46 = .ok (.iload_n 1, 1) := dk_27 (dk_at dksX0_path_1 22 rfl rfl)
theorem dX0_path_47 : decode cX0_path 47 = .ok (.invokevirtual 178, 3) := dk_182 0 178 (dk_at dksX0_path_2 0 rfl rfl)
theorem dX0_path_50 : decode cX0_path 50 = .ok (.iload 4, 2) := dk_21 4 (dk_at dksX0_path_2 3 rfl rfl)
theorem dX0_path_52 : decode cX0_path 52 = .ok (.iload_n 2, 1) := dk_28 (dk_at dksX0_path_2 5 rfl rfl)
theorem dX0_path_53 : decode cX0_path 53 = .ok (.invokevirtual 294, 3) := dk_182 1 38 (dk_at dksX0_path_2 6 rfl rfl)
theorem dX0_path_56 : decode cX0_path 56 = .ok (.istore 4, 2) := dk_54 4 (dk_at dksX0_path_2 9 rfl rfl)
theorem dX0_path_58 : decode cX0_path 58 = .ok (.iinc 5 1, 3) := dk_132 5 1 (dk_at dksX0_path_2 11 rfl rfl)
theorem dX0_path_61 : decode cX0_path 61 = .ok (.goto (-28), 3) := dk_167 255 228 (dk_at dksX0_path_2 14 rfl rfl)
theorem dX0_path_64 : decode cX0_path 64 = .ok (.iload 4, 2) := dk_21 4 (dk_at dksX0_path_2 17 rfl rfl)
theorem dX0_path_66 : decode cX0_path 66 = .ok (.ireturn, 1) := dk_172 (dk_at dksX0_path_2 19 rfl rfl)
abbrev cX0_lawful : ByteArray := prog_1_method_39_code
def yX0_lawful : MethodName := ⟨RX0, "lawful", "()I"⟩
def dkwX0_lawful_0 : List UInt8 := [42, 180, 0, 10, 182, 0, 161, 154, 0, 6, 16, 254, 172, 42, 182, 1, 28, 172]
abbrev dktX0_lawful_0 : List UInt8 := dkwX0_lawful_0 ++ []
theorem dksX0_lawful_0 : cX0_lawful.data.toList.drop 0 = dktX0_lawful_0 := by decide +kernel
theorem dX0_lawful_0 : decode cX0_lawful 0 = .ok (.aload_n 0, 1) := dk_42 (dk_at dksX0_lawful_0 0 rfl rfl)
theorem dX0_lawful_1 : decode cX0_lawful 1 = .ok (.getfield 10, 3) := dk_180 0 10 (dk_at dksX0_lawful_0 1 rfl rfl)
theorem dX0_lawful_4 : decode cX0_lawful 4 = .ok (.invokevirtual 161, 3) := dk_182 0 161 (dk_at dksX0_lawful_0 4 rfl rfl)
theorem dX0_lawful_7 : decode cX0_lawful 7 = .ok (.ifCond .ne 6, 3) := dk_154 0 6 (dk_at dksX0_lawful_0 7 rfl rfl)
theorem dX0_lawful_10 : decode cX0_lawful 10 = .ok (.bipush (-2), 2) := dk_16 254 (dk_at dksX0_lawful_0 10 rfl rfl)
theorem dX0_lawful_12 : decode cX0_lawful 12 = .ok (.ireturn, 1) := dk_172 (dk_at dksX0_lawful_0 12 rfl rfl)
theorem dX0_lawful_13 : decode cX0_lawful 13 = .ok (.aload_n 0, 1) := dk_42 (dk_at dksX0_lawful_0 13 rfl rfl)
theorem dX0_lawful_14 : decode cX0_lawful 14 = .ok (.invokevirtual 284, 3) := dk_182 1 28 (dk_at dksX0_lawful_0 14 rfl rfl)
theorem dX0_lawful_17 : decode cX0_lawful 17 = .ok (.ireturn, 1) := dk_172 (dk_at dksX0_lawful_0 17 rfl rfl)
abbrev cX0_load : ByteArray := prog_1_method_40_code
def yX0_load : MethodName := ⟨RX0, "load", "()I"⟩
def dkwX0_load_2 : List UInt8 := [68, 132, 2, 1, 167, 255, 223, 35, 184, 1, 55, 172]
abbrev dktX0_load_2 : List UInt8 := dkwX0_load_2 ++ []
def dkwX0_load_1 : List UInt8 := [162, 0, 31, 35, 42, 28, 182, 0, 178, 182, 0, 241, 134, 42, 28, 182, 0, 178, 180, 0, 185, 134, 110, 98]
abbrev dktX0_load_1 : List UInt8 := dkwX0_load_1 ++ dktX0_load_2
def dkwX0_load_0 : List UInt8 := [42, 180, 0, 10, 182, 0, 161, 154, 0, 6, 16, 254, 172, 11, 68, 3, 61, 28, 42, 182, 0, 159]
abbrev dktX0_load_0 : List UInt8 := dkwX0_load_0 ++ dktX0_load_1
theorem dksX0_load_0 : cX0_load.data.toList.drop 0 = dktX0_load_0 := by decide +kernel
theorem dksX0_load_1 : cX0_load.data.toList.drop 22 = dktX0_load_1 := dk_seg dksX0_load_0 22 rfl rfl
theorem dksX0_load_2 : cX0_load.data.toList.drop 46 = dktX0_load_2 := dk_seg dksX0_load_1 24 rfl rfl
theorem dX0_load_0 : decode cX0_load 0 = .ok (.aload_n 0, 1) := dk_42 (dk_at dksX0_load_0 0 rfl rfl)
theorem dX0_load_1 : decode cX0_load 1 = .ok (.getfield 10, 3) := dk_180 0 10 (dk_at dksX0_load_0 1 rfl rfl)
theorem dX0_load_4 : decode cX0_load 4 = .ok (.invokevirtual 161, 3) := dk_182 0 161 (dk_at dksX0_load_0 4 rfl rfl)
theorem dX0_load_7 : decode cX0_load 7 = .ok (.ifCond .ne 6, 3) := dk_154 0 6 (dk_at dksX0_load_0 7 rfl rfl)
theorem dX0_load_10 : decode cX0_load 10 = .ok (.bipush (-2), 2) := dk_16 254 (dk_at dksX0_load_0 10 rfl rfl)
theorem dX0_load_12 : decode cX0_load 12 = .ok (.ireturn, 1) := dk_172 (dk_at dksX0_load_0 12 rfl rfl)
theorem dX0_load_13 : decode cX0_load 13 = .ok (.fconst 0, 1) := dk_11 (dk_at dksX0_load_0 13 rfl rfl)
theorem dX0_load_14 : decode cX0_load 14 = .ok (.fstore_n 1, 1) := dk_68 (dk_at dksX0_load_0 14 rfl rfl)
theorem dX0_load_15 : decode cX0_load 15 = .ok (.iconst 0, 1) := dk_3 (dk_at dksX0_load_0 15 rfl rfl)
theorem dX0_load_16 : decode cX0_load 16 = .ok (.istore_n 2, 1) := dk_61 (dk_at dksX0_load_0 16 rfl rfl)
theorem dX0_load_17 : decode cX0_load 17 = .ok (.iload_n 2, 1) := dk_28 (dk_at dksX0_load_0 17 rfl rfl)
theorem dX0_load_18 : decode cX0_load 18 = .ok (.aload_n 0, 1) := dk_42 (dk_at dksX0_load_0 18 rfl rfl)
theorem dX0_load_19 : decode cX0_load 19 = .ok (.invokevirtual 159, 3) := dk_182 0 159 (dk_at dksX0_load_0 19 rfl rfl)
theorem dX0_load_22 : decode cX0_load 22 = .ok (.if_icmp .ge 31, 3) := dk_162 0 31 (dk_at dksX0_load_1 0 rfl rfl)
theorem dX0_load_25 : decode cX0_load 25 = .ok (.fload_n 1, 1) := dk_35 (dk_at dksX0_load_1 3 rfl rfl)
theorem dX0_load_26 : decode cX0_load 26 = .ok (.aload_n 0, 1) := dk_42 (dk_at dksX0_load_1 4 rfl rfl)
theorem dX0_load_27 : decode cX0_load 27 = .ok (.iload_n 2, 1) := dk_28 (dk_at dksX0_load_1 5 rfl rfl)
theorem dX0_load_28 : decode cX0_load 28 = .ok (.invokevirtual 178, 3) := dk_182 0 178 (dk_at dksX0_load_1 6 rfl rfl)
theorem dX0_load_31 : decode cX0_load 31 = .ok (.invokevirtual 241, 3) := dk_182 0 241 (dk_at dksX0_load_1 9 rfl rfl)
theorem dX0_load_34 : decode cX0_load 34 = .ok (.i2f, 1) := dk_134 (dk_at dksX0_load_1 12 rfl rfl)
theorem dX0_load_35 : decode cX0_load 35 = .ok (.aload_n 0, 1) := dk_42 (dk_at dksX0_load_1 13 rfl rfl)
theorem dX0_load_36 : decode cX0_load 36 = .ok (.iload_n 2, 1) := dk_28 (dk_at dksX0_load_1 14 rfl rfl)
theorem dX0_load_37 : decode cX0_load 37 = .ok (.invokevirtual 178, 3) := dk_182 0 178 (dk_at dksX0_load_1 15 rfl rfl)
theorem dX0_load_40 : decode cX0_load 40 = .ok (.getfield 185, 3) := dk_180 0 185 (dk_at dksX0_load_1 18 rfl rfl)
theorem dX0_load_43 : decode cX0_load 43 = .ok (.i2f, 1) := dk_134 (dk_at dksX0_load_1 21 rfl rfl)
theorem dX0_load_44 : decode cX0_load 44 = .ok (.fdiv, 1) := dk_110 (dk_at dksX0_load_1 22 rfl rfl)
theorem dX0_load_45 : decode cX0_load 45 = .ok (.fadd, 1) := dk_98 (dk_at dksX0_load_1 23 rfl rfl)
theorem dX0_load_46 : decode cX0_load 46 = .ok (.fstore_n 1, 1) := dk_68 (dk_at dksX0_load_2 0 rfl rfl)
theorem dX0_load_47 : decode cX0_load 47 = .ok (.iinc 2 1, 3) := dk_132 2 1 (dk_at dksX0_load_2 1 rfl rfl)
theorem dX0_load_50 : decode cX0_load 50 = .ok (.goto (-33), 3) := dk_167 255 223 (dk_at dksX0_load_2 4 rfl rfl)
theorem dX0_load_53 : decode cX0_load 53 = .ok (.fload_n 1, 1) := dk_35 (dk_at dksX0_load_2 7 rfl rfl)
theorem dX0_load_54 : decode cX0_load 54 = .ok (.invokestatic 311, 3) := dk_184 1 55 (dk_at dksX0_load_2 8 rfl rfl)
theorem dX0_load_57 : decode cX0_load 57 = .ok (.ireturn, 1) := dk_172 (dk_at dksX0_load_2 11 rfl rfl)
abbrev cX0_had : ByteArray := prog_1_method_60_code
def yX0_had : MethodName := ⟨RX0, "had", "(I)I"⟩
def dkwX0_had_1 : List UInt8 := [184, 0, 116, 154, 0, 6, 16, 254, 172, 42, 27, 4, 96, 2, 182, 1, 189, 42, 180, 0, 62, 27, 46, 172]
abbrev dktX0_had_1 : List UInt8 := dkwX0_had_1 ++ []
def dkwX0_had_0 : List UInt8 := [42, 180, 0, 10, 182, 0, 161, 153, 0, 22, 27, 133, 9, 42, 180, 0, 10, 180, 0, 165, 4, 100, 133]
abbrev dktX0_had_0 : List UInt8 := dkwX0_had_0 ++ dktX0_had_1
theorem dksX0_had_0 : cX0_had.data.toList.drop 0 = dktX0_had_0 := by decide +kernel
theorem dksX0_had_1 : cX0_had.data.toList.drop 23 = dktX0_had_1 := dk_seg dksX0_had_0 23 rfl rfl
theorem dX0_had_0 : decode cX0_had 0 = .ok (.aload_n 0, 1) := dk_42 (dk_at dksX0_had_0 0 rfl rfl)
theorem dX0_had_1 : decode cX0_had 1 = .ok (.getfield 10, 3) := dk_180 0 10 (dk_at dksX0_had_0 1 rfl rfl)
theorem dX0_had_4 : decode cX0_had 4 = .ok (.invokevirtual 161, 3) := dk_182 0 161 (dk_at dksX0_had_0 4 rfl rfl)
theorem dX0_had_7 : decode cX0_had 7 = .ok (.ifCond .eq 22, 3) := dk_153 0 22 (dk_at dksX0_had_0 7 rfl rfl)
theorem dX0_had_10 : decode cX0_had 10 = .ok (.iload_n 1, 1) := dk_27 (dk_at dksX0_had_0 10 rfl rfl)
theorem dX0_had_11 : decode cX0_had 11 = .ok (.i2l, 1) := dk_133 (dk_at dksX0_had_0 11 rfl rfl)
theorem dX0_had_12 : decode cX0_had 12 = .ok (.lconst 0, 1) := dk_9 (dk_at dksX0_had_0 12 rfl rfl)
theorem dX0_had_13 : decode cX0_had 13 = .ok (.aload_n 0, 1) := dk_42 (dk_at dksX0_had_0 13 rfl rfl)
theorem dX0_had_14 : decode cX0_had 14 = .ok (.getfield 10, 3) := dk_180 0 10 (dk_at dksX0_had_0 14 rfl rfl)
theorem dX0_had_17 : decode cX0_had 17 = .ok (.getfield 165, 3) := dk_180 0 165 (dk_at dksX0_had_0 17 rfl rfl)
theorem dX0_had_20 : decode cX0_had 20 = .ok (.iconst 1, 1) := dk_4 (dk_at dksX0_had_0 20 rfl rfl)
theorem dX0_had_21 : decode cX0_had 21 = .ok (.isub, 1) := dk_100 (dk_at dksX0_had_0 21 rfl rfl)
theorem dX0_had_22 : decode cX0_had 22 = .ok (.i2l, 1) := dk_133 (dk_at dksX0_had_0 22 rfl rfl)
theorem dX0_had_23 : decode cX0_had 23 = .ok (.invokestatic 116, 3) := dk_184 0 116 (dk_at dksX0_had_1 0 rfl rfl)
theorem dX0_had_26 : decode cX0_had 26 = .ok (.ifCond .ne 6, 3) := dk_154 0 6 (dk_at dksX0_had_1 3 rfl rfl)
theorem dX0_had_29 : decode cX0_had 29 = .ok (.bipush (-2), 2) := dk_16 254 (dk_at dksX0_had_1 6 rfl rfl)
theorem dX0_had_31 : decode cX0_had 31 = .ok (.ireturn, 1) := dk_172 (dk_at dksX0_had_1 8 rfl rfl)
theorem dX0_had_32 : decode cX0_had 32 = .ok (.aload_n 0, 1) := dk_42 (dk_at dksX0_had_1 9 rfl rfl)
theorem dX0_had_33 : decode cX0_had 33 = .ok (.iload_n 1, 1) := dk_27 (dk_at dksX0_had_1 10 rfl rfl)
theorem dX0_had_34 : decode cX0_had 34 = .ok (.iconst 1, 1) := dk_4 (dk_at dksX0_had_1 11 rfl rfl)
theorem dX0_had_35 : decode cX0_had 35 = .ok (.iadd, 1) := dk_96 (dk_at dksX0_had_1 12 rfl rfl)
theorem dX0_had_36 : decode cX0_had 36 = .ok (.iconst (-1), 1) := dk_2 (dk_at dksX0_had_1 13 rfl rfl)
theorem dX0_had_37 : decode cX0_had 37 = .ok (.invokevirtual 445, 3) := dk_182 1 189 (dk_at dksX0_had_1 14 rfl rfl)
theorem dX0_had_40 : decode cX0_had 40 = .ok (.aload_n 0, 1) := dk_42 (dk_at dksX0_had_1 17 rfl rfl)
theorem dX0_had_41 : decode cX0_had 41 = .ok (.getfield 62, 3) := dk_180 0 62 (dk_at dksX0_had_1 18 rfl rfl)
theorem dX0_had_44 : decode cX0_had 44 = .ok (.iload_n 1, 1) := dk_27 (dk_at dksX0_had_1 21 rfl rfl)
theorem dX0_had_45 : decode cX0_had 45 = .ok (.iaload, 1) := dk_46 (dk_at dksX0_had_1 22 rfl rfl)
theorem dX0_had_46 : decode cX0_had 46 = .ok (.ireturn, 1) := dk_172 (dk_at dksX0_had_1 23 rfl rfl)
abbrev cX0_runs : ByteArray := prog_1_method_42_code
def yX0_runs : MethodName := ⟨RX0, "runs", "(II)V"⟩
def dkwX0_runs_6 : List UInt8 := [181, 1, 76, 167, 255, 216, 177]
abbrev dktX0_runs_6 : List UInt8 := dkwX0_runs_6 ++ []
def dkwX0_runs_5 : List UInt8 := [180, 1, 76, 2, 79, 42, 180, 1, 70, 2, 160, 0, 7, 42, 182, 1, 79, 42, 89, 180, 1, 76, 4, 96]
abbrev dktX0_runs_5 : List UInt8 := dkwX0_runs_5 ++ dktX0_runs_6
def dkwX0_runs_4 : List UInt8 := [132, 3, 1, 167, 255, 232, 42, 3, 181, 1, 76, 42, 180, 1, 76, 27, 162, 0, 38, 42, 180, 0, 62, 42]
abbrev dktX0_runs_4 : List UInt8 := dkwX0_runs_4 ++ dktX0_runs_5
def dkwX0_runs_3 : List UInt8 := [3, 62, 29, 42, 180, 0, 10, 180, 0, 175, 182, 0, 147, 162, 0, 16, 42, 180, 0, 93, 29, 2, 79]
abbrev dktX0_runs_3 : List UInt8 := dkwX0_runs_3 ++ dktX0_runs_4
def dkwX0_runs_2 : List UInt8 := [6, 162, 0, 23, 42, 180, 0, 65, 29, 2, 79, 42, 180, 0, 68, 29, 3, 79, 132, 3, 1, 167, 255, 234]
abbrev dktX0_runs_2 : List UInt8 := dkwX0_runs_2 ++ dktX0_runs_3
def dkwX0_runs_1 : List UInt8 := [182, 0, 159, 162, 0, 18, 42, 180, 0, 58, 29, 50, 182, 1, 73, 132, 3, 1, 167, 255, 236, 3, 62, 29]
abbrev dktX0_runs_1 : List UInt8 := dkwX0_runs_1 ++ dktX0_runs_2
def dkwX0_runs_0 : List UInt8 := [42, 28, 181, 1, 61, 42, 3, 181, 1, 64, 42, 3, 181, 1, 67, 42, 2, 181, 1, 70, 3, 62, 29, 42]
abbrev dktX0_runs_0 : List UInt8 := dkwX0_runs_0 ++ dktX0_runs_1
theorem dksX0_runs_0 : cX0_runs.data.toList.drop 0 = dktX0_runs_0 := by decide +kernel
theorem dksX0_runs_1 : cX0_runs.data.toList.drop 24 = dktX0_runs_1 := dk_seg dksX0_runs_0 24 rfl rfl
theorem dksX0_runs_2 : cX0_runs.data.toList.drop 48 = dktX0_runs_2 := dk_seg dksX0_runs_1 24 rfl rfl
theorem dksX0_runs_3 : cX0_runs.data.toList.drop 72 = dktX0_runs_3 := dk_seg dksX0_runs_2 24 rfl rfl
theorem dksX0_runs_4 : cX0_runs.data.toList.drop 95 = dktX0_runs_4 := dk_seg dksX0_runs_3 23 rfl rfl
theorem dksX0_runs_5 : cX0_runs.data.toList.drop 119 = dktX0_runs_5 := dk_seg dksX0_runs_4 24 rfl rfl
theorem dksX0_runs_6 : cX0_runs.data.toList.drop 143 = dktX0_runs_6 := dk_seg dksX0_runs_5 24 rfl rfl
theorem dX0_runs_0 : decode cX0_runs 0 = .ok (.aload_n 0, 1) := dk_42 (dk_at dksX0_runs_0 0 rfl rfl)
theorem dX0_runs_1 : decode cX0_runs 1 = .ok (.iload_n 2, 1) := dk_28 (dk_at dksX0_runs_0 1 rfl rfl)
theorem dX0_runs_2 : decode cX0_runs 2 = .ok (.putfield 317, 3) := dk_181 1 61 (dk_at dksX0_runs_0 2 rfl rfl)
theorem dX0_runs_5 : decode cX0_runs 5 = .ok (.aload_n 0, 1) := dk_42 (dk_at dksX0_runs_0 5 rfl rfl)
theorem dX0_runs_6 : decode cX0_runs 6 = .ok (.iconst 0, 1) := dk_3 (dk_at dksX0_runs_0 6 rfl rfl)
theorem dX0_runs_7 : decode cX0_runs 7 = .ok (.putfield 320, 3) := dk_181 1 64 (dk_at dksX0_runs_0 7 rfl rfl)
theorem dX0_runs_10 : decode cX0_runs 10 = .ok (.aload_n 0, 1) := dk_42 (dk_at dksX0_runs_0 10 rfl rfl)
theorem dX0_runs_11 : decode cX0_runs 11 = .ok (.iconst 0, 1) := dk_3 (dk_at dksX0_runs_0 11 rfl rfl)
theorem dX0_runs_12 : decode cX0_runs 12 = .ok (.putfield 323, 3) := dk_181 1 67 (dk_at dksX0_runs_0 12 rfl rfl)
theorem dX0_runs_15 : decode cX0_runs 15 = .ok (.aload_n 0, 1) := dk_42 (dk_at dksX0_runs_0 15 rfl rfl)
theorem dX0_runs_16 : decode cX0_runs 16 = .ok (.iconst (-1), 1) := dk_2 (dk_at dksX0_runs_0 16 rfl rfl)
theorem dX0_runs_17 : decode cX0_runs 17 = .ok (.putfield 326, 3) := dk_181 1 70 (dk_at dksX0_runs_0 17 rfl rfl)
theorem dX0_runs_20 : decode cX0_runs 20 = .ok (.iconst 0, 1) := dk_3 (dk_at dksX0_runs_0 20 rfl rfl)
theorem dX0_runs_21 : decode cX0_runs 21 = .ok (.istore_n 3, 1) := dk_62 (dk_at dksX0_runs_0 21 rfl rfl)
theorem dX0_runs_22 : decode cX0_runs 22 = .ok (.iload_n 3, 1) := dk_29 (dk_at dksX0_runs_0 22 rfl rfl)
theorem dX0_runs_23 : decode cX0_runs 23 = .ok (.aload_n 0, 1) := dk_42 (dk_at dksX0_runs_0 23 rfl rfl)
theorem dX0_runs_24 : decode cX0_runs 24 = .ok (.invokevirtual 159, 3) := dk_182 0 159 (dk_at dksX0_runs_1 0 rfl rfl)
theorem dX0_runs_27 : decode cX0_runs 27 = .ok (.if_icmp .ge 18, 3) := dk_162 0 18 (dk_at dksX0_runs_1 3 rfl rfl)
theorem dX0_runs_30 : decode cX0_runs 30 = .ok (.aload_n 0, 1) := dk_42 (dk_at dksX0_runs_1 6 rfl rfl)
theorem dX0_runs_31 : decode cX0_runs 31 = .ok (.getfield 58, 3) := dk_180 0 58 (dk_at dksX0_runs_1 7 rfl rfl)
theorem dX0_runs_34 : decode cX0_runs 34 = .ok (.iload_n 3, 1) := dk_29 (dk_at dksX0_runs_1 10 rfl rfl)
theorem dX0_runs_35 : decode cX0_runs 35 = .ok (.aaload, 1) := dk_50 (dk_at dksX0_runs_1 11 rfl rfl)
theorem dX0_runs_36 : decode cX0_runs 36 = .ok (.invokevirtual 329, 3) := dk_182 1 73 (dk_at dksX0_runs_1 12 rfl rfl)
theorem dX0_runs_39 : decode cX0_runs 39 = .ok (.iinc 3 1, 3) := dk_132 3 1 (dk_at dksX0_runs_1 15 rfl rfl)
theorem dX0_runs_42 : decode cX0_runs 42 = .ok (.goto (-20), 3) := dk_167 255 236 (dk_at dksX0_runs_1 18 rfl rfl)
theorem dX0_runs_45 : decode cX0_runs 45 = .ok (.iconst 0, 1) := dk_3 (dk_at dksX0_runs_1 21 rfl rfl)
theorem dX0_runs_46 : decode cX0_runs 46 = .ok (.istore_n 3, 1) := dk_62 (dk_at dksX0_runs_1 22 rfl rfl)
theorem dX0_runs_47 : decode cX0_runs 47 = .ok (.iload_n 3, 1) := dk_29 (dk_at dksX0_runs_1 23 rfl rfl)
theorem dX0_runs_48 : decode cX0_runs 48 = .ok (.iconst 3, 1) := dk_6 (dk_at dksX0_runs_2 0 rfl rfl)
theorem dX0_runs_49 : decode cX0_runs 49 = .ok (.if_icmp .ge 23, 3) := dk_162 0 23 (dk_at dksX0_runs_2 1 rfl rfl)
theorem dX0_runs_52 : decode cX0_runs 52 = .ok (.aload_n 0, 1) := dk_42 (dk_at dksX0_runs_2 4 rfl rfl)
theorem dX0_runs_53 : decode cX0_runs 53 = .ok (.getfield 65, 3) := dk_180 0 65 (dk_at dksX0_runs_2 5 rfl rfl)
theorem dX0_runs_56 : decode cX0_runs 56 = .ok (.iload_n 3, 1) := dk_29 (dk_at dksX0_runs_2 8 rfl rfl)
theorem dX0_runs_57 : decode cX0_runs 57 = .ok (.iconst (-1), 1) := dk_2 (dk_at dksX0_runs_2 9 rfl rfl)
theorem dX0_runs_58 : decode cX0_runs 58 = .ok (.iastore, 1) := dk_79 (dk_at dksX0_runs_2 10 rfl rfl)
theorem dX0_runs_59 : decode cX0_runs 59 = .ok (.aload_n 0, 1) := dk_42 (dk_at dksX0_runs_2 11 rfl rfl)
theorem dX0_runs_60 : decode cX0_runs 60 = .ok (.getfield 68, 3) := dk_180 0 68 (dk_at dksX0_runs_2 12 rfl rfl)
theorem dX0_runs_63 : decode cX0_runs 63 = .ok (.iload_n 3, 1) := dk_29 (dk_at dksX0_runs_2 15 rfl rfl)
theorem dX0_runs_64 : decode cX0_runs 64 = .ok (.iconst 0, 1) := dk_3 (dk_at dksX0_runs_2 16 rfl rfl)
theorem dX0_runs_65 : decode cX0_runs 65 = .ok (.iastore, 1) := dk_79 (dk_at dksX0_runs_2 17 rfl rfl)
theorem dX0_runs_66 : decode cX0_runs 66 = .ok (.iinc 3 1, 3) := dk_132 3 1 (dk_at dksX0_runs_2 18 rfl rfl)
theorem dX0_runs_69 : decode cX0_runs 69 = .ok (.goto (-22), 3) := dk_167 255 234 (dk_at dksX0_runs_2 21 rfl rfl)
theorem dX0_runs_72 : decode cX0_runs 72 = .ok (.iconst 0, 1) := dk_3 (dk_at dksX0_runs_3 0 rfl rfl)
theorem dX0_runs_73 : decode cX0_runs 73 = .ok (.istore_n 3, 1) := dk_62 (dk_at dksX0_runs_3 1 rfl rfl)
theorem dX0_runs_74 : decode cX0_runs 74 = .ok (.iload_n 3, 1) := dk_29 (dk_at dksX0_runs_3 2 rfl rfl)
theorem dX0_runs_75 : decode cX0_runs 75 = .ok (.aload_n 0, 1) := dk_42 (dk_at dksX0_runs_3 3 rfl rfl)
theorem dX0_runs_76 : decode cX0_runs 76 = .ok (.getfield 10, 3) := dk_180 0 10 (dk_at dksX0_runs_3 4 rfl rfl)
theorem dX0_runs_79 : decode cX0_runs 79 = .ok (.getfield 175, 3) := dk_180 0 175 (dk_at dksX0_runs_3 7 rfl rfl)
theorem dX0_runs_82 : decode cX0_runs 82 = .ok (.invokevirtual 147, 3) := dk_182 0 147 (dk_at dksX0_runs_3 10 rfl rfl)
theorem dX0_runs_85 : decode cX0_runs 85 = .ok (.if_icmp .ge 16, 3) := dk_162 0 16 (dk_at dksX0_runs_3 13 rfl rfl)
theorem dX0_runs_88 : decode cX0_runs 88 = .ok (.aload_n 0, 1) := dk_42 (dk_at dksX0_runs_3 16 rfl rfl)
theorem dX0_runs_89 : decode cX0_runs 89 = .ok (.getfield 93, 3) := dk_180 0 93 (dk_at dksX0_runs_3 17 rfl rfl)
theorem dX0_runs_92 : decode cX0_runs 92 = .ok (.iload_n 3, 1) := dk_29 (dk_at dksX0_runs_3 20 rfl rfl)
theorem dX0_runs_93 : decode cX0_runs 93 = .ok (.iconst (-1), 1) := dk_2 (dk_at dksX0_runs_3 21 rfl rfl)
theorem dX0_runs_94 : decode cX0_runs 94 = .ok (.iastore, 1) := dk_79 (dk_at dksX0_runs_3 22 rfl rfl)
theorem dX0_runs_95 : decode cX0_runs 95 = .ok (.iinc 3 1, 3) := dk_132 3 1 (dk_at dksX0_runs_4 0 rfl rfl)
theorem dX0_runs_98 : decode cX0_runs 98 = .ok (.goto (-24), 3) := dk_167 255 232 (dk_at dksX0_runs_4 3 rfl rfl)
theorem dX0_runs_101 : decode cX0_runs 101 = .ok (.aload_n 0, 1) := dk_42 (dk_at dksX0_runs_4 6 rfl rfl)
theorem dX0_runs_102 : decode cX0_runs 102 = .ok (.iconst 0, 1) := dk_3 (dk_at dksX0_runs_4 7 rfl rfl)
theorem dX0_runs_103 : decode cX0_runs 103 = .ok (.putfield 332, 3) := dk_181 1 76 (dk_at dksX0_runs_4 8 rfl rfl)
theorem dX0_runs_106 : decode cX0_runs 106 = .ok (.aload_n 0, 1) := dk_42 (dk_at dksX0_runs_4 11 rfl rfl)
theorem dX0_runs_107 : decode cX0_runs 107 = .ok (.getfield 332, 3) := dk_180 1 76 (dk_at dksX0_runs_4 12 rfl rfl)
theorem dX0_runs_110 : decode cX0_runs 110 = .ok (.iload_n 1, 1) := dk_27 (dk_at dksX0_runs_4 15 rfl rfl)
theorem dX0_runs_111 : decode cX0_runs 111 = .ok (.if_icmp .ge 38, 3) := dk_162 0 38 (dk_at dksX0_runs_4 16 rfl rfl)
theorem dX0_runs_114 : decode cX0_runs 114 = .ok (.aload_n 0, 1) := dk_42 (dk_at dksX0_runs_4 19 rfl rfl)
theorem dX0_runs_115 : decode cX0_runs 115 = .ok (.getfield 62, 3) := dk_180 0 62 (dk_at dksX0_runs_4 20 rfl rfl)
theorem dX0_runs_118 : decode cX0_runs 118 = .ok (.aload_n 0, 1) := dk_42 (dk_at dksX0_runs_4 23 rfl rfl)
theorem dX0_runs_119 : decode cX0_runs 119 = .ok (.getfield 332, 3) := dk_180 1 76 (dk_at dksX0_runs_5 0 rfl rfl)
theorem dX0_runs_122 : decode cX0_runs 122 = .ok (.iconst (-1), 1) := dk_2 (dk_at dksX0_runs_5 3 rfl rfl)
theorem dX0_runs_123 : decode cX0_runs 123 = .ok (.iastore, 1) := dk_79 (dk_at dksX0_runs_5 4 rfl rfl)
theorem dX0_runs_124 : decode cX0_runs 124 = .ok (.aload_n 0, 1) := dk_42 (dk_at dksX0_runs_5 5 rfl rfl)
theorem dX0_runs_125 : decode cX0_runs 125 = .ok (.getfield 326, 3) := dk_180 1 70 (dk_at dksX0_runs_5 6 rfl rfl)
theorem dX0_runs_128 : decode cX0_runs 128 = .ok (.iconst (-1), 1) := dk_2 (dk_at dksX0_runs_5 9 rfl rfl)
theorem dX0_runs_129 : decode cX0_runs 129 = .ok (.if_icmp .ne 7, 3) := dk_160 0 7 (dk_at dksX0_runs_5 10 rfl rfl)
theorem dX0_runs_132 : decode cX0_runs 132 = .ok (.aload_n 0, 1) := dk_42 (dk_at dksX0_runs_5 13 rfl rfl)
theorem dX0_runs_133 : decode cX0_runs 133 = .ok (.invokevirtual 335, 3) := dk_182 1 79 (dk_at dksX0_runs_5 14 rfl rfl)
theorem dX0_runs_136 : decode cX0_runs 136 = .ok (.aload_n 0, 1) := dk_42 (dk_at dksX0_runs_5 17 rfl rfl)
theorem dX0_runs_137 : decode cX0_runs 137 = .ok (.dup, 1) := dk_89 (dk_at dksX0_runs_5 18 rfl rfl)
theorem dX0_runs_138 : decode cX0_runs 138 = .ok (.getfield 332, 3) := dk_180 1 76 (dk_at dksX0_runs_5 19 rfl rfl)
theorem dX0_runs_141 : decode cX0_runs 141 = .ok (.iconst 1, 1) := dk_4 (dk_at dksX0_runs_5 22 rfl rfl)
theorem dX0_runs_142 : decode cX0_runs 142 = .ok (.iadd, 1) := dk_96 (dk_at dksX0_runs_5 23 rfl rfl)
theorem dX0_runs_143 : decode cX0_runs 143 = .ok (.putfield 332, 3) := dk_181 1 76 (dk_at dksX0_runs_6 0 rfl rfl)
theorem dX0_runs_146 : decode cX0_runs 146 = .ok (.goto (-40), 3) := dk_167 255 216 (dk_at dksX0_runs_6 3 rfl rfl)
theorem dX0_runs_149 : decode cX0_runs 149 = .ok (.return_, 1) := dk_177 (dk_at dksX0_runs_6 6 rfl rfl)
abbrev cX0_goes : ByteArray := prog_1_method_43_code
def yX0_goes : MethodName := ⟨RX0, "goes", "()V"⟩
def dkwX0_goes_6 : List UInt8 := [162, 0, 18, 42, 180, 0, 58, 28, 50, 184, 1, 100, 132, 2, 1, 167, 255, 236, 177]
abbrev dktX0_goes_6 : List UInt8 := dkwX0_goes_6 ++ []
def dkwX0_goes_5 : List UInt8 := [180, 1, 76, 4, 96, 42, 180, 0, 10, 180, 1, 11, 112, 154, 0, 28, 3, 61, 28, 42, 182, 0, 159]
abbrev dktX0_goes_5 : List UInt8 := dkwX0_goes_5 ++ dktX0_goes_6
def dkwX0_goes_4 : List UInt8 := [162, 0, 18, 42, 180, 0, 58, 27, 50, 182, 1, 95, 132, 1, 1, 167, 255, 236, 167, 0, 46, 76, 42]
abbrev dktX0_goes_4 : List UInt8 := dkwX0_goes_4 ++ dktX0_goes_5
def dkwX0_goes_3 : List UInt8 := [180, 1, 76, 4, 96, 42, 180, 0, 10, 180, 1, 11, 112, 154, 0, 28, 3, 60, 27, 42, 182, 0, 159]
abbrev dktX0_goes_3 : List UInt8 := dkwX0_goes_3 ++ dktX0_goes_4
def dkwX0_goes_2 : List UInt8 := [42, 180, 1, 76, 4, 96, 42, 180, 0, 10, 180, 1, 11, 112, 154, 0, 7, 42, 182, 1, 92, 42]
abbrev dktX0_goes_2 : List UInt8 := dkwX0_goes_2 ++ dktX0_goes_3
def dkwX0_goes_1 : List UInt8 := [182, 1, 86, 3, 60, 27, 42, 182, 0, 159, 162, 0, 14, 42, 27, 182, 1, 89, 132, 1, 1, 167, 255, 240]
abbrev dktX0_goes_1 : List UInt8 := dkwX0_goes_1 ++ dktX0_goes_2
def dkwX0_goes_0 : List UInt8 := [3, 60, 27, 42, 182, 0, 159, 162, 0, 14, 42, 27, 182, 1, 82, 132, 1, 1, 167, 255, 240, 42]
abbrev dktX0_goes_0 : List UInt8 := dkwX0_goes_0 ++ dktX0_goes_1
theorem dksX0_goes_0 : cX0_goes.data.toList.drop 0 = dktX0_goes_0 := by decide +kernel
theorem dksX0_goes_1 : cX0_goes.data.toList.drop 22 = dktX0_goes_1 := dk_seg dksX0_goes_0 22 rfl rfl
theorem dksX0_goes_2 : cX0_goes.data.toList.drop 46 = dktX0_goes_2 := dk_seg dksX0_goes_1 24 rfl rfl
theorem dksX0_goes_3 : cX0_goes.data.toList.drop 68 = dktX0_goes_3 := dk_seg dksX0_goes_2 22 rfl rfl
theorem dksX0_goes_4 : cX0_goes.data.toList.drop 91 = dktX0_goes_4 := dk_seg dksX0_goes_3 23 rfl rfl
theorem dksX0_goes_5 : cX0_goes.data.toList.drop 114 = dktX0_goes_5 := dk_seg dksX0_goes_4 23 rfl rfl
theorem dksX0_goes_6 : cX0_goes.data.toList.drop 137 = dktX0_goes_6 := dk_seg dksX0_goes_5 23 rfl rfl
theorem dX0_goes_0 : decode cX0_goes 0 = .ok (.iconst 0, 1) := dk_3 (dk_at dksX0_goes_0 0 rfl rfl)
theorem dX0_goes_1 : decode cX0_goes 1 = .ok (.istore_n 1, 1) := dk_60 (dk_at dksX0_goes_0 1 rfl rfl)
theorem dX0_goes_2 : decode cX0_goes 2 = .ok (.iload_n 1, 1) := dk_27 (dk_at dksX0_goes_0 2 rfl rfl)
theorem dX0_goes_3 : decode cX0_goes 3 = .ok (.aload_n 0, 1) := dk_42 (dk_at dksX0_goes_0 3 rfl rfl)
theorem dX0_goes_4 : decode cX0_goes 4 = .ok (.invokevirtual 159, 3) := dk_182 0 159 (dk_at dksX0_goes_0 4 rfl rfl)
theorem dX0_goes_7 : decode cX0_goes 7 = .ok (.if_icmp .ge 14, 3) := dk_162 0 14 (dk_at dksX0_goes_0 7 rfl rfl)
theorem dX0_goes_10 : decode cX0_goes 10 = .ok (.aload_n 0, 1) := dk_42 (dk_at dksX0_goes_0 10 rfl rfl)
theorem dX0_goes_11 : decode cX0_goes 11 = .ok (.iload_n 1, 1) := dk_27 (dk_at dksX0_goes_0 11 rfl rfl)
theorem dX0_goes_12 : decode cX0_goes 12 = .ok (.invokevirtual 338, 3) := dk_182 1 82 (dk_at dksX0_goes_0 12 rfl rfl)
theorem dX0_goes_15 : decode cX0_goes 15 = .ok (.iinc 1 1, 3) := dk_132 1 1 (dk_at dksX0_goes_0 15 rfl rfl)
theorem dX0_goes_18 : decode cX0_goes 18 = .ok (.goto (-16), 3) := dk_167 255 240 (dk_at dksX0_goes_0 18 rfl rfl)
theorem dX0_goes_21 : decode cX0_goes 21 = .ok (.aload_n 0, 1) := dk_42 (dk_at dksX0_goes_0 21 rfl rfl)
theorem dX0_goes_22 : decode cX0_goes 22 = .ok (.invokevirtual 342, 3) := dk_182 1 86 (dk_at dksX0_goes_1 0 rfl rfl)
theorem dX0_goes_25 : decode cX0_goes 25 = .ok (.iconst 0, 1) := dk_3 (dk_at dksX0_goes_1 3 rfl rfl)
theorem dX0_goes_26 : decode cX0_goes 26 = .ok (.istore_n 1, 1) := dk_60 (dk_at dksX0_goes_1 4 rfl rfl)
theorem dX0_goes_27 : decode cX0_goes 27 = .ok (.iload_n 1, 1) := dk_27 (dk_at dksX0_goes_1 5 rfl rfl)
theorem dX0_goes_28 : decode cX0_goes 28 = .ok (.aload_n 0, 1) := dk_42 (dk_at dksX0_goes_1 6 rfl rfl)
theorem dX0_goes_29 : decode cX0_goes 29 = .ok (.invokevirtual 159, 3) := dk_182 0 159 (dk_at dksX0_goes_1 7 rfl rfl)
theorem dX0_goes_32 : decode cX0_goes 32 = .ok (.if_icmp .ge 14, 3) := dk_162 0 14 (dk_at dksX0_goes_1 10 rfl rfl)
theorem dX0_goes_35 : decode cX0_goes 35 = .ok (.aload_n 0, 1) := dk_42 (dk_at dksX0_goes_1 13 rfl rfl)
theorem dX0_goes_36 : decode cX0_goes 36 = .ok (.iload_n 1, 1) := dk_27 (dk_at dksX0_goes_1 14 rfl rfl)
theorem dX0_goes_37 : decode cX0_goes 37 = .ok (.invokevirtual 345, 3) := dk_182 1 89 (dk_at dksX0_goes_1 15 rfl rfl)
theorem dX0_goes_40 : decode cX0_goes 40 = .ok (.iinc 1 1, 3) := dk_132 1 1 (dk_at dksX0_goes_1 18 rfl rfl)
theorem dX0_goes_43 : decode cX0_goes 43 = .ok (.goto (-16), 3) := dk_167 255 240 (dk_at dksX0_goes_1 21 rfl rfl)
theorem dX0_goes_46 : decode cX0_goes 46 = .ok (.aload_n 0, 1) := dk_42 (dk_at dksX0_goes_2 0 rfl rfl)
theorem dX0_goes_47 : decode cX0_goes 47 = .ok (.getfield 332, 3) := dk_180 1 76 (dk_at dksX0_goes_2 1 rfl rfl)
theorem dX0_goes_50 : decode cX0_goes 50 = .ok (.iconst 1, 1) := dk_4 (dk_at dksX0_goes_2 4 rfl rfl)
theorem dX0_goes_51 : decode cX0_goes 51 = .ok (.iadd, 1) := dk_96 (dk_at dksX0_goes_2 5 rfl rfl)
theorem dX0_goes_52 : decode cX0_goes 52 = .ok (.aload_n 0, 1) := dk_42 (dk_at dksX0_goes_2 6 rfl rfl)
theorem dX0_goes_53 : decode cX0_goes 53 = .ok (.getfield 10, 3) := dk_180 0 10 (dk_at dksX0_goes_2 7 rfl rfl)
theorem dX0_goes_56 : decode cX0_goes 56 = .ok (.getfield 267, 3) := dk_180 1 11 (dk_at dksX0_goes_2 10 rfl rfl)
theorem dX0_goes_59 : decode cX0_goes 59 = .ok (.irem, 1) := dk_112 (dk_at dksX0_goes_2 13 rfl rfl)
theorem dX0_goes_60 : decode cX0_goes 60 = .ok (.ifCond .ne 7, 3) := dk_154 0 7 (dk_at dksX0_goes_2 14 rfl rfl)
theorem dX0_goes_63 : decode cX0_goes 63 = .ok (.aload_n 0, 1) := dk_42 (dk_at dksX0_goes_2 17 rfl rfl)
theorem dX0_goes_64 : decode cX0_goes 64 = .ok (.invokevirtual 348, 3) := dk_182 1 92 (dk_at dksX0_goes_2 18 rfl rfl)
theorem dX0_goes_67 : decode cX0_goes 67 = .ok (.aload_n 0, 1) := dk_42 (dk_at dksX0_goes_2 21 rfl rfl)
theorem dX0_goes_68 : decode cX0_goes 68 = .ok (.getfield 332, 3) := dk_180 1 76 (dk_at dksX0_goes_3 0 rfl rfl)
theorem dX0_goes_71 : decode cX0_goes 71 = .ok (.iconst 1, 1) := dk_4 (dk_at dksX0_goes_3 3 rfl rfl)
theorem dX0_goes_72 : decode cX0_goes 72 = .ok (.iadd, 1) := dk_96 (dk_at dksX0_goes_3 4 rfl rfl)
theorem dX0_goes_73 : decode cX0_goes 73 = .ok (.aload_n 0, 1) := dk_42 (dk_at dksX0_goes_3 5 rfl rfl)
theorem dX0_goes_74 : decode cX0_goes 74 = .ok (.getfield 10, 3) := dk_180 0 10 (dk_at dksX0_goes_3 6 rfl rfl)
theorem dX0_goes_77 : decode cX0_goes 77 = .ok (.getfield 267, 3) := dk_180 1 11 (dk_at dksX0_goes_3 9 rfl rfl)
theorem dX0_goes_80 : decode cX0_goes 80 = .ok (.irem, 1) := dk_112 (dk_at dksX0_goes_3 12 rfl rfl)
theorem dX0_goes_81 : decode cX0_goes 81 = .ok (.ifCond .ne 28, 3) := dk_154 0 28 (dk_at dksX0_goes_3 13 rfl rfl)
theorem dX0_goes_84 : decode cX0_goes 84 = .ok (.iconst 0, 1) := dk_3 (dk_at dksX0_goes_3 16 rfl rfl)
theorem dX0_goes_85 : decode cX0_goes 85 = .ok (.istore_n 1, 1) := dk_60 (dk_at dksX0_goes_3 17 rfl rfl)
theorem dX0_goes_86 : decode cX0_goes 86 = .ok (.iload_n 1, 1) := dk_27 (dk_at dksX0_goes_3 18 rfl rfl)
theorem dX0_goes_87 : decode cX0_goes 87 = .ok (.aload_n 0, 1) := dk_42 (dk_at dksX0_goes_3 19 rfl rfl)
theorem dX0_goes_88 : decode cX0_goes 88 = .ok (.invokevirtual 159, 3) := dk_182 0 159 (dk_at dksX0_goes_3 20 rfl rfl)
theorem dX0_goes_91 : decode cX0_goes 91 = .ok (.if_icmp .ge 18, 3) := dk_162 0 18 (dk_at dksX0_goes_4 0 rfl rfl)
theorem dX0_goes_94 : decode cX0_goes 94 = .ok (.aload_n 0, 1) := dk_42 (dk_at dksX0_goes_4 3 rfl rfl)
theorem dX0_goes_95 : decode cX0_goes 95 = .ok (.getfield 58, 3) := dk_180 0 58 (dk_at dksX0_goes_4 4 rfl rfl)
theorem dX0_goes_98 : decode cX0_goes 98 = .ok (.iload_n 1, 1) := dk_27 (dk_at dksX0_goes_4 7 rfl rfl)
theorem dX0_goes_99 : decode cX0_goes 99 = .ok (.aaload, 1) := dk_50 (dk_at dksX0_goes_4 8 rfl rfl)
theorem dX0_goes_100 : decode cX0_goes 100 = .ok (.invokevirtual 351, 3) := dk_182 1 95 (dk_at dksX0_goes_4 9 rfl rfl)
theorem dX0_goes_103 : decode cX0_goes 103 = .ok (.iinc 1 1, 3) := dk_132 1 1 (dk_at dksX0_goes_4 12 rfl rfl)
theorem dX0_goes_106 : decode cX0_goes 106 = .ok (.goto (-20), 3) := dk_167 255 236 (dk_at dksX0_goes_4 15 rfl rfl)
theorem dX0_goes_109 : decode cX0_goes 109 = .ok (.goto 46, 3) := dk_167 0 46 (dk_at dksX0_goes_4 18 rfl rfl)
theorem dX0_goes_112 : decode cX0_goes 112 = .ok (.astore_n 1, 1) := dk_76 (dk_at dksX0_goes_4 21 rfl rfl)
theorem dX0_goes_113 : decode cX0_goes 113 = .ok (.aload_n 0, 1) := dk_42 (dk_at dksX0_goes_4 22 rfl rfl)
theorem dX0_goes_114 : decode cX0_goes 114 = .ok (.getfield 332, 3) := dk_180 1 76 (dk_at dksX0_goes_5 0 rfl rfl)
theorem dX0_goes_117 : decode cX0_goes 117 = .ok (.iconst 1, 1) := dk_4 (dk_at dksX0_goes_5 3 rfl rfl)
theorem dX0_goes_118 : decode cX0_goes 118 = .ok (.iadd, 1) := dk_96 (dk_at dksX0_goes_5 4 rfl rfl)
theorem dX0_goes_119 : decode cX0_goes 119 = .ok (.aload_n 0, 1) := dk_42 (dk_at dksX0_goes_5 5 rfl rfl)
theorem dX0_goes_120 : decode cX0_goes 120 = .ok (.getfield 10, 3) := dk_180 0 10 (dk_at dksX0_goes_5 6 rfl rfl)
theorem dX0_goes_123 : decode cX0_goes 123 = .ok (.getfield 267, 3) := dk_180 1 11 (dk_at dksX0_goes_5 9 rfl rfl)
theorem dX0_goes_126 : decode cX0_goes 126 = .ok (.irem, 1) := dk_112 (dk_at dksX0_goes_5 12 rfl rfl)
theorem dX0_goes_127 : decode cX0_goes 127 = .ok (.ifCond .ne 28, 3) := dk_154 0 28 (dk_at dksX0_goes_5 13 rfl rfl)
theorem dX0_goes_130 : decode cX0_goes 130 = .ok (.iconst 0, 1) := dk_3 (dk_at dksX0_goes_5 16 rfl rfl)
theorem dX0_goes_131 : decode cX0_goes 131 = .ok (.istore_n 2, 1) := dk_61 (dk_at dksX0_goes_5 17 rfl rfl)
theorem dX0_goes_132 : decode cX0_goes 132 = .ok (.iload_n 2, 1) := dk_28 (dk_at dksX0_goes_5 18 rfl rfl)
theorem dX0_goes_133 : decode cX0_goes 133 = .ok (.aload_n 0, 1) := dk_42 (dk_at dksX0_goes_5 19 rfl rfl)
theorem dX0_goes_134 : decode cX0_goes 134 = .ok (.invokevirtual 159, 3) := dk_182 0 159 (dk_at dksX0_goes_5 20 rfl rfl)
theorem dX0_goes_137 : decode cX0_goes 137 = .ok (.if_icmp .ge 18, 3) := dk_162 0 18 (dk_at dksX0_goes_6 0 rfl rfl)
theorem dX0_goes_140 : decode cX0_goes 140 = .ok (.aload_n 0, 1) := dk_42 (dk_at dksX0_goes_6 3 rfl rfl)
theorem dX0_goes_141 : decode cX0_goes 141 = .ok (.getfield 58, 3) := dk_180 0 58 (dk_at dksX0_goes_6 4 rfl rfl)
theorem dX0_goes_144 : decode cX0_goes 144 = .ok (.iload_n 2, 1) := dk_28 (dk_at dksX0_goes_6 7 rfl rfl)
theorem dX0_goes_145 : decode cX0_goes 145 = .ok (.aaload, 1) := dk_50 (dk_at dksX0_goes_6 8 rfl rfl)
theorem dX0_goes_146 : decode cX0_goes 146 = .ok (.invokestatic 356, 3) := dk_184 1 100 (dk_at dksX0_goes_6 9 rfl rfl)
theorem dX0_goes_149 : decode cX0_goes 149 = .ok (.iinc 2 1, 3) := dk_132 2 1 (dk_at dksX0_goes_6 12 rfl rfl)
theorem dX0_goes_152 : decode cX0_goes 152 = .ok (.goto (-20), 3) := dk_167 255 236 (dk_at dksX0_goes_6 15 rfl rfl)
theorem dX0_goes_155 : decode cX0_goes 155 = .ok (.return_, 1) := dk_177 (dk_at dksX0_goes_6 18 rfl rfl)
abbrev cX0_begins : ByteArray := prog_1_method_45_code
def yX0_begins : MethodName := ⟨RX0, "begins", "(I)V"⟩
def dkwX0_begins_5 : List UInt8 := [79, 132, 3, 1, 167, 255, 183, 177]
abbrev dktX0_begins_5 : List UInt8 := dkwX0_begins_5 ++ []
def dkwX0_begins_4 : List UInt8 := [160, 0, 25, 25, 4, 180, 0, 224, 44, 180, 1, 119, 160, 0, 13, 42, 180, 0, 93, 29, 42, 180, 1, 76]
abbrev dktX0_begins_4 : List UInt8 := dkwX0_begins_4 ++ dktX0_begins_5
def dkwX0_begins_3 : List UInt8 := [182, 0, 153, 192, 0, 218, 58, 4, 25, 4, 180, 0, 220, 8, 159, 0, 34, 25, 4, 180, 0, 221, 27]
abbrev dktX0_begins_3 : List UInt8 := dkwX0_begins_3 ++ dktX0_begins_4
def dkwX0_begins_2 : List UInt8 := [3, 62, 29, 42, 180, 0, 10, 180, 0, 175, 182, 0, 147, 162, 0, 65, 42, 180, 0, 10, 180, 0, 175, 29]
abbrev dktX0_begins_2 : List UInt8 := dkwX0_begins_2 ++ dktX0_begins_3
def dkwX0_begins_1 : List UInt8 := [161, 0, 19, 42, 180, 1, 76, 42, 27, 182, 0, 178, 180, 0, 185, 112, 153, 0, 4, 177, 44, 182, 1, 116]
abbrev dktX0_begins_1 : List UInt8 := dkwX0_begins_1 ++ dktX0_begins_2
def dkwX0_begins_0 : List UInt8 := [42, 180, 0, 58, 27, 50, 77, 44, 180, 1, 110, 154, 0, 30, 42, 180, 1, 76, 44, 180, 1, 113]
abbrev dktX0_begins_0 : List UInt8 := dkwX0_begins_0 ++ dktX0_begins_1
theorem dksX0_begins_0 : cX0_begins.data.toList.drop 0 = dktX0_begins_0 := by decide +kernel
theorem dksX0_begins_1 : cX0_begins.data.toList.drop 22 = dktX0_begins_1 := dk_seg dksX0_begins_0 22 rfl rfl
theorem dksX0_begins_2 : cX0_begins.data.toList.drop 46 = dktX0_begins_2 := dk_seg dksX0_begins_1 24 rfl rfl
theorem dksX0_begins_3 : cX0_begins.data.toList.drop 70 = dktX0_begins_3 := dk_seg dksX0_begins_2 24 rfl rfl
theorem dksX0_begins_4 : cX0_begins.data.toList.drop 93 = dktX0_begins_4 := dk_seg dksX0_begins_3 23 rfl rfl
theorem dksX0_begins_5 : cX0_begins.data.toList.drop 117 = dktX0_begins_5 := dk_seg dksX0_begins_4 24 rfl rfl
theorem dX0_begins_0 : decode cX0_begins 0 = .ok (.aload_n 0, 1) := dk_42 (dk_at dksX0_begins_0 0 rfl rfl)
theorem dX0_begins_1 : decode cX0_begins 1 = .ok (.getfield 58, 3) := dk_180 0 58 (dk_at dksX0_begins_0 1 rfl rfl)
theorem dX0_begins_4 : decode cX0_begins 4 = .ok (.iload_n 1, 1) := dk_27 (dk_at dksX0_begins_0 4 rfl rfl)
theorem dX0_begins_5 : decode cX0_begins 5 = .ok (.aaload, 1) := dk_50 (dk_at dksX0_begins_0 5 rfl rfl)
theorem dX0_begins_6 : decode cX0_begins 6 = .ok (.astore_n 2, 1) := dk_77 (dk_at dksX0_begins_0 6 rfl rfl)
theorem dX0_begins_7 : decode cX0_begins 7 = .ok (.aload_n 2, 1) := dk_44 (dk_at dksX0_begins_0 7 rfl rfl)
theorem dX0_begins_8 : decode cX0_begins 8 = .ok (.getfield 366, 3) := dk_180 1 110 (dk_at dksX0_begins_0 8 rfl rfl)
theorem dX0_begins_11 : decode cX0_begins 11 = .ok (.ifCond .ne 30, 3) := dk_154 0 30 (dk_at dksX0_begins_0 11 rfl rfl)
theorem dX0_begins_14 : decode cX0_begins 14 = .ok (.aload_n 0, 1) := dk_42 (dk_at dksX0_begins_0 14 rfl rfl)
theorem dX0_begins_15 : decode cX0_begins 15 = .ok (.getfield 332, 3) := dk_180 1 76 (dk_at dksX0_begins_0 15 rfl rfl)
theorem dX0_begins_18 : decode cX0_begins 18 = .ok (.aload_n 2, 1) := dk_44 (dk_at dksX0_begins_0 18 rfl rfl)
theorem dX0_begins_19 : decode cX0_begins 19 = .ok (.getfield 369, 3) := dk_180 1 113 (dk_at dksX0_begins_0 19 rfl rfl)
theorem dX0_begins_22 : decode cX0_begins 22 = .ok (.if_icmp .lt 19, 3) := dk_161 0 19 (dk_at dksX0_begins_1 0 rfl rfl)
theorem dX0_begins_25 : decode cX0_begins 25 = .ok (.aload_n 0, 1) := dk_42 (dk_at dksX0_begins_1 3 rfl rfl)
theorem dX0_begins_26 : decode cX0_begins 26 = .ok (.getfield 332, 3) := dk_180 1 76 (dk_at dksX0_begins_1 4 rfl rfl)
theorem dX0_begins_29 : decode cX0_begins 29 = .ok (.aload_n 0, 1) := dk_42 (dk_at dksX0_begins_1 7 rfl rfl)
theorem dX0_begins_30 : decode cX0_begins 30 = .ok (.iload_n 1, 1) := dk_27 (dk_at dksX0_begins_1 8 rfl rfl)
theorem dX0_begins_31 : decode cX0_begins 31 = .ok (.invokevirtual 178, 3) := dk_182 0 178 (dk_at dksX0_begins_1 9 rfl rfl)
theorem dX0_begins_34 : decode cX0_begins 34 = .ok (.getfield 185, 3) := dk_180 0 185 (dk_at dksX0_begins_1 12 rfl rfl)
theorem dX0_begins_37 : decode cX0_begins 37 = .ok (.irem, 1) := dk_112 (dk_at dksX0_begins_1 15 rfl rfl)
theorem dX0_begins_38 : decode cX0_begins 38 = .ok (.ifCond .eq 4, 3) := dk_153 0 4 (dk_at dksX0_begins_1 16 rfl rfl)
theorem dX0_begins_41 : decode cX0_begins 41 = .ok (.return_, 1) := dk_177 (dk_at dksX0_begins_1 19 rfl rfl)
theorem dX0_begins_42 : decode cX0_begins 42 = .ok (.aload_n 2, 1) := dk_44 (dk_at dksX0_begins_1 20 rfl rfl)
theorem dX0_begins_43 : decode cX0_begins 43 = .ok (.invokevirtual 372, 3) := dk_182 1 116 (dk_at dksX0_begins_1 21 rfl rfl)
theorem dX0_begins_46 : decode cX0_begins 46 = .ok (.iconst 0, 1) := dk_3 (dk_at dksX0_begins_2 0 rfl rfl)
theorem dX0_begins_47 : decode cX0_begins 47 = .ok (.istore_n 3, 1) := dk_62 (dk_at dksX0_begins_2 1 rfl rfl)
theorem dX0_begins_48 : decode cX0_begins 48 = .ok (.iload_n 3, 1) := dk_29 (dk_at dksX0_begins_2 2 rfl rfl)
theorem dX0_begins_49 : decode cX0_begins 49 = .ok (.aload_n 0, 1) := dk_42 (dk_at dksX0_begins_2 3 rfl rfl)
theorem dX0_begins_50 : decode cX0_begins 50 = .ok (.getfield 10, 3) := dk_180 0 10 (dk_at dksX0_begins_2 4 rfl rfl)
theorem dX0_begins_53 : decode cX0_begins 53 = .ok (.getfield 175, 3) := dk_180 0 175 (dk_at dksX0_begins_2 7 rfl rfl)
theorem dX0_begins_56 : decode cX0_begins 56 = .ok (.invokevirtual 147, 3) := dk_182 0 147 (dk_at dksX0_begins_2 10 rfl rfl)
theorem dX0_begins_59 : decode cX0_begins 59 = .ok (.if_icmp .ge 65, 3) := dk_162 0 65 (dk_at dksX0_begins_2 13 rfl rfl)
theorem dX0_begins_62 : decode cX0_begins 62 = .ok (.aload_n 0, 1) := dk_42 (dk_at dksX0_begins_2 16 rfl rfl)
theorem dX0_begins_63 : decode cX0_begins 63 = .ok (.getfield 10, 3) := dk_180 0 10 (dk_at dksX0_begins_2 17 rfl rfl)
theorem dX0_begins_66 : decode cX0_begins 66 = .ok (.getfield 175, 3) := dk_180 0 175 (dk_at dksX0_begins_2 20 rfl rfl)
theorem dX0_begins_69 : decode cX0_begins 69 = .ok (.iload_n 3, 1) := dk_29 (dk_at dksX0_begins_2 23 rfl rfl)
theorem dX0_begins_70 : decode cX0_begins 70 = .ok (.invokevirtual 153, 3) := dk_182 0 153 (dk_at dksX0_begins_3 0 rfl rfl)
theorem dX0_begins_73 : decode cX0_begins 73 = .ok (.checkcast 218, 3) := dk_192 0 218 (dk_at dksX0_begins_3 3 rfl rfl)
theorem dX0_begins_76 : decode cX0_begins 76 = .ok (.astore 4, 2) := dk_58 4 (dk_at dksX0_begins_3 6 rfl rfl)
theorem dX0_begins_78 : decode cX0_begins 78 = .ok (.aload 4, 2) := dk_25 4 (dk_at dksX0_begins_3 8 rfl rfl)
theorem dX0_begins_80 : decode cX0_begins 80 = .ok (.getfield 220, 3) := dk_180 0 220 (dk_at dksX0_begins_3 10 rfl rfl)
theorem dX0_begins_83 : decode cX0_begins 83 = .ok (.iconst 5, 1) := dk_8 (dk_at dksX0_begins_3 13 rfl rfl)
theorem dX0_begins_84 : decode cX0_begins 84 = .ok (.if_icmp .eq 34, 3) := dk_159 0 34 (dk_at dksX0_begins_3 14 rfl rfl)
theorem dX0_begins_87 : decode cX0_begins 87 = .ok (.aload 4, 2) := dk_25 4 (dk_at dksX0_begins_3 17 rfl rfl)
theorem dX0_begins_89 : decode cX0_begins 89 = .ok (.getfield 221, 3) := dk_180 0 221 (dk_at dksX0_begins_3 19 rfl rfl)
theorem dX0_begins_92 : decode cX0_begins 92 = .ok (.iload_n 1, 1) := dk_27 (dk_at dksX0_begins_3 22 rfl rfl)
theorem dX0_begins_93 : decode cX0_begins 93 = .ok (.if_icmp .ne 25, 3) := dk_160 0 25 (dk_at dksX0_begins_4 0 rfl rfl)
theorem dX0_begins_96 : decode cX0_begins 96 = .ok (.aload 4, 2) := dk_25 4 (dk_at dksX0_begins_4 3 rfl rfl)
theorem dX0_begins_98 : decode cX0_begins 98 = .ok (.getfield 224, 3) := dk_180 0 224 (dk_at dksX0_begins_4 5 rfl rfl)
theorem dX0_begins_101 : decode cX0_begins 101 = .ok (.aload_n 2, 1) := dk_44 (dk_at dksX0_begins_4 8 rfl rfl)
theorem dX0_begins_102 : decode cX0_begins 102 = .ok (.getfield 375, 3) := dk_180 1 119 (dk_at dksX0_begins_4 9 rfl rfl)
theorem dX0_begins_105 : decode cX0_begins 105 = .ok (.if_icmp .ne 13, 3) := dk_160 0 13 (dk_at dksX0_begins_4 12 rfl rfl)
theorem dX0_begins_108 : decode cX0_begins 108 = .ok (.aload_n 0, 1) := dk_42 (dk_at dksX0_begins_4 15 rfl rfl)
theorem dX0_begins_109 : decode cX0_begins 109 = .ok (.getfield 93, 3) := dk_180 0 93 (dk_at dksX0_begins_4 16 rfl rfl)
theorem dX0_begins_112 : decode cX0_begins 112 = .ok (.iload_n 3, 1) := dk_29 (dk_at dksX0_begins_4 19 rfl rfl)
theorem dX0_begins_113 : decode cX0_begins 113 = .ok (.aload_n 0, 1) := dk_42 (dk_at dksX0_begins_4 20 rfl rfl)
theorem dX0_begins_114 : decode cX0_begins 114 = .ok (.getfield 332, 3) := dk_180 1 76 (dk_at dksX0_begins_4 21 rfl rfl)
theorem dX0_begins_117 : decode cX0_begins 117 = .ok (.iastore, 1) := dk_79 (dk_at dksX0_begins_5 0 rfl rfl)
theorem dX0_begins_118 : decode cX0_begins 118 = .ok (.iinc 3 1, 3) := dk_132 3 1 (dk_at dksX0_begins_5 1 rfl rfl)
theorem dX0_begins_121 : decode cX0_begins 121 = .ok (.goto (-73), 3) := dk_167 255 183 (dk_at dksX0_begins_5 4 rfl rfl)
theorem dX0_begins_124 : decode cX0_begins 124 = .ok (.return_, 1) := dk_177 (dk_at dksX0_begins_5 7 rfl rfl)
abbrev cX0_works : ByteArray := prog_1_method_48_code
def yX0_works : MethodName := ⟨RX0, "works", "()V"⟩
def dkwX0_works_3 : List UInt8 := [167, 255, 188, 177]
abbrev dktX0_works_3 : List UInt8 := dkwX0_works_3 ++ []
def dkwX0_works_2 : List UInt8 := [167, 0, 21, 42, 180, 0, 62, 42, 180, 1, 76, 27, 79, 42, 27, 44, 29, 182, 1, 127, 177, 132, 1, 1]
abbrev dktX0_works_2 : List UInt8 := dkwX0_works_2 ++ dktX0_works_3
def dkwX0_works_1 : List UInt8 := [167, 0, 43, 42, 27, 44, 180, 1, 119, 44, 180, 1, 123, 182, 1, 124, 62, 29, 4, 160, 0, 6]
abbrev dktX0_works_1 : List UInt8 := dkwX0_works_1 ++ dktX0_works_2
def dkwX0_works_0 : List UInt8 := [3, 60, 27, 42, 182, 0, 159, 162, 0, 66, 42, 180, 0, 58, 27, 50, 77, 44, 180, 1, 110, 154, 0, 6]
abbrev dktX0_works_0 : List UInt8 := dkwX0_works_0 ++ dktX0_works_1
theorem dksX0_works_0 : cX0_works.data.toList.drop 0 = dktX0_works_0 := by decide +kernel
theorem dksX0_works_1 : cX0_works.data.toList.drop 24 = dktX0_works_1 := dk_seg dksX0_works_0 24 rfl rfl
theorem dksX0_works_2 : cX0_works.data.toList.drop 46 = dktX0_works_2 := dk_seg dksX0_works_1 22 rfl rfl
theorem dksX0_works_3 : cX0_works.data.toList.drop 70 = dktX0_works_3 := dk_seg dksX0_works_2 24 rfl rfl
theorem dX0_works_0 : decode cX0_works 0 = .ok (.iconst 0, 1) := dk_3 (dk_at dksX0_works_0 0 rfl rfl)
theorem dX0_works_1 : decode cX0_works 1 = .ok (.istore_n 1, 1) := dk_60 (dk_at dksX0_works_0 1 rfl rfl)
theorem dX0_works_2 : decode cX0_works 2 = .ok (.iload_n 1, 1) := dk_27 (dk_at dksX0_works_0 2 rfl rfl)
theorem dX0_works_3 : decode cX0_works 3 = .ok (.aload_n 0, 1) := dk_42 (dk_at dksX0_works_0 3 rfl rfl)
theorem dX0_works_4 : decode cX0_works 4 = .ok (.invokevirtual 159, 3) := dk_182 0 159 (dk_at dksX0_works_0 4 rfl rfl)
theorem dX0_works_7 : decode cX0_works 7 = .ok (.if_icmp .ge 66, 3) := dk_162 0 66 (dk_at dksX0_works_0 7 rfl rfl)
theorem dX0_works_10 : decode cX0_works 10 = .ok (.aload_n 0, 1) := dk_42 (dk_at dksX0_works_0 10 rfl rfl)
theorem dX0_works_11 : decode cX0_works 11 = .ok (.getfield 58, 3) := dk_180 0 58 (dk_at dksX0_works_0 11 rfl rfl)
theorem dX0_works_14 : decode cX0_works 14 = .ok (.iload_n 1, 1) := dk_27 (dk_at dksX0_works_0 14 rfl rfl)
theorem dX0_works_15 : decode cX0_works 15 = .ok (.aaload, 1) := dk_50 (dk_at dksX0_works_0 15 rfl rfl)
theorem dX0_works_16 : decode cX0_works 16 = .ok (.astore_n 2, 1) := dk_77 (dk_at dksX0_works_0 16 rfl rfl)
theorem dX0_works_17 : decode cX0_works 17 = .ok (.aload_n 2, 1) := dk_44 (dk_at dksX0_works_0 17 rfl rfl)
theorem dX0_works_18 : decode cX0_works 18 = .ok (.getfield 366, 3) := dk_180 1 110 (dk_at dksX0_works_0 18 rfl rfl)
theorem dX0_works_21 : decode cX0_works 21 = .ok (.ifCond .ne 6, 3) := dk_154 0 6 (dk_at dksX0_works_0 21 rfl rfl)
theorem dX0_works_24 : decode cX0_works 24 = .ok (.goto 43, 3) := dk_167 0 43 (dk_at dksX0_works_1 0 rfl rfl)
theorem dX0_works_27 : decode cX0_works 27 = .ok (.aload_n 0, 1) := dk_42 (dk_at dksX0_works_1 3 rfl rfl)
theorem dX0_works_28 : decode cX0_works 28 = .ok (.iload_n 1, 1) := dk_27 (dk_at dksX0_works_1 4 rfl rfl)
theorem dX0_works_29 : decode cX0_works 29 = .ok (.aload_n 2, 1) := dk_44 (dk_at dksX0_works_1 5 rfl rfl)
theorem dX0_works_30 : decode cX0_works 30 = .ok (.getfield 375, 3) := dk_180 1 119 (dk_at dksX0_works_1 6 rfl rfl)
theorem dX0_works_33 : decode cX0_works 33 = .ok (.aload_n 2, 1) := dk_44 (dk_at dksX0_works_1 9 rfl rfl)
theorem dX0_works_34 : decode cX0_works 34 = .ok (.getfield 379, 3) := dk_180 1 123 (dk_at dksX0_works_1 10 rfl rfl)
theorem dX0_works_37 : decode cX0_works 37 = .ok (.invokevirtual 380, 3) := dk_182 1 124 (dk_at dksX0_works_1 13 rfl rfl)
theorem dX0_works_40 : decode cX0_works 40 = .ok (.istore_n 3, 1) := dk_62 (dk_at dksX0_works_1 16 rfl rfl)
theorem dX0_works_41 : decode cX0_works 41 = .ok (.iload_n 3, 1) := dk_29 (dk_at dksX0_works_1 17 rfl rfl)
theorem dX0_works_42 : decode cX0_works 42 = .ok (.iconst 1, 1) := dk_4 (dk_at dksX0_works_1 18 rfl rfl)
theorem dX0_works_43 : decode cX0_works 43 = .ok (.if_icmp .ne 6, 3) := dk_160 0 6 (dk_at dksX0_works_1 19 rfl rfl)
theorem dX0_works_46 : decode cX0_works 46 = .ok (.goto 21, 3) := dk_167 0 21 (dk_at dksX0_works_2 0 rfl rfl)
theorem dX0_works_49 : decode cX0_works 49 = .ok (.aload_n 0, 1) := dk_42 (dk_at dksX0_works_2 3 rfl rfl)
theorem dX0_works_50 : decode cX0_works 50 = .ok (.getfield 62, 3) := dk_180 0 62 (dk_at dksX0_works_2 4 rfl rfl)
theorem dX0_works_53 : decode cX0_works 53 = .ok (.aload_n 0, 1) := dk_42 (dk_at dksX0_works_2 7 rfl rfl)
theorem dX0_works_54 : decode cX0_works 54 = .ok (.getfield 332, 3) := dk_180 1 76 (dk_at dksX0_works_2 8 rfl rfl)
theorem dX0_works_57 : decode cX0_works 57 = .ok (.iload_n 1, 1) := dk_27 (dk_at dksX0_works_2 11 rfl rfl)
theorem dX0_works_58 : decode cX0_works 58 = .ok (.iastore, 1) := dk_79 (dk_at dksX0_works_2 12 rfl rfl)
theorem dX0_works_59 : decode cX0_works 59 = .ok (.aload_n 0, 1) := dk_42 (dk_at dksX0_works_2 13 rfl rfl)
theorem dX0_works_60 : decode cX0_works 60 = .ok (.iload_n 1, 1) := dk_27 (dk_at dksX0_works_2 14 rfl rfl)
theorem dX0_works_61 : decode cX0_works 61 = .ok (.aload_n 2, 1) := dk_44 (dk_at dksX0_works_2 15 rfl rfl)
theorem dX0_works_62 : decode cX0_works 62 = .ok (.iload_n 3, 1) := dk_29 (dk_at dksX0_works_2 16 rfl rfl)
theorem dX0_works_63 : decode cX0_works 63 = .ok (.invokevirtual 383, 3) := dk_182 1 127 (dk_at dksX0_works_2 17 rfl rfl)
theorem dX0_works_66 : decode cX0_works 66 = .ok (.return_, 1) := dk_177 (dk_at dksX0_works_2 20 rfl rfl)
theorem dX0_works_67 : decode cX0_works 67 = .ok (.iinc 1 1, 3) := dk_132 1 1 (dk_at dksX0_works_2 21 rfl rfl)
theorem dX0_works_70 : decode cX0_works 70 = .ok (.goto (-68), 3) := dk_167 255 188 (dk_at dksX0_works_3 0 rfl rfl)
theorem dX0_works_73 : decode cX0_works 73 = .ok (.return_, 1) := dk_177 (dk_at dksX0_works_3 3 rfl rfl)
abbrev cX0_wrongAt : ByteArray := prog_1_method_46_code
def yX0_wrongAt : MethodName := ⟨RX0, "wrongAt", "(III)I"⟩
def dkwX0_wrongAt_3 : List UInt8 := [159, 0, 9, 25, 5, 180, 0, 220, 172, 132, 4, 1, 167, 255, 178, 2, 172]
abbrev dktX0_wrongAt_3 : List UInt8 := dkwX0_wrongAt_3 ++ []
def dkwX0_wrongAt_2 : List UInt8 := [27, 28, 182, 1, 120, 153, 0, 27, 25, 5, 180, 0, 227, 29, 160, 0, 18, 25, 5, 180, 0, 220, 7]
abbrev dktX0_wrongAt_2 : List UInt8 := dkwX0_wrongAt_2 ++ dktX0_wrongAt_3
def dkwX0_wrongAt_1 : List UInt8 := [180, 0, 175, 21, 4, 182, 0, 153, 192, 0, 218, 58, 5, 21, 4, 42, 180, 1, 61, 159, 0, 37, 25, 5]
abbrev dktX0_wrongAt_1 : List UInt8 := dkwX0_wrongAt_1 ++ dktX0_wrongAt_2
def dkwX0_wrongAt_0 : List UInt8 := [3, 54, 4, 21, 4, 42, 180, 0, 10, 180, 0, 175, 182, 0, 147, 162, 0, 69, 42, 180, 0, 10]
abbrev dktX0_wrongAt_0 : List UInt8 := dkwX0_wrongAt_0 ++ dktX0_wrongAt_1
theorem dksX0_wrongAt_0 : cX0_wrongAt.data.toList.drop 0 = dktX0_wrongAt_0 := by decide +kernel
theorem dksX0_wrongAt_1 : cX0_wrongAt.data.toList.drop 22 = dktX0_wrongAt_1 := dk_seg dksX0_wrongAt_0 22 rfl rfl
theorem dksX0_wrongAt_2 : cX0_wrongAt.data.toList.drop 46 = dktX0_wrongAt_2 := dk_seg dksX0_wrongAt_1 24 rfl rfl
theorem dksX0_wrongAt_3 : cX0_wrongAt.data.toList.drop 69 = dktX0_wrongAt_3 := dk_seg dksX0_wrongAt_2 23 rfl rfl
theorem dX0_wrongAt_0 : decode cX0_wrongAt 0 = .ok (.iconst 0, 1) := dk_3 (dk_at dksX0_wrongAt_0 0 rfl rfl)
theorem dX0_wrongAt_1 : decode cX0_wrongAt 1 = .ok (.istore 4, 2) := dk_54 4 (dk_at dksX0_wrongAt_0 1 rfl rfl)
theorem dX0_wrongAt_3 : decode cX0_wrongAt 3 = .ok (.iload 4, 2) := dk_21 4 (dk_at dksX0_wrongAt_0 3 rfl rfl)
theorem dX0_wrongAt_5 : decode cX0_wrongAt 5 = .ok (.aload_n 0, 1) := dk_42 (dk_at dksX0_wrongAt_0 5 rfl rfl)
theorem dX0_wrongAt_6 : decode cX0_wrongAt 6 = .ok (.getfield 10, 3) := dk_180 0 10 (dk_at dksX0_wrongAt_0 6 rfl rfl)
theorem dX0_wrongAt_9 : decode cX0_wrongAt 9 = .ok (.getfield 175, 3) := dk_180 0 175 (dk_at dksX0_wrongAt_0 9 rfl rfl)
theorem dX0_wrongAt_12 : decode cX0_wrongAt 12 = .ok (.invokevirtual 147, 3) := dk_182 0 147 (dk_at dksX0_wrongAt_0 12 rfl rfl)
theorem dX0_wrongAt_15 : decode cX0_wrongAt 15 = .ok (.if_icmp .ge 69, 3) := dk_162 0 69 (dk_at dksX0_wrongAt_0 15 rfl rfl)
theorem dX0_wrongAt_18 : decode cX0_wrongAt 18 = .ok (.aload_n 0, 1) := dk_42 (dk_at dksX0_wrongAt_0 18 rfl rfl)
theorem dX0_wrongAt_19 : decode cX0_wrongAt 19 = .ok (.getfield 10, 3) := dk_180 0 10 (dk_at dksX0_wrongAt_0 19 rfl rfl)
theorem dX0_wrongAt_22 : decode cX0_wrongAt 22 = .ok (.getfield 175, 3) := dk_180 0 175 (dk_at dksX0_wrongAt_1 0 rfl rfl)
theorem dX0_wrongAt_25 : decode cX0_wrongAt 25 = .ok (.iload 4, 2) := dk_21 4 (dk_at dksX0_wrongAt_1 3 rfl rfl)
theorem dX0_wrongAt_27 : decode cX0_wrongAt 27 = .ok (.invokevirtual 153, 3) := dk_182 0 153 (dk_at dksX0_wrongAt_1 5 rfl rfl)
theorem dX0_wrongAt_30 : decode cX0_wrongAt 30 = .ok (.checkcast 218, 3) := dk_192 0 218 (dk_at dksX0_wrongAt_1 8 rfl rfl)
theorem dX0_wrongAt_33 : decode cX0_wrongAt 33 = .ok (.astore 5, 2) := dk_58 5 (dk_at dksX0_wrongAt_1 11 rfl rfl)
theorem dX0_wrongAt_35 : decode cX0_wrongAt 35 = .ok (.iload 4, 2) := dk_21 4 (dk_at dksX0_wrongAt_1 13 rfl rfl)
theorem dX0_wrongAt_37 : decode cX0_wrongAt 37 = .ok (.aload_n 0, 1) := dk_42 (dk_at dksX0_wrongAt_1 15 rfl rfl)
theorem dX0_wrongAt_38 : decode cX0_wrongAt 38 = .ok (.getfield 317, 3) := dk_180 1 61 (dk_at dksX0_wrongAt_1 16 rfl rfl)
theorem dX0_wrongAt_41 : decode cX0_wrongAt 41 = .ok (.if_icmp .eq 37, 3) := dk_159 0 37 (dk_at dksX0_wrongAt_1 19 rfl rfl)
theorem dX0_wrongAt_44 : decode cX0_wrongAt 44 = .ok (.aload 5, 2) := dk_25 5 (dk_at dksX0_wrongAt_1 22 rfl rfl)
theorem dX0_wrongAt_46 : decode cX0_wrongAt 46 = .ok (.iload_n 1, 1) := dk_27 (dk_at dksX0_wrongAt_2 0 rfl rfl)
theorem dX0_wrongAt_47 : decode cX0_wrongAt 47 = .ok (.iload_n 2, 1) := dk_28 (dk_at dksX0_wrongAt_2 1 rfl rfl)
theorem dX0_wrongAt_48 : decode cX0_wrongAt 48 = .ok (.invokevirtual 376, 3) := dk_182 1 120 (dk_at dksX0_wrongAt_2 2 rfl rfl)
theorem dX0_wrongAt_51 : decode cX0_wrongAt 51 = .ok (.ifCond .eq 27, 3) := dk_153 0 27 (dk_at dksX0_wrongAt_2 5 rfl rfl)
theorem dX0_wrongAt_54 : decode cX0_wrongAt 54 = .ok (.aload 5, 2) := dk_25 5 (dk_at dksX0_wrongAt_2 8 rfl rfl)
theorem dX0_wrongAt_56 : decode cX0_wrongAt 56 = .ok (.getfield 227, 3) := dk_180 0 227 (dk_at dksX0_wrongAt_2 10 rfl rfl)
theorem dX0_wrongAt_59 : decode cX0_wrongAt 59 = .ok (.iload_n 3, 1) := dk_29 (dk_at dksX0_wrongAt_2 13 rfl rfl)
theorem dX0_wrongAt_60 : decode cX0_wrongAt 60 = .ok (.if_icmp .ne 18, 3) := dk_160 0 18 (dk_at dksX0_wrongAt_2 14 rfl rfl)
theorem dX0_wrongAt_63 : decode cX0_wrongAt 63 = .ok (.aload 5, 2) := dk_25 5 (dk_at dksX0_wrongAt_2 17 rfl rfl)
theorem dX0_wrongAt_65 : decode cX0_wrongAt 65 = .ok (.getfield 220, 3) := dk_180 0 220 (dk_at dksX0_wrongAt_2 19 rfl rfl)
theorem dX0_wrongAt_68 : decode cX0_wrongAt 68 = .ok (.iconst 4, 1) := dk_7 (dk_at dksX0_wrongAt_2 22 rfl rfl)
theorem dX0_wrongAt_69 : decode cX0_wrongAt 69 = .ok (.if_icmp .eq 9, 3) := dk_159 0 9 (dk_at dksX0_wrongAt_3 0 rfl rfl)
theorem dX0_wrongAt_72 : decode cX0_wrongAt 72 = .ok (.aload 5, 2) := dk_25 5 (dk_at dksX0_wrongAt_3 3 rfl rfl)
theorem dX0_wrongAt_74 : decode cX0_wrongAt 74 = .ok (.getfield 220, 3) := dk_180 0 220 (dk_at dksX0_wrongAt_3 5 rfl rfl)
theorem dX0_wrongAt_77 : decode cX0_wrongAt 77 = .ok (.ireturn, 1) := dk_172 (dk_at dksX0_wrongAt_3 8 rfl rfl)
theorem dX0_wrongAt_78 : decode cX0_wrongAt 78 = .ok (.iinc 4 1, 3) := dk_132 4 1 (dk_at dksX0_wrongAt_3 9 rfl rfl)
theorem dX0_wrongAt_81 : decode cX0_wrongAt 81 = .ok (.goto (-78), 3) := dk_167 255 178 (dk_at dksX0_wrongAt_3 12 rfl rfl)
theorem dX0_wrongAt_84 : decode cX0_wrongAt 84 = .ok (.iconst (-1), 1) := dk_2 (dk_at dksX0_wrongAt_3 15 rfl rfl)
theorem dX0_wrongAt_85 : decode cX0_wrongAt 85 = .ok (.ireturn, 1) := dk_172 (dk_at dksX0_wrongAt_3 16 rfl rfl)
abbrev cX0_works_2 : ByteArray := prog_1_method_49_code
def yX0_works_2 : MethodName := ⟨RX0, "works", "(ILWatchStack$Life;I)V"⟩
def dkwX0_works_2_4 : List UInt8 := [181, 1, 110, 42, 27, 44, 21, 5, 2, 159, 0, 7, 4, 167, 0, 4, 3, 182, 1, 133, 177]
abbrev dktX0_works_2_4 : List UInt8 := dkwX0_works_2_4 ++ []
def dkwX0_works_2_3 : List UInt8 := [159, 0, 21, 21, 5, 2, 159, 0, 15, 44, 21, 5, 181, 1, 123, 44, 3, 181, 1, 130, 177, 44, 3]
abbrev dktX0_works_2_3 : List UInt8 := dkwX0_works_2_3 ++ dktX0_works_2_4
def dkwX0_works_2_2 : List UInt8 := [162, 0, 4, 177, 42, 27, 182, 0, 178, 44, 180, 1, 123, 44, 180, 1, 119, 182, 1, 38, 54, 5, 29, 5]
abbrev dktX0_works_2_2 : List UInt8 := dkwX0_works_2_2 ++ dktX0_works_2_3
def dkwX0_works_2_1 : List UInt8 := [6, 160, 0, 7, 5, 167, 0, 4, 4, 104, 54, 4, 29, 153, 0, 12, 44, 180, 1, 130, 21, 4]
abbrev dktX0_works_2_1 : List UInt8 := dkwX0_works_2_1 ++ dktX0_works_2_2
def dkwX0_works_2_0 : List UInt8 := [44, 89, 180, 1, 130, 4, 96, 181, 1, 130, 42, 27, 182, 0, 178, 180, 0, 203, 44, 180, 1, 123, 46, 29]
abbrev dktX0_works_2_0 : List UInt8 := dkwX0_works_2_0 ++ dktX0_works_2_1
theorem dksX0_works_2_0 : cX0_works_2.data.toList.drop 0 = dktX0_works_2_0 := by decide +kernel
theorem dksX0_works_2_1 : cX0_works_2.data.toList.drop 24 = dktX0_works_2_1 := dk_seg dksX0_works_2_0 24 rfl rfl
theorem dksX0_works_2_2 : cX0_works_2.data.toList.drop 46 = dktX0_works_2_2 := dk_seg dksX0_works_2_1 22 rfl rfl
theorem dksX0_works_2_3 : cX0_works_2.data.toList.drop 70 = dktX0_works_2_3 := dk_seg dksX0_works_2_2 24 rfl rfl
theorem dksX0_works_2_4 : cX0_works_2.data.toList.drop 93 = dktX0_works_2_4 := dk_seg dksX0_works_2_3 23 rfl rfl
theorem dX0_works_2_0 : decode cX0_works_2 0 = .ok (.aload_n 2, 1) := dk_44 (dk_at dksX0_works_2_0 0 rfl rfl)
theorem dX0_works_2_1 : decode cX0_works_2 1 = .ok (.dup, 1) := dk_89 (dk_at dksX0_works_2_0 1 rfl rfl)
theorem dX0_works_2_2 : decode cX0_works_2 2 = .ok (.getfield 386, 3) := dk_180 1 130 (dk_at dksX0_works_2_0 2 rfl rfl)
theorem dX0_works_2_5 : decode cX0_works_2 5 = .ok (.iconst 1, 1) := dk_4 (dk_at dksX0_works_2_0 5 rfl rfl)
theorem dX0_works_2_6 : decode cX0_works_2 6 = .ok (.iadd, 1) := dk_96 (dk_at dksX0_works_2_0 6 rfl rfl)
theorem dX0_works_2_7 : decode cX0_works_2 7 = .ok (.putfield 386, 3) := dk_181 1 130 (dk_at dksX0_works_2_0 7 rfl rfl)
theorem dX0_works_2_10 : decode cX0_works_2 10 = .ok (.aload_n 0, 1) := dk_42 (dk_at dksX0_works_2_0 10 rfl rfl)
theorem dX0_works_2_11 : decode cX0_works_2 11 = .ok (.iload_n 1, 1) := dk_27 (dk_at dksX0_works_2_0 11 rfl rfl)
theorem dX0_works_2_12 : decode cX0_works_2 12 = .ok (.invokevirtual 178, 3) := dk_182 0 178 (dk_at dksX0_works_2_0 12 rfl rfl)
theorem dX0_works_2_15 : decode cX0_works_2 15 = .ok (.getfield 203, 3) := dk_180 0 203 (dk_at dksX0_works_2_0 15 rfl rfl)
theorem dX0_works_2_18 : decode cX0_works_2 18 = .ok (.aload_n 2, 1) := dk_44 (dk_at dksX0_works_2_0 18 rfl rfl)
theorem dX0_works_2_19 : decode cX0_works_2 19 = .ok (.getfield 379, 3) := dk_180 1 123 (dk_at dksX0_works_2_0 19 rfl rfl)
theorem dX0_works_2_22 : decode cX0_works_2 22 = .ok (.iaload, 1) := dk_46 (dk_at dksX0_works_2_0 22 rfl rfl)
theorem dX0_works_2_23 : decode cX0_works_2 23 = .ok (.iload_n 3, 1) := dk_29 (dk_at dksX0_works_2_0 23 rfl rfl)
theorem dX0_works_2_24 : decode cX0_works_2 24 = .ok (.iconst 3, 1) := dk_6 (dk_at dksX0_works_2_1 0 rfl rfl)
theorem dX0_works_2_25 : decode cX0_works_2 25 = .ok (.if_icmp .ne 7, 3) := dk_160 0 7 (dk_at dksX0_works_2_1 1 rfl rfl)
theorem dX0_works_2_28 : decode cX0_works_2 28 = .ok (.iconst 2, 1) := dk_5 (dk_at dksX0_works_2_1 4 rfl rfl)
theorem dX0_works_2_29 : decode cX0_works_2 29 = .ok (.goto 4, 3) := dk_167 0 4 (dk_at dksX0_works_2_1 5 rfl rfl)
theorem dX0_works_2_32 : decode cX0_works_2 32 = .ok (.iconst 1, 1) := dk_4 (dk_at dksX0_works_2_1 8 rfl rfl)
theorem dX0_works_2_33 : decode cX0_works_2 33 = .ok (.imul, 1) := dk_104 (dk_at dksX0_works_2_1 9 rfl rfl)
theorem dX0_works_2_34 : decode cX0_works_2 34 = .ok (.istore 4, 2) := dk_54 4 (dk_at dksX0_works_2_1 10 rfl rfl)
theorem dX0_works_2_36 : decode cX0_works_2 36 = .ok (.iload_n 3, 1) := dk_29 (dk_at dksX0_works_2_1 12 rfl rfl)
theorem dX0_works_2_37 : decode cX0_works_2 37 = .ok (.ifCond .eq 12, 3) := dk_153 0 12 (dk_at dksX0_works_2_1 13 rfl rfl)
theorem dX0_works_2_40 : decode cX0_works_2 40 = .ok (.aload_n 2, 1) := dk_44 (dk_at dksX0_works_2_1 16 rfl rfl)
theorem dX0_works_2_41 : decode cX0_works_2 41 = .ok (.getfield 386, 3) := dk_180 1 130 (dk_at dksX0_works_2_1 17 rfl rfl)
theorem dX0_works_2_44 : decode cX0_works_2 44 = .ok (.iload 4, 2) := dk_21 4 (dk_at dksX0_works_2_1 20 rfl rfl)
theorem dX0_works_2_46 : decode cX0_works_2 46 = .ok (.if_icmp .ge 4, 3) := dk_162 0 4 (dk_at dksX0_works_2_2 0 rfl rfl)
theorem dX0_works_2_49 : decode cX0_works_2 49 = .ok (.return_, 1) := dk_177 (dk_at dksX0_works_2_2 3 rfl rfl)
theorem dX0_works_2_50 : decode cX0_works_2 50 = .ok (.aload_n 0, 1) := dk_42 (dk_at dksX0_works_2_2 4 rfl rfl)
theorem dX0_works_2_51 : decode cX0_works_2 51 = .ok (.iload_n 1, 1) := dk_27 (dk_at dksX0_works_2_2 5 rfl rfl)
theorem dX0_works_2_52 : decode cX0_works_2 52 = .ok (.invokevirtual 178, 3) := dk_182 0 178 (dk_at dksX0_works_2_2 6 rfl rfl)
theorem dX0_works_2_55 : decode cX0_works_2 55 = .ok (.aload_n 2, 1) := dk_44 (dk_at dksX0_works_2_2 9 rfl rfl)
theorem dX0_works_2_56 : decode cX0_works_2 56 = .ok (.getfield 379, 3) := dk_180 1 123 (dk_at dksX0_works_2_2 10 rfl rfl)
theorem dX0_works_2_59 : decode cX0_works_2 59 = .ok (.aload_n 2, 1) := dk_44 (dk_at dksX0_works_2_2 13 rfl rfl)
theorem dX0_works_2_60 : decode cX0_works_2 60 = .ok (.getfield 375, 3) := dk_180 1 119 (dk_at dksX0_works_2_2 14 rfl rfl)
theorem dX0_works_2_63 : decode cX0_works_2 63 = .ok (.invokevirtual 294, 3) := dk_182 1 38 (dk_at dksX0_works_2_2 17 rfl rfl)
theorem dX0_works_2_66 : decode cX0_works_2 66 = .ok (.istore 5, 2) := dk_54 5 (dk_at dksX0_works_2_2 20 rfl rfl)
theorem dX0_works_2_68 : decode cX0_works_2 68 = .ok (.iload_n 3, 1) := dk_29 (dk_at dksX0_works_2_2 22 rfl rfl)
theorem dX0_works_2_69 : decode cX0_works_2 69 = .ok (.iconst 2, 1) := dk_5 (dk_at dksX0_works_2_2 23 rfl rfl)
theorem dX0_works_2_70 : decode cX0_works_2 70 = .ok (.if_icmp .eq 21, 3) := dk_159 0 21 (dk_at dksX0_works_2_3 0 rfl rfl)
theorem dX0_works_2_73 : decode cX0_works_2 73 = .ok (.iload 5, 2) := dk_21 5 (dk_at dksX0_works_2_3 3 rfl rfl)
theorem dX0_works_2_75 : decode cX0_works_2 75 = .ok (.iconst (-1), 1) := dk_2 (dk_at dksX0_works_2_3 5 rfl rfl)
theorem dX0_works_2_76 : decode cX0_works_2 76 = .ok (.if_icmp .eq 15, 3) := dk_159 0 15 (dk_at dksX0_works_2_3 6 rfl rfl)
theorem dX0_works_2_79 : decode cX0_works_2 79 = .ok (.aload_n 2, 1) := dk_44 (dk_at dksX0_works_2_3 9 rfl rfl)
theorem dX0_works_2_80 : decode cX0_works_2 80 = .ok (.iload 5, 2) := dk_21 5 (dk_at dksX0_works_2_3 10 rfl rfl)
theorem dX0_works_2_82 : decode cX0_works_2 82 = .ok (.putfield 379, 3) := dk_181 1 123 (dk_at dksX0_works_2_3 12 rfl rfl)
theorem dX0_works_2_85 : decode cX0_works_2 85 = .ok (.aload_n 2, 1) := dk_44 (dk_at dksX0_works_2_3 15 rfl rfl)
theorem dX0_works_2_86 : decode cX0_works_2 86 = .ok (.iconst 0, 1) := dk_3 (dk_at dksX0_works_2_3 16 rfl rfl)
theorem dX0_works_2_87 : decode cX0_works_2 87 = .ok (.putfield 386, 3) := dk_181 1 130 (dk_at dksX0_works_2_3 17 rfl rfl)
theorem dX0_works_2_90 : decode cX0_works_2 90 = .ok (.return_, 1) := dk_177 (dk_at dksX0_works_2_3 20 rfl rfl)
theorem dX0_works_2_91 : decode cX0_works_2 91 = .ok (.aload_n 2, 1) := dk_44 (dk_at dksX0_works_2_3 21 rfl rfl)
theorem dX0_works_2_92 : decode cX0_works_2 92 = .ok (.iconst 0, 1) := dk_3 (dk_at dksX0_works_2_3 22 rfl rfl)
theorem dX0_works_2_93 : decode cX0_works_2 93 = .ok (.putfield 366, 3) := dk_181 1 110 (dk_at dksX0_works_2_4 0 rfl rfl)
theorem dX0_works_2_96 : decode cX0_works_2 96 = .ok (.aload_n 0, 1) := dk_42 (dk_at dksX0_works_2_4 3 rfl rfl)
theorem dX0_works_2_97 : decode cX0_works_2 97 = .ok (.iload_n 1, 1) := dk_27 (dk_at dksX0_works_2_4 4 rfl rfl)
theorem dX0_works_2_98 : decode cX0_works_2 98 = .ok (.aload_n 2, 1) := dk_44 (dk_at dksX0_works_2_4 5 rfl rfl)
theorem dX0_works_2_99 : decode cX0_works_2 99 = .ok (.iload 5, 2) := dk_21 5 (dk_at dksX0_works_2_4 6 rfl rfl)
theorem dX0_works_2_101 : decode cX0_works_2 101 = .ok (.iconst (-1), 1) := dk_2 (dk_at dksX0_works_2_4 8 rfl rfl)
theorem dX0_works_2_102 : decode cX0_works_2 102 = .ok (.if_icmp .eq 7, 3) := dk_159 0 7 (dk_at dksX0_works_2_4 9 rfl rfl)
theorem dX0_works_2_105 : decode cX0_works_2 105 = .ok (.iconst 1, 1) := dk_4 (dk_at dksX0_works_2_4 12 rfl rfl)
theorem dX0_works_2_106 : decode cX0_works_2 106 = .ok (.goto 4, 3) := dk_167 0 4 (dk_at dksX0_works_2_4 13 rfl rfl)
theorem dX0_works_2_109 : decode cX0_works_2 109 = .ok (.iconst 0, 1) := dk_3 (dk_at dksX0_works_2_4 16 rfl rfl)
theorem dX0_works_2_110 : decode cX0_works_2 110 = .ok (.invokevirtual 389, 3) := dk_182 1 133 (dk_at dksX0_works_2_4 17 rfl rfl)
theorem dX0_works_2_113 : decode cX0_works_2 113 = .ok (.return_, 1) := dk_177 (dk_at dksX0_works_2_4 20 rfl rfl)
abbrev cX0_kicks : ByteArray := prog_1_method_50_code
def yX0_kicks : MethodName := ⟨RX0, "kicks", "(ILWatchStack$Life;Z)V"⟩
def dkwX0_kicks_4 : List UInt8 := [182, 1, 153, 44, 42, 180, 1, 76, 42, 180, 0, 87, 27, 46, 42, 180, 0, 90, 27, 46, 182, 1, 156, 177]
abbrev dktX0_kicks_4 : List UInt8 := dkwX0_kicks_4 ++ []
def dkwX0_kicks_3 : List UInt8 := [153, 0, 11, 42, 21, 4, 27, 182, 1, 149, 177, 42, 27, 42, 180, 1, 76, 44, 180, 1, 146, 100]
abbrev dktX0_kicks_3 : List UInt8 := dkwX0_kicks_3 ++ dktX0_kicks_4
def dkwX0_kicks_2 : List UInt8 := [180, 1, 146, 100, 42, 180, 0, 87, 27, 46, 162, 0, 7, 4, 167, 0, 4, 3, 54, 4, 21, 4]
abbrev dktX0_kicks_2 : List UInt8 := dkwX0_kicks_2 ++ dktX0_kicks_3
def dkwX0_kicks_1 : List UInt8 := [182, 1, 140, 153, 0, 7, 7, 167, 0, 33, 44, 180, 1, 143, 154, 0, 25, 42, 180, 1, 76, 44]
abbrev dktX0_kicks_1 : List UInt8 := dkwX0_kicks_1 ++ dktX0_kicks_2
def dkwX0_kicks_0 : List UInt8 := [44, 42, 180, 1, 76, 181, 1, 137, 29, 153, 0, 7, 6, 167, 0, 49, 42, 27, 44, 180, 1, 119]
abbrev dktX0_kicks_0 : List UInt8 := dkwX0_kicks_0 ++ dktX0_kicks_1
theorem dksX0_kicks_0 : cX0_kicks.data.toList.drop 0 = dktX0_kicks_0 := by decide +kernel
theorem dksX0_kicks_1 : cX0_kicks.data.toList.drop 22 = dktX0_kicks_1 := dk_seg dksX0_kicks_0 22 rfl rfl
theorem dksX0_kicks_2 : cX0_kicks.data.toList.drop 44 = dktX0_kicks_2 := dk_seg dksX0_kicks_1 22 rfl rfl
theorem dksX0_kicks_3 : cX0_kicks.data.toList.drop 66 = dktX0_kicks_3 := dk_seg dksX0_kicks_2 22 rfl rfl
theorem dksX0_kicks_4 : cX0_kicks.data.toList.drop 88 = dktX0_kicks_4 := dk_seg dksX0_kicks_3 22 rfl rfl
theorem dX0_kicks_0 : decode cX0_kicks 0 = .ok (.aload_n 2, 1) := dk_44 (dk_at dksX0_kicks_0 0 rfl rfl)
theorem dX0_kicks_1 : decode cX0_kicks 1 = .ok (.aload_n 0, 1) := dk_42 (dk_at dksX0_kicks_0 1 rfl rfl)
theorem dX0_kicks_2 : decode cX0_kicks 2 = .ok (.getfield 332, 3) := dk_180 1 76 (dk_at dksX0_kicks_0 2 rfl rfl)
theorem dX0_kicks_5 : decode cX0_kicks 5 = .ok (.putfield 393, 3) := dk_181 1 137 (dk_at dksX0_kicks_0 5 rfl rfl)
theorem dX0_kicks_8 : decode cX0_kicks 8 = .ok (.iload_n 3, 1) := dk_29 (dk_at dksX0_kicks_0 8 rfl rfl)
theorem dX0_kicks_9 : decode cX0_kicks 9 = .ok (.ifCond .eq 7, 3) := dk_153 0 7 (dk_at dksX0_kicks_0 9 rfl rfl)
theorem dX0_kicks_12 : decode cX0_kicks 12 = .ok (.iconst 3, 1) := dk_6 (dk_at dksX0_kicks_0 12 rfl rfl)
theorem dX0_kicks_13 : decode cX0_kicks 13 = .ok (.goto 49, 3) := dk_167 0 49 (dk_at dksX0_kicks_0 13 rfl rfl)
theorem dX0_kicks_16 : decode cX0_kicks 16 = .ok (.aload_n 0, 1) := dk_42 (dk_at dksX0_kicks_0 16 rfl rfl)
theorem dX0_kicks_17 : decode cX0_kicks 17 = .ok (.iload_n 1, 1) := dk_27 (dk_at dksX0_kicks_0 17 rfl rfl)
theorem dX0_kicks_18 : decode cX0_kicks 18 = .ok (.aload_n 2, 1) := dk_44 (dk_at dksX0_kicks_0 18 rfl rfl)
theorem dX0_kicks_19 : decode cX0_kicks 19 = .ok (.getfield 375, 3) := dk_180 1 119 (dk_at dksX0_kicks_0 19 rfl rfl)
theorem dX0_kicks_22 : decode cX0_kicks 22 = .ok (.invokevirtual 396, 3) := dk_182 1 140 (dk_at dksX0_kicks_1 0 rfl rfl)
theorem dX0_kicks_25 : decode cX0_kicks 25 = .ok (.ifCond .eq 7, 3) := dk_153 0 7 (dk_at dksX0_kicks_1 3 rfl rfl)
theorem dX0_kicks_28 : decode cX0_kicks 28 = .ok (.iconst 4, 1) := dk_7 (dk_at dksX0_kicks_1 6 rfl rfl)
theorem dX0_kicks_29 : decode cX0_kicks 29 = .ok (.goto 33, 3) := dk_167 0 33 (dk_at dksX0_kicks_1 7 rfl rfl)
theorem dX0_kicks_32 : decode cX0_kicks 32 = .ok (.aload_n 2, 1) := dk_44 (dk_at dksX0_kicks_1 10 rfl rfl)
theorem dX0_kicks_33 : decode cX0_kicks 33 = .ok (.getfield 399, 3) := dk_180 1 143 (dk_at dksX0_kicks_1 11 rfl rfl)
theorem dX0_kicks_36 : decode cX0_kicks 36 = .ok (.ifCond .ne 25, 3) := dk_154 0 25 (dk_at dksX0_kicks_1 14 rfl rfl)
theorem dX0_kicks_39 : decode cX0_kicks 39 = .ok (.aload_n 0, 1) := dk_42 (dk_at dksX0_kicks_1 17 rfl rfl)
theorem dX0_kicks_40 : decode cX0_kicks 40 = .ok (.getfield 332, 3) := dk_180 1 76 (dk_at dksX0_kicks_1 18 rfl rfl)
theorem dX0_kicks_43 : decode cX0_kicks 43 = .ok (.aload_n 2, 1) := dk_44 (dk_at dksX0_kicks_1 21 rfl rfl)
theorem dX0_kicks_44 : decode cX0_kicks 44 = .ok (.getfield 402, 3) := dk_180 1 146 (dk_at dksX0_kicks_2 0 rfl rfl)
theorem dX0_kicks_47 : decode cX0_kicks 47 = .ok (.isub, 1) := dk_100 (dk_at dksX0_kicks_2 3 rfl rfl)
theorem dX0_kicks_48 : decode cX0_kicks 48 = .ok (.aload_n 0, 1) := dk_42 (dk_at dksX0_kicks_2 4 rfl rfl)
theorem dX0_kicks_49 : decode cX0_kicks 49 = .ok (.getfield 87, 3) := dk_180 0 87 (dk_at dksX0_kicks_2 5 rfl rfl)
theorem dX0_kicks_52 : decode cX0_kicks 52 = .ok (.iload_n 1, 1) := dk_27 (dk_at dksX0_kicks_2 8 rfl rfl)
theorem dX0_kicks_53 : decode cX0_kicks 53 = .ok (.iaload, 1) := dk_46 (dk_at dksX0_kicks_2 9 rfl rfl)
theorem dX0_kicks_54 : decode cX0_kicks 54 = .ok (.if_icmp .ge 7, 3) := dk_162 0 7 (dk_at dksX0_kicks_2 10 rfl rfl)
theorem dX0_kicks_57 : decode cX0_kicks 57 = .ok (.iconst 1, 1) := dk_4 (dk_at dksX0_kicks_2 13 rfl rfl)
theorem dX0_kicks_58 : decode cX0_kicks 58 = .ok (.goto 4, 3) := dk_167 0 4 (dk_at dksX0_kicks_2 14 rfl rfl)
theorem dX0_kicks_61 : decode cX0_kicks 61 = .ok (.iconst 0, 1) := dk_3 (dk_at dksX0_kicks_2 17 rfl rfl)
theorem dX0_kicks_62 : decode cX0_kicks 62 = .ok (.istore 4, 2) := dk_54 4 (dk_at dksX0_kicks_2 18 rfl rfl)
theorem dX0_kicks_64 : decode cX0_kicks 64 = .ok (.iload 4, 2) := dk_21 4 (dk_at dksX0_kicks_2 20 rfl rfl)
theorem dX0_kicks_66 : decode cX0_kicks 66 = .ok (.ifCond .eq 11, 3) := dk_153 0 11 (dk_at dksX0_kicks_3 0 rfl rfl)
theorem dX0_kicks_69 : decode cX0_kicks 69 = .ok (.aload_n 0, 1) := dk_42 (dk_at dksX0_kicks_3 3 rfl rfl)
theorem dX0_kicks_70 : decode cX0_kicks 70 = .ok (.iload 4, 2) := dk_21 4 (dk_at dksX0_kicks_3 4 rfl rfl)
theorem dX0_kicks_72 : decode cX0_kicks 72 = .ok (.iload_n 1, 1) := dk_27 (dk_at dksX0_kicks_3 6 rfl rfl)
theorem dX0_kicks_73 : decode cX0_kicks 73 = .ok (.invokevirtual 405, 3) := dk_182 1 149 (dk_at dksX0_kicks_3 7 rfl rfl)
theorem dX0_kicks_76 : decode cX0_kicks 76 = .ok (.return_, 1) := dk_177 (dk_at dksX0_kicks_3 10 rfl rfl)
theorem dX0_kicks_77 : decode cX0_kicks 77 = .ok (.aload_n 0, 1) := dk_42 (dk_at dksX0_kicks_3 11 rfl rfl)
theorem dX0_kicks_78 : decode cX0_kicks 78 = .ok (.iload_n 1, 1) := dk_27 (dk_at dksX0_kicks_3 12 rfl rfl)
theorem dX0_kicks_79 : decode cX0_kicks 79 = .ok (.aload_n 0, 1) := dk_42 (dk_at dksX0_kicks_3 13 rfl rfl)
theorem dX0_kicks_80 : decode cX0_kicks 80 = .ok (.getfield 332, 3) := dk_180 1 76 (dk_at dksX0_kicks_3 14 rfl rfl)
theorem dX0_kicks_83 : decode cX0_kicks 83 = .ok (.aload_n 2, 1) := dk_44 (dk_at dksX0_kicks_3 17 rfl rfl)
theorem dX0_kicks_84 : decode cX0_kicks 84 = .ok (.getfield 402, 3) := dk_180 1 146 (dk_at dksX0_kicks_3 18 rfl rfl)
theorem dX0_kicks_87 : decode cX0_kicks 87 = .ok (.isub, 1) := dk_100 (dk_at dksX0_kicks_3 21 rfl rfl)
theorem dX0_kicks_88 : decode cX0_kicks 88 = .ok (.invokevirtual 409, 3) := dk_182 1 153 (dk_at dksX0_kicks_4 0 rfl rfl)
theorem dX0_kicks_91 : decode cX0_kicks 91 = .ok (.aload_n 2, 1) := dk_44 (dk_at dksX0_kicks_4 3 rfl rfl)
theorem dX0_kicks_92 : decode cX0_kicks 92 = .ok (.aload_n 0, 1) := dk_42 (dk_at dksX0_kicks_4 4 rfl rfl)
theorem dX0_kicks_93 : decode cX0_kicks 93 = .ok (.getfield 332, 3) := dk_180 1 76 (dk_at dksX0_kicks_4 5 rfl rfl)
theorem dX0_kicks_96 : decode cX0_kicks 96 = .ok (.aload_n 0, 1) := dk_42 (dk_at dksX0_kicks_4 8 rfl rfl)
theorem dX0_kicks_97 : decode cX0_kicks 97 = .ok (.getfield 87, 3) := dk_180 0 87 (dk_at dksX0_kicks_4 9 rfl rfl)
theorem dX0_kicks_100 : decode cX0_kicks 100 = .ok (.iload_n 1, 1) := dk_27 (dk_at dksX0_kicks_4 12 rfl rfl)
theorem dX0_kicks_101 : decode cX0_kicks 101 = .ok (.iaload, 1) := dk_46 (dk_at dksX0_kicks_4 13 rfl rfl)
theorem dX0_kicks_102 : decode cX0_kicks 102 = .ok (.aload_n 0, 1) := dk_42 (dk_at dksX0_kicks_4 14 rfl rfl)
theorem dX0_kicks_103 : decode cX0_kicks 103 = .ok (.getfield 90, 3) := dk_180 0 90 (dk_at dksX0_kicks_4 15 rfl rfl)
theorem dX0_kicks_106 : decode cX0_kicks 106 = .ok (.iload_n 1, 1) := dk_27 (dk_at dksX0_kicks_4 18 rfl rfl)
theorem dX0_kicks_107 : decode cX0_kicks 107 = .ok (.iaload, 1) := dk_46 (dk_at dksX0_kicks_4 19 rfl rfl)
theorem dX0_kicks_108 : decode cX0_kicks 108 = .ok (.invokevirtual 412, 3) := dk_182 1 156 (dk_at dksX0_kicks_4 20 rfl rfl)
theorem dX0_kicks_111 : decode cX0_kicks 111 = .ok (.return_, 1) := dk_177 (dk_at dksX0_kicks_4 23 rfl rfl)
abbrev cX0_isWrong : ByteArray := prog_1_method_47_code
def yX0_isWrong : MethodName := ⟨RX0, "isWrong", "(II)Z"⟩
def dkwX0_isWrong_2 : List UInt8 := [153, 0, 14, 25, 4, 180, 0, 220, 7, 160, 0, 5, 4, 172, 132, 3, 1, 167, 255, 194, 3, 172]
abbrev dktX0_isWrong_2 : List UInt8 := dkwX0_isWrong_2 ++ []
def dkwX0_isWrong_1 : List UInt8 := [182, 0, 153, 192, 0, 218, 58, 4, 29, 42, 180, 1, 61, 159, 0, 24, 25, 4, 27, 28, 182, 1, 120]
abbrev dktX0_isWrong_1 : List UInt8 := dkwX0_isWrong_1 ++ dktX0_isWrong_2
def dkwX0_isWrong_0 : List UInt8 := [3, 62, 29, 42, 180, 0, 10, 180, 0, 175, 182, 0, 147, 162, 0, 54, 42, 180, 0, 10, 180, 0, 175, 29]
abbrev dktX0_isWrong_0 : List UInt8 := dkwX0_isWrong_0 ++ dktX0_isWrong_1
theorem dksX0_isWrong_0 : cX0_isWrong.data.toList.drop 0 = dktX0_isWrong_0 := by decide +kernel
theorem dksX0_isWrong_1 : cX0_isWrong.data.toList.drop 24 = dktX0_isWrong_1 := dk_seg dksX0_isWrong_0 24 rfl rfl
theorem dksX0_isWrong_2 : cX0_isWrong.data.toList.drop 47 = dktX0_isWrong_2 := dk_seg dksX0_isWrong_1 23 rfl rfl
theorem dX0_isWrong_0 : decode cX0_isWrong 0 = .ok (.iconst 0, 1) := dk_3 (dk_at dksX0_isWrong_0 0 rfl rfl)
theorem dX0_isWrong_1 : decode cX0_isWrong 1 = .ok (.istore_n 3, 1) := dk_62 (dk_at dksX0_isWrong_0 1 rfl rfl)
theorem dX0_isWrong_2 : decode cX0_isWrong 2 = .ok (.iload_n 3, 1) := dk_29 (dk_at dksX0_isWrong_0 2 rfl rfl)
theorem dX0_isWrong_3 : decode cX0_isWrong 3 = .ok (.aload_n 0, 1) := dk_42 (dk_at dksX0_isWrong_0 3 rfl rfl)
theorem dX0_isWrong_4 : decode cX0_isWrong 4 = .ok (.getfield 10, 3) := dk_180 0 10 (dk_at dksX0_isWrong_0 4 rfl rfl)
theorem dX0_isWrong_7 : decode cX0_isWrong 7 = .ok (.getfield 175, 3) := dk_180 0 175 (dk_at dksX0_isWrong_0 7 rfl rfl)
theorem dX0_isWrong_10 : decode cX0_isWrong 10 = .ok (.invokevirtual 147, 3) := dk_182 0 147 (dk_at dksX0_isWrong_0 10 rfl rfl)
theorem dX0_isWrong_13 : decode cX0_isWrong 13 = .ok (.if_icmp .ge 54, 3) := dk_162 0 54 (dk_at dksX0_isWrong_0 13 rfl rfl)
theorem dX0_isWrong_16 : decode cX0_isWrong 16 = .ok (.aload_n 0, 1) := dk_42 (dk_at dksX0_isWrong_0 16 rfl rfl)
theorem dX0_isWrong_17 : decode cX0_isWrong 17 = .ok (.getfield 10, 3) := dk_180 0 10 (dk_at dksX0_isWrong_0 17 rfl rfl)
theorem dX0_isWrong_20 : decode cX0_isWrong 20 = .ok (.getfield 175, 3) := dk_180 0 175 (dk_at dksX0_isWrong_0 20 rfl rfl)
theorem dX0_isWrong_23 : decode cX0_isWrong 23 = .ok (.iload_n 3, 1) := dk_29 (dk_at dksX0_isWrong_0 23 rfl rfl)
theorem dX0_isWrong_24 : decode cX0_isWrong 24 = .ok (.invokevirtual 153, 3) := dk_182 0 153 (dk_at dksX0_isWrong_1 0 rfl rfl)
theorem dX0_isWrong_27 : decode cX0_isWrong 27 = .ok (.checkcast 218, 3) := dk_192 0 218 (dk_at dksX0_isWrong_1 3 rfl rfl)
theorem dX0_isWrong_30 : decode cX0_isWrong 30 = .ok (.astore 4, 2) := dk_58 4 (dk_at dksX0_isWrong_1 6 rfl rfl)
theorem dX0_isWrong_32 : decode cX0_isWrong 32 = .ok (.iload_n 3, 1) := dk_29 (dk_at dksX0_isWrong_1 8 rfl rfl)
theorem dX0_isWrong_33 : decode cX0_isWrong 33 = .ok (.aload_n 0, 1) := dk_42 (dk_at dksX0_isWrong_1 9 rfl rfl)
theorem dX0_isWrong_34 : decode cX0_isWrong 34 = .ok (.getfield 317, 3) := dk_180 1 61 (dk_at dksX0_isWrong_1 10 rfl rfl)
theorem dX0_isWrong_37 : decode cX0_isWrong 37 = .ok (.if_icmp .eq 24, 3) := dk_159 0 24 (dk_at dksX0_isWrong_1 13 rfl rfl)
theorem dX0_isWrong_40 : decode cX0_isWrong 40 = .ok (.aload 4, 2) := dk_25 4 (dk_at dksX0_isWrong_1 16 rfl rfl)
theorem dX0_isWrong_42 : decode cX0_isWrong 42 = .ok (.iload_n 1, 1) := dk_27 (dk_at dksX0_isWrong_1 18 rfl rfl)
theorem dX0_isWrong_43 : decode cX0_isWrong 43 = .ok (.iload_n 2, 1) := dk_28 (dk_at dksX0_isWrong_1 19 rfl rfl)
theorem dX0_isWrong_44 : decode cX0_isWrong 44 = .ok (.invokevirtual 376, 3) := dk_182 1 120 (dk_at dksX0_isWrong_1 20 rfl rfl)
theorem dX0_isWrong_47 : decode cX0_isWrong 47 = .ok (.ifCond .eq 14, 3) := dk_153 0 14 (dk_at dksX0_isWrong_2 0 rfl rfl)
theorem dX0_isWrong_50 : decode cX0_isWrong 50 = .ok (.aload 4, 2) := dk_25 4 (dk_at dksX0_isWrong_2 3 rfl rfl)
theorem dX0_isWrong_52 : decode cX0_isWrong 52 = .ok (.getfield 220, 3) := dk_180 0 220 (dk_at dksX0_isWrong_2 5 rfl rfl)
theorem dX0_isWrong_55 : decode cX0_isWrong 55 = .ok (.iconst 4, 1) := dk_7 (dk_at dksX0_isWrong_2 8 rfl rfl)
theorem dX0_isWrong_56 : decode cX0_isWrong 56 = .ok (.if_icmp .ne 5, 3) := dk_160 0 5 (dk_at dksX0_isWrong_2 9 rfl rfl)
theorem dX0_isWrong_59 : decode cX0_isWrong 59 = .ok (.iconst 1, 1) := dk_4 (dk_at dksX0_isWrong_2 12 rfl rfl)
theorem dX0_isWrong_60 : decode cX0_isWrong 60 = .ok (.ireturn, 1) := dk_172 (dk_at dksX0_isWrong_2 13 rfl rfl)
theorem dX0_isWrong_61 : decode cX0_isWrong 61 = .ok (.iinc 3 1, 3) := dk_132 3 1 (dk_at dksX0_isWrong_2 14 rfl rfl)
theorem dX0_isWrong_64 : decode cX0_isWrong 64 = .ok (.goto (-62), 3) := dk_167 255 194 (dk_at dksX0_isWrong_2 17 rfl rfl)
theorem dX0_isWrong_67 : decode cX0_isWrong 67 = .ok (.iconst 0, 1) := dk_3 (dk_at dksX0_isWrong_2 20 rfl rfl)
theorem dX0_isWrong_68 : decode cX0_isWrong 68 = .ok (.ireturn, 1) := dk_172 (dk_at dksX0_isWrong_2 21 rfl rfl)
abbrev cX0_faults : ByteArray := prog_1_method_55_code
def yX0_faults : MethodName := ⟨RX0, "faults", "(II)V"⟩
def dkwX0_faults_3 : List UInt8 := [96, 54, 4, 42, 27, 28, 6, 21, 4, 184, 1, 183, 182, 1, 165, 177]
abbrev dktX0_faults_3 : List UInt8 := dkwX0_faults_3 ++ []
def dkwX0_faults_2 : List UInt8 := [180, 1, 174, 42, 180, 0, 10, 180, 1, 179, 134, 19, 1, 182, 110, 150, 156, 0, 7, 4, 167, 0, 4, 3]
abbrev dktX0_faults_2 : List UInt8 := dkwX0_faults_2 ++ dktX0_faults_3
def dkwX0_faults_1 : List UInt8 := [181, 1, 104, 45, 45, 180, 1, 174, 19, 1, 178, 106, 181, 1, 174, 45, 180, 1, 168, 4, 100, 45]
abbrev dktX0_faults_1 : List UInt8 := dkwX0_faults_1 ++ dktX0_faults_2
def dkwX0_faults_0 : List UInt8 := [42, 180, 0, 58, 28, 50, 78, 45, 89, 180, 1, 168, 4, 96, 181, 1, 168, 45, 3, 181, 1, 171, 45, 4]
abbrev dktX0_faults_0 : List UInt8 := dkwX0_faults_0 ++ dktX0_faults_1
theorem dksX0_faults_0 : cX0_faults.data.toList.drop 0 = dktX0_faults_0 := by decide +kernel
theorem dksX0_faults_1 : cX0_faults.data.toList.drop 24 = dktX0_faults_1 := dk_seg dksX0_faults_0 24 rfl rfl
theorem dksX0_faults_2 : cX0_faults.data.toList.drop 46 = dktX0_faults_2 := dk_seg dksX0_faults_1 22 rfl rfl
theorem dksX0_faults_3 : cX0_faults.data.toList.drop 70 = dktX0_faults_3 := dk_seg dksX0_faults_2 24 rfl rfl
theorem dX0_faults_0 : decode cX0_faults 0 = .ok (.aload_n 0, 1) := dk_42 (dk_at dksX0_faults_0 0 rfl rfl)
theorem dX0_faults_1 : decode cX0_faults 1 = .ok (.getfield 58, 3) := dk_180 0 58 (dk_at dksX0_faults_0 1 rfl rfl)
theorem dX0_faults_4 : decode cX0_faults 4 = .ok (.iload_n 2, 1) := dk_28 (dk_at dksX0_faults_0 4 rfl rfl)
theorem dX0_faults_5 : decode cX0_faults 5 = .ok (.aaload, 1) := dk_50 (dk_at dksX0_faults_0 5 rfl rfl)
theorem dX0_faults_6 : decode cX0_faults 6 = .ok (.astore_n 3, 1) := dk_78 (dk_at dksX0_faults_0 6 rfl rfl)
theorem dX0_faults_7 : decode cX0_faults 7 = .ok (.aload_n 3, 1) := dk_45 (dk_at dksX0_faults_0 7 rfl rfl)
theorem dX0_faults_8 : decode cX0_faults 8 = .ok (.dup, 1) := dk_89 (dk_at dksX0_faults_0 8 rfl rfl)
theorem dX0_faults_9 : decode cX0_faults 9 = .ok (.getfield 424, 3) := dk_180 1 168 (dk_at dksX0_faults_0 9 rfl rfl)
theorem dX0_faults_12 : decode cX0_faults 12 = .ok (.iconst 1, 1) := dk_4 (dk_at dksX0_faults_0 12 rfl rfl)
theorem dX0_faults_13 : decode cX0_faults 13 = .ok (.iadd, 1) := dk_96 (dk_at dksX0_faults_0 13 rfl rfl)
theorem dX0_faults_14 : decode cX0_faults 14 = .ok (.putfield 424, 3) := dk_181 1 168 (dk_at dksX0_faults_0 14 rfl rfl)
theorem dX0_faults_17 : decode cX0_faults 17 = .ok (.aload_n 3, 1) := dk_45 (dk_at dksX0_faults_0 17 rfl rfl)
theorem dX0_faults_18 : decode cX0_faults 18 = .ok (.iconst 0, 1) := dk_3 (dk_at dksX0_faults_0 18 rfl rfl)
theorem dX0_faults_19 : decode cX0_faults 19 = .ok (.putfield 427, 3) := dk_181 1 171 (dk_at dksX0_faults_0 19 rfl rfl)
theorem dX0_faults_22 : decode cX0_faults 22 = .ok (.aload_n 3, 1) := dk_45 (dk_at dksX0_faults_0 22 rfl rfl)
theorem dX0_faults_23 : decode cX0_faults 23 = .ok (.iconst 1, 1) := dk_4 (dk_at dksX0_faults_0 23 rfl rfl)
theorem dX0_faults_24 : decode cX0_faults 24 = .ok (.putfield 360, 3) := dk_181 1 104 (dk_at dksX0_faults_1 0 rfl rfl)
theorem dX0_faults_27 : decode cX0_faults 27 = .ok (.aload_n 3, 1) := dk_45 (dk_at dksX0_faults_1 3 rfl rfl)
theorem dX0_faults_28 : decode cX0_faults 28 = .ok (.aload_n 3, 1) := dk_45 (dk_at dksX0_faults_1 4 rfl rfl)
theorem dX0_faults_29 : decode cX0_faults 29 = .ok (.getfield 430, 3) := dk_180 1 174 (dk_at dksX0_faults_1 5 rfl rfl)
theorem dX0_faults_32 : decode cX0_faults 32 = .ok (.ldc_w 434, 3) := dk_19 1 178 (dk_at dksX0_faults_1 8 rfl rfl)
theorem dX0_faults_35 : decode cX0_faults 35 = .ok (.fmul, 1) := dk_106 (dk_at dksX0_faults_1 11 rfl rfl)
theorem dX0_faults_36 : decode cX0_faults 36 = .ok (.putfield 430, 3) := dk_181 1 174 (dk_at dksX0_faults_1 12 rfl rfl)
theorem dX0_faults_39 : decode cX0_faults 39 = .ok (.aload_n 3, 1) := dk_45 (dk_at dksX0_faults_1 15 rfl rfl)
theorem dX0_faults_40 : decode cX0_faults 40 = .ok (.getfield 424, 3) := dk_180 1 168 (dk_at dksX0_faults_1 16 rfl rfl)
theorem dX0_faults_43 : decode cX0_faults 43 = .ok (.iconst 1, 1) := dk_4 (dk_at dksX0_faults_1 19 rfl rfl)
theorem dX0_faults_44 : decode cX0_faults 44 = .ok (.isub, 1) := dk_100 (dk_at dksX0_faults_1 20 rfl rfl)
theorem dX0_faults_45 : decode cX0_faults 45 = .ok (.aload_n 3, 1) := dk_45 (dk_at dksX0_faults_1 21 rfl rfl)
theorem dX0_faults_46 : decode cX0_faults 46 = .ok (.getfield 430, 3) := dk_180 1 174 (dk_at dksX0_faults_2 0 rfl rfl)
theorem dX0_faults_49 : decode cX0_faults 49 = .ok (.aload_n 0, 1) := dk_42 (dk_at dksX0_faults_2 3 rfl rfl)
theorem dX0_faults_50 : decode cX0_faults 50 = .ok (.getfield 10, 3) := dk_180 0 10 (dk_at dksX0_faults_2 4 rfl rfl)
theorem dX0_faults_53 : decode cX0_faults 53 = .ok (.getfield 435, 3) := dk_180 1 179 (dk_at dksX0_faults_2 7 rfl rfl)
theorem dX0_faults_56 : decode cX0_faults 56 = .ok (.i2f, 1) := dk_134 (dk_at dksX0_faults_2 10 rfl rfl)
theorem dX0_faults_57 : decode cX0_faults 57 = .ok (.ldc_w 438, 3) := dk_19 1 182 (dk_at dksX0_faults_2 11 rfl rfl)
theorem dX0_faults_60 : decode cX0_faults 60 = .ok (.fdiv, 1) := dk_110 (dk_at dksX0_faults_2 14 rfl rfl)
theorem dX0_faults_61 : decode cX0_faults 61 = .ok (.fcmp .g, 1) := dk_150 (dk_at dksX0_faults_2 15 rfl rfl)
theorem dX0_faults_62 : decode cX0_faults 62 = .ok (.ifCond .ge 7, 3) := dk_156 0 7 (dk_at dksX0_faults_2 16 rfl rfl)
theorem dX0_faults_65 : decode cX0_faults 65 = .ok (.iconst 1, 1) := dk_4 (dk_at dksX0_faults_2 19 rfl rfl)
theorem dX0_faults_66 : decode cX0_faults 66 = .ok (.goto 4, 3) := dk_167 0 4 (dk_at dksX0_faults_2 20 rfl rfl)
theorem dX0_faults_69 : decode cX0_faults 69 = .ok (.iconst 0, 1) := dk_3 (dk_at dksX0_faults_2 23 rfl rfl)
theorem dX0_faults_70 : decode cX0_faults 70 = .ok (.iadd, 1) := dk_96 (dk_at dksX0_faults_3 0 rfl rfl)
theorem dX0_faults_71 : decode cX0_faults 71 = .ok (.istore 4, 2) := dk_54 4 (dk_at dksX0_faults_3 1 rfl rfl)
theorem dX0_faults_73 : decode cX0_faults 73 = .ok (.aload_n 0, 1) := dk_42 (dk_at dksX0_faults_3 3 rfl rfl)
theorem dX0_faults_74 : decode cX0_faults 74 = .ok (.iload_n 1, 1) := dk_27 (dk_at dksX0_faults_3 4 rfl rfl)
theorem dX0_faults_75 : decode cX0_faults 75 = .ok (.iload_n 2, 1) := dk_28 (dk_at dksX0_faults_3 5 rfl rfl)
theorem dX0_faults_76 : decode cX0_faults 76 = .ok (.iconst 3, 1) := dk_6 (dk_at dksX0_faults_3 6 rfl rfl)
theorem dX0_faults_77 : decode cX0_faults 77 = .ok (.iload 4, 2) := dk_21 4 (dk_at dksX0_faults_3 7 rfl rfl)
theorem dX0_faults_79 : decode cX0_faults 79 = .ok (.invokestatic 439, 3) := dk_184 1 183 (dk_at dksX0_faults_3 9 rfl rfl)
theorem dX0_faults_82 : decode cX0_faults 82 = .ok (.invokevirtual 421, 3) := dk_182 1 165 (dk_at dksX0_faults_3 12 rfl rfl)
theorem dX0_faults_85 : decode cX0_faults 85 = .ok (.return_, 1) := dk_177 (dk_at dksX0_faults_3 15 rfl rfl)
abbrev cX0_notes : ByteArray := prog_1_method_56_code
def yX0_notes : MethodName := ⟨RX0, "notes", "(III)V"⟩
def dkwX0_notes_3 : List UInt8 := [180, 0, 182, 167, 0, 4, 28, 182, 1, 186, 177]
abbrev dktX0_notes_3 : List UInt8 := dkwX0_notes_3 ++ []
def dkwX0_notes_2 : List UInt8 := [4, 96, 181, 1, 64, 42, 180, 0, 52, 29, 50, 28, 27, 16, 6, 162, 0, 14, 42, 28, 182, 0, 178]
abbrev dktX0_notes_2 : List UInt8 := dkwX0_notes_2 ++ dktX0_notes_3
def dkwX0_notes_1 : List UInt8 := [180, 0, 81, 42, 180, 1, 64, 28, 79, 42, 180, 0, 84, 42, 180, 1, 64, 29, 79, 42, 89, 180, 1, 64]
abbrev dktX0_notes_1 : List UInt8 := dkwX0_notes_1 ++ dktX0_notes_2
def dkwX0_notes_0 : List UInt8 := [42, 180, 0, 75, 42, 180, 1, 64, 42, 180, 1, 76, 79, 42, 180, 0, 78, 42, 180, 1, 64, 27, 79, 42]
abbrev dktX0_notes_0 : List UInt8 := dkwX0_notes_0 ++ dktX0_notes_1
theorem dksX0_notes_0 : cX0_notes.data.toList.drop 0 = dktX0_notes_0 := by decide +kernel
theorem dksX0_notes_1 : cX0_notes.data.toList.drop 24 = dktX0_notes_1 := dk_seg dksX0_notes_0 24 rfl rfl
theorem dksX0_notes_2 : cX0_notes.data.toList.drop 48 = dktX0_notes_2 := dk_seg dksX0_notes_1 24 rfl rfl
theorem dksX0_notes_3 : cX0_notes.data.toList.drop 71 = dktX0_notes_3 := dk_seg dksX0_notes_2 23 rfl rfl
theorem dX0_notes_0 : decode cX0_notes 0 = .ok (.aload_n 0, 1) := dk_42 (dk_at dksX0_notes_0 0 rfl rfl)
theorem dX0_notes_1 : decode cX0_notes 1 = .ok (.getfield 75, 3) := dk_180 0 75 (dk_at dksX0_notes_0 1 rfl rfl)
theorem dX0_notes_4 : decode cX0_notes 4 = .ok (.aload_n 0, 1) := dk_42 (dk_at dksX0_notes_0 4 rfl rfl)
theorem dX0_notes_5 : decode cX0_notes 5 = .ok (.getfield 320, 3) := dk_180 1 64 (dk_at dksX0_notes_0 5 rfl rfl)
theorem dX0_notes_8 : decode cX0_notes 8 = .ok (.aload_n 0, 1) := dk_42 (dk_at dksX0_notes_0 8 rfl rfl)
theorem dX0_notes_9 : decode cX0_notes 9 = .ok (.getfield 332, 3) := dk_180 1 76 (dk_at dksX0_notes_0 9 rfl rfl)
theorem dX0_notes_12 : decode cX0_notes 12 = .ok (.iastore, 1) := dk_79 (dk_at dksX0_notes_0 12 rfl rfl)
theorem dX0_notes_13 : decode cX0_notes 13 = .ok (.aload_n 0, 1) := dk_42 (dk_at dksX0_notes_0 13 rfl rfl)
theorem dX0_notes_14 : decode cX0_notes 14 = .ok (.getfield 78, 3) := dk_180 0 78 (dk_at dksX0_notes_0 14 rfl rfl)
theorem dX0_notes_17 : decode cX0_notes 17 = .ok (.aload_n 0, 1) := dk_42 (dk_at dksX0_notes_0 17 rfl rfl)
theorem dX0_notes_18 : decode cX0_notes 18 = .ok (.getfield 320, 3) := dk_180 1 64 (dk_at dksX0_notes_0 18 rfl rfl)
theorem dX0_notes_21 : decode cX0_notes 21 = .ok (.iload_n 1, 1) := dk_27 (dk_at dksX0_notes_0 21 rfl rfl)
theorem dX0_notes_22 : decode cX0_notes 22 = .ok (.iastore, 1) := dk_79 (dk_at dksX0_notes_0 22 rfl rfl)
theorem dX0_notes_23 : decode cX0_notes 23 = .ok (.aload_n 0, 1) := dk_42 (dk_at dksX0_notes_0 23 rfl rfl)
theorem dX0_notes_24 : decode cX0_notes 24 = .ok (.getfield 81, 3) := dk_180 0 81 (dk_at dksX0_notes_1 0 rfl rfl)
theorem dX0_notes_27 : decode cX0_notes 27 = .ok (.aload_n 0, 1) := dk_42 (dk_at dksX0_notes_1 3 rfl rfl)
theorem dX0_notes_28 : decode cX0_notes 28 = .ok (.getfield 320, 3) := dk_180 1 64 (dk_at dksX0_notes_1 4 rfl rfl)
theorem dX0_notes_31 : decode cX0_notes 31 = .ok (.iload_n 2, 1) := dk_28 (dk_at dksX0_notes_1 7 rfl rfl)
theorem dX0_notes_32 : decode cX0_notes 32 = .ok (.iastore, 1) := dk_79 (dk_at dksX0_notes_1 8 rfl rfl)
theorem dX0_notes_33 : decode cX0_notes 33 = .ok (.aload_n 0, 1) := dk_42 (dk_at dksX0_notes_1 9 rfl rfl)
theorem dX0_notes_34 : decode cX0_notes 34 = .ok (.getfield 84, 3) := dk_180 0 84 (dk_at dksX0_notes_1 10 rfl rfl)
theorem dX0_notes_37 : decode cX0_notes 37 = .ok (.aload_n 0, 1) := dk_42 (dk_at dksX0_notes_1 13 rfl rfl)
theorem dX0_notes_38 : decode cX0_notes 38 = .ok (.getfield 320, 3) := dk_180 1 64 (dk_at dksX0_notes_1 14 rfl rfl)
theorem dX0_notes_41 : decode cX0_notes 41 = .ok (.iload_n 3, 1) := dk_29 (dk_at dksX0_notes_1 17 rfl rfl)
theorem dX0_notes_42 : decode cX0_notes 42 = .ok (.iastore, 1) := dk_79 (dk_at dksX0_notes_1 18 rfl rfl)
theorem dX0_notes_43 : decode cX0_notes 43 = .ok (.aload_n 0, 1) := dk_42 (dk_at dksX0_notes_1 19 rfl rfl)
theorem dX0_notes_44 : decode cX0_notes 44 = .ok (.dup, 1) := dk_89 (dk_at dksX0_notes_1 20 rfl rfl)
theorem dX0_notes_45 : decode cX0_notes 45 = .ok (.getfield 320, 3) := dk_180 1 64 (dk_at dksX0_notes_1 21 rfl rfl)
theorem dX0_notes_48 : decode cX0_notes 48 = .ok (.iconst 1, 1) := dk_4 (dk_at dksX0_notes_2 0 rfl rfl)
theorem dX0_notes_49 : decode cX0_notes 49 = .ok (.iadd, 1) := dk_96 (dk_at dksX0_notes_2 1 rfl rfl)
theorem dX0_notes_50 : decode cX0_notes 50 = .ok (.putfield 320, 3) := dk_181 1 64 (dk_at dksX0_notes_2 2 rfl rfl)
theorem dX0_notes_53 : decode cX0_notes 53 = .ok (.aload_n 0, 1) := dk_42 (dk_at dksX0_notes_2 5 rfl rfl)
theorem dX0_notes_54 : decode cX0_notes 54 = .ok (.getfield 52, 3) := dk_180 0 52 (dk_at dksX0_notes_2 6 rfl rfl)
theorem dX0_notes_57 : decode cX0_notes 57 = .ok (.iload_n 3, 1) := dk_29 (dk_at dksX0_notes_2 9 rfl rfl)
theorem dX0_notes_58 : decode cX0_notes 58 = .ok (.aaload, 1) := dk_50 (dk_at dksX0_notes_2 10 rfl rfl)
theorem dX0_notes_59 : decode cX0_notes 59 = .ok (.iload_n 2, 1) := dk_28 (dk_at dksX0_notes_2 11 rfl rfl)
theorem dX0_notes_60 : decode cX0_notes 60 = .ok (.iload_n 1, 1) := dk_27 (dk_at dksX0_notes_2 12 rfl rfl)
theorem dX0_notes_61 : decode cX0_notes 61 = .ok (.bipush 6, 2) := dk_16 6 (dk_at dksX0_notes_2 13 rfl rfl)
theorem dX0_notes_63 : decode cX0_notes 63 = .ok (.if_icmp .ge 14, 3) := dk_162 0 14 (dk_at dksX0_notes_2 15 rfl rfl)
theorem dX0_notes_66 : decode cX0_notes 66 = .ok (.aload_n 0, 1) := dk_42 (dk_at dksX0_notes_2 18 rfl rfl)
theorem dX0_notes_67 : decode cX0_notes 67 = .ok (.iload_n 2, 1) := dk_28 (dk_at dksX0_notes_2 19 rfl rfl)
theorem dX0_notes_68 : decode cX0_notes 68 = .ok (.invokevirtual 178, 3) := dk_182 0 178 (dk_at dksX0_notes_2 20 rfl rfl)
theorem dX0_notes_71 : decode cX0_notes 71 = .ok (.getfield 182, 3) := dk_180 0 182 (dk_at dksX0_notes_3 0 rfl rfl)
theorem dX0_notes_74 : decode cX0_notes 74 = .ok (.goto 4, 3) := dk_167 0 4 (dk_at dksX0_notes_3 3 rfl rfl)
theorem dX0_notes_77 : decode cX0_notes 77 = .ok (.iload_n 2, 1) := dk_28 (dk_at dksX0_notes_3 6 rfl rfl)
theorem dX0_notes_78 : decode cX0_notes 78 = .ok (.invokevirtual 442, 3) := dk_182 1 186 (dk_at dksX0_notes_3 7 rfl rfl)
theorem dX0_notes_81 : decode cX0_notes 81 = .ok (.return_, 1) := dk_177 (dk_at dksX0_notes_3 10 rfl rfl)
abbrev cX0_sees : ByteArray := prog_1_method_66_code
def yX0_sees : MethodName := ⟨RX0, "sees", "(II)V"⟩
def dkwX0_sees_1 : List UInt8 := [180, 1, 214, 4, 100, 181, 1, 214, 177]
abbrev dktX0_sees_1 : List UInt8 := dkwX0_sees_1 ++ []
def dkwX0_sees_0 : List UInt8 := [27, 42, 180, 1, 211, 159, 0, 4, 177, 42, 180, 1, 214, 154, 0, 8, 42, 28, 181, 1, 217, 42, 89]
abbrev dktX0_sees_0 : List UInt8 := dkwX0_sees_0 ++ dktX0_sees_1
theorem dksX0_sees_0 : cX0_sees.data.toList.drop 0 = dktX0_sees_0 := by decide +kernel
theorem dksX0_sees_1 : cX0_sees.data.toList.drop 23 = dktX0_sees_1 := dk_seg dksX0_sees_0 23 rfl rfl
theorem dX0_sees_0 : decode cX0_sees 0 = .ok (.iload_n 1, 1) := dk_27 (dk_at dksX0_sees_0 0 rfl rfl)
theorem dX0_sees_1 : decode cX0_sees 1 = .ok (.aload_n 0, 1) := dk_42 (dk_at dksX0_sees_0 1 rfl rfl)
theorem dX0_sees_2 : decode cX0_sees 2 = .ok (.getfield 467, 3) := dk_180 1 211 (dk_at dksX0_sees_0 2 rfl rfl)
theorem dX0_sees_5 : decode cX0_sees 5 = .ok (.if_icmp .eq 4, 3) := dk_159 0 4 (dk_at dksX0_sees_0 5 rfl rfl)
theorem dX0_sees_8 : decode cX0_sees 8 = .ok (.return_, 1) := dk_177 (dk_at dksX0_sees_0 8 rfl rfl)
theorem dX0_sees_9 : decode cX0_sees 9 = .ok (.aload_n 0, 1) := dk_42 (dk_at dksX0_sees_0 9 rfl rfl)
theorem dX0_sees_10 : decode cX0_sees 10 = .ok (.getfield 470, 3) := dk_180 1 214 (dk_at dksX0_sees_0 10 rfl rfl)
theorem dX0_sees_13 : decode cX0_sees 13 = .ok (.ifCond .ne 8, 3) := dk_154 0 8 (dk_at dksX0_sees_0 13 rfl rfl)
theorem dX0_sees_16 : decode cX0_sees 16 = .ok (.aload_n 0, 1) := dk_42 (dk_at dksX0_sees_0 16 rfl rfl)
theorem dX0_sees_17 : decode cX0_sees 17 = .ok (.iload_n 2, 1) := dk_28 (dk_at dksX0_sees_0 17 rfl rfl)
theorem dX0_sees_18 : decode cX0_sees 18 = .ok (.putfield 473, 3) := dk_181 1 217 (dk_at dksX0_sees_0 18 rfl rfl)
theorem dX0_sees_21 : decode cX0_sees 21 = .ok (.aload_n 0, 1) := dk_42 (dk_at dksX0_sees_0 21 rfl rfl)
theorem dX0_sees_22 : decode cX0_sees 22 = .ok (.dup, 1) := dk_89 (dk_at dksX0_sees_0 22 rfl rfl)
theorem dX0_sees_23 : decode cX0_sees 23 = .ok (.getfield 470, 3) := dk_180 1 214 (dk_at dksX0_sees_1 0 rfl rfl)
theorem dX0_sees_26 : decode cX0_sees 26 = .ok (.iconst 1, 1) := dk_4 (dk_at dksX0_sees_1 3 rfl rfl)
theorem dX0_sees_27 : decode cX0_sees 27 = .ok (.isub, 1) := dk_100 (dk_at dksX0_sees_1 4 rfl rfl)
theorem dX0_sees_28 : decode cX0_sees 28 = .ok (.putfield 470, 3) := dk_181 1 214 (dk_at dksX0_sees_1 5 rfl rfl)
theorem dX0_sees_31 : decode cX0_sees 31 = .ok (.return_, 1) := dk_177 (dk_at dksX0_sees_1 8 rfl rfl)
abbrev cX0_isLate : ByteArray := prog_1_method_51_code
def yX0_isLate : MethodName := ⟨RX0, "isLate", "(I)V"⟩
def dkwX0_isLate_2 : List UInt8 := [42, 5, 27, 182, 1, 149, 177]
abbrev dktX0_isLate_2 : List UInt8 := dkwX0_isLate_2 ++ []
def dkwX0_isLate_1 : List UInt8 := [180, 1, 76, 159, 0, 27, 42, 180, 1, 76, 44, 180, 1, 146, 100, 42, 180, 0, 90, 27, 46, 161, 0, 9]
abbrev dktX0_isLate_1 : List UInt8 := dkwX0_isLate_1 ++ dktX0_isLate_2
def dkwX0_isLate_0 : List UInt8 := [42, 180, 0, 58, 27, 50, 77, 42, 180, 1, 76, 44, 180, 1, 113, 161, 0, 38, 44, 180, 1, 137, 42]
abbrev dktX0_isLate_0 : List UInt8 := dkwX0_isLate_0 ++ dktX0_isLate_1
theorem dksX0_isLate_0 : cX0_isLate.data.toList.drop 0 = dktX0_isLate_0 := by decide +kernel
theorem dksX0_isLate_1 : cX0_isLate.data.toList.drop 23 = dktX0_isLate_1 := dk_seg dksX0_isLate_0 23 rfl rfl
theorem dksX0_isLate_2 : cX0_isLate.data.toList.drop 47 = dktX0_isLate_2 := dk_seg dksX0_isLate_1 24 rfl rfl
theorem dX0_isLate_0 : decode cX0_isLate 0 = .ok (.aload_n 0, 1) := dk_42 (dk_at dksX0_isLate_0 0 rfl rfl)
theorem dX0_isLate_1 : decode cX0_isLate 1 = .ok (.getfield 58, 3) := dk_180 0 58 (dk_at dksX0_isLate_0 1 rfl rfl)
theorem dX0_isLate_4 : decode cX0_isLate 4 = .ok (.iload_n 1, 1) := dk_27 (dk_at dksX0_isLate_0 4 rfl rfl)
theorem dX0_isLate_5 : decode cX0_isLate 5 = .ok (.aaload, 1) := dk_50 (dk_at dksX0_isLate_0 5 rfl rfl)
theorem dX0_isLate_6 : decode cX0_isLate 6 = .ok (.astore_n 2, 1) := dk_77 (dk_at dksX0_isLate_0 6 rfl rfl)
theorem dX0_isLate_7 : decode cX0_isLate 7 = .ok (.aload_n 0, 1) := dk_42 (dk_at dksX0_isLate_0 7 rfl rfl)
theorem dX0_isLate_8 : decode cX0_isLate 8 = .ok (.getfield 332, 3) := dk_180 1 76 (dk_at dksX0_isLate_0 8 rfl rfl)
theorem dX0_isLate_11 : decode cX0_isLate 11 = .ok (.aload_n 2, 1) := dk_44 (dk_at dksX0_isLate_0 11 rfl rfl)
theorem dX0_isLate_12 : decode cX0_isLate 12 = .ok (.getfield 369, 3) := dk_180 1 113 (dk_at dksX0_isLate_0 12 rfl rfl)
theorem dX0_isLate_15 : decode cX0_isLate 15 = .ok (.if_icmp .lt 38, 3) := dk_161 0 38 (dk_at dksX0_isLate_0 15 rfl rfl)
theorem dX0_isLate_18 : decode cX0_isLate 18 = .ok (.aload_n 2, 1) := dk_44 (dk_at dksX0_isLate_0 18 rfl rfl)
theorem dX0_isLate_19 : decode cX0_isLate 19 = .ok (.getfield 393, 3) := dk_180 1 137 (dk_at dksX0_isLate_0 19 rfl rfl)
theorem dX0_isLate_22 : decode cX0_isLate 22 = .ok (.aload_n 0, 1) := dk_42 (dk_at dksX0_isLate_0 22 rfl rfl)
theorem dX0_isLate_23 : decode cX0_isLate 23 = .ok (.getfield 332, 3) := dk_180 1 76 (dk_at dksX0_isLate_1 0 rfl rfl)
theorem dX0_isLate_26 : decode cX0_isLate 26 = .ok (.if_icmp .eq 27, 3) := dk_159 0 27 (dk_at dksX0_isLate_1 3 rfl rfl)
theorem dX0_isLate_29 : decode cX0_isLate 29 = .ok (.aload_n 0, 1) := dk_42 (dk_at dksX0_isLate_1 6 rfl rfl)
theorem dX0_isLate_30 : decode cX0_isLate 30 = .ok (.getfield 332, 3) := dk_180 1 76 (dk_at dksX0_isLate_1 7 rfl rfl)
theorem dX0_isLate_33 : decode cX0_isLate 33 = .ok (.aload_n 2, 1) := dk_44 (dk_at dksX0_isLate_1 10 rfl rfl)
theorem dX0_isLate_34 : decode cX0_isLate 34 = .ok (.getfield 402, 3) := dk_180 1 146 (dk_at dksX0_isLate_1 11 rfl rfl)
theorem dX0_isLate_37 : decode cX0_isLate 37 = .ok (.isub, 1) := dk_100 (dk_at dksX0_isLate_1 14 rfl rfl)
theorem dX0_isLate_38 : decode cX0_isLate 38 = .ok (.aload_n 0, 1) := dk_42 (dk_at dksX0_isLate_1 15 rfl rfl)
theorem dX0_isLate_39 : decode cX0_isLate 39 = .ok (.getfield 90, 3) := dk_180 0 90 (dk_at dksX0_isLate_1 16 rfl rfl)
theorem dX0_isLate_42 : decode cX0_isLate 42 = .ok (.iload_n 1, 1) := dk_27 (dk_at dksX0_isLate_1 19 rfl rfl)
theorem dX0_isLate_43 : decode cX0_isLate 43 = .ok (.iaload, 1) := dk_46 (dk_at dksX0_isLate_1 20 rfl rfl)
theorem dX0_isLate_44 : decode cX0_isLate 44 = .ok (.if_icmp .lt 9, 3) := dk_161 0 9 (dk_at dksX0_isLate_1 21 rfl rfl)
theorem dX0_isLate_47 : decode cX0_isLate 47 = .ok (.aload_n 0, 1) := dk_42 (dk_at dksX0_isLate_2 0 rfl rfl)
theorem dX0_isLate_48 : decode cX0_isLate 48 = .ok (.iconst 2, 1) := dk_5 (dk_at dksX0_isLate_2 1 rfl rfl)
theorem dX0_isLate_49 : decode cX0_isLate 49 = .ok (.iload_n 1, 1) := dk_27 (dk_at dksX0_isLate_2 2 rfl rfl)
theorem dX0_isLate_50 : decode cX0_isLate 50 = .ok (.invokevirtual 405, 3) := dk_182 1 149 (dk_at dksX0_isLate_2 3 rfl rfl)
theorem dX0_isLate_53 : decode cX0_isLate 53 = .ok (.return_, 1) := dk_177 (dk_at dksX0_isLate_2 6 rfl rfl)
abbrev cX0_looks : ByteArray := prog_1_method_53_code
def yX0_looks : MethodName := ⟨RX0, "looks", "()V"⟩
def dkwX0_looks_3 : List UInt8 := [180, 0, 71, 3, 51, 154, 0, 11, 42, 16, 7, 3, 6, 182, 1, 165, 177]
abbrev dktX0_looks_3 : List UInt8 := dkwX0_looks_3 ++ []
def dkwX0_looks_2 : List UInt8 := [42, 27, 182, 1, 163, 132, 1, 255, 167, 255, 212, 42, 180, 0, 10, 180, 0, 209, 158, 0, 20, 42]
abbrev dktX0_looks_2 : List UInt8 := dkwX0_looks_2 ++ dktX0_looks_3
def dkwX0_looks_1 : List UInt8 := [180, 1, 76, 182, 1, 160, 154, 0, 7, 4, 167, 0, 4, 3, 84, 42, 180, 0, 71, 27, 51, 153, 0, 8]
abbrev dktX0_looks_1 : List UInt8 := dkwX0_looks_1 ++ dktX0_looks_2
def dkwX0_looks_0 : List UInt8 := [42, 180, 0, 10, 180, 0, 209, 4, 100, 60, 27, 155, 0, 46, 42, 180, 0, 71, 27, 42, 27, 42]
abbrev dktX0_looks_0 : List UInt8 := dkwX0_looks_0 ++ dktX0_looks_1
theorem dksX0_looks_0 : cX0_looks.data.toList.drop 0 = dktX0_looks_0 := by decide +kernel
theorem dksX0_looks_1 : cX0_looks.data.toList.drop 22 = dktX0_looks_1 := dk_seg dksX0_looks_0 22 rfl rfl
theorem dksX0_looks_2 : cX0_looks.data.toList.drop 46 = dktX0_looks_2 := dk_seg dksX0_looks_1 24 rfl rfl
theorem dksX0_looks_3 : cX0_looks.data.toList.drop 68 = dktX0_looks_3 := dk_seg dksX0_looks_2 22 rfl rfl
theorem dX0_looks_0 : decode cX0_looks 0 = .ok (.aload_n 0, 1) := dk_42 (dk_at dksX0_looks_0 0 rfl rfl)
theorem dX0_looks_1 : decode cX0_looks 1 = .ok (.getfield 10, 3) := dk_180 0 10 (dk_at dksX0_looks_0 1 rfl rfl)
theorem dX0_looks_4 : decode cX0_looks 4 = .ok (.getfield 209, 3) := dk_180 0 209 (dk_at dksX0_looks_0 4 rfl rfl)
theorem dX0_looks_7 : decode cX0_looks 7 = .ok (.iconst 1, 1) := dk_4 (dk_at dksX0_looks_0 7 rfl rfl)
theorem dX0_looks_8 : decode cX0_looks 8 = .ok (.isub, 1) := dk_100 (dk_at dksX0_looks_0 8 rfl rfl)
theorem dX0_looks_9 : decode cX0_looks 9 = .ok (.istore_n 1, 1) := dk_60 (dk_at dksX0_looks_0 9 rfl rfl)
theorem dX0_looks_10 : decode cX0_looks 10 = .ok (.iload_n 1, 1) := dk_27 (dk_at dksX0_looks_0 10 rfl rfl)
theorem dX0_looks_11 : decode cX0_looks 11 = .ok (.ifCond .lt 46, 3) := dk_155 0 46 (dk_at dksX0_looks_0 11 rfl rfl)
theorem dX0_looks_14 : decode cX0_looks 14 = .ok (.aload_n 0, 1) := dk_42 (dk_at dksX0_looks_0 14 rfl rfl)
theorem dX0_looks_15 : decode cX0_looks 15 = .ok (.getfield 71, 3) := dk_180 0 71 (dk_at dksX0_looks_0 15 rfl rfl)
theorem dX0_looks_18 : decode cX0_looks 18 = .ok (.iload_n 1, 1) := dk_27 (dk_at dksX0_looks_0 18 rfl rfl)
theorem dX0_looks_19 : decode cX0_looks 19 = .ok (.aload_n 0, 1) := dk_42 (dk_at dksX0_looks_0 19 rfl rfl)
theorem dX0_looks_20 : decode cX0_looks 20 = .ok (.iload_n 1, 1) := dk_27 (dk_at dksX0_looks_0 20 rfl rfl)
theorem dX0_looks_21 : decode cX0_looks 21 = .ok (.aload_n 0, 1) := dk_42 (dk_at dksX0_looks_0 21 rfl rfl)
theorem dX0_looks_22 : decode cX0_looks 22 = .ok (.getfield 332, 3) := dk_180 1 76 (dk_at dksX0_looks_1 0 rfl rfl)
theorem dX0_looks_25 : decode cX0_looks 25 = .ok (.invokevirtual 416, 3) := dk_182 1 160 (dk_at dksX0_looks_1 3 rfl rfl)
theorem dX0_looks_28 : decode cX0_looks 28 = .ok (.ifCond .ne 7, 3) := dk_154 0 7 (dk_at dksX0_looks_1 6 rfl rfl)
theorem dX0_looks_31 : decode cX0_looks 31 = .ok (.iconst 1, 1) := dk_4 (dk_at dksX0_looks_1 9 rfl rfl)
theorem dX0_looks_32 : decode cX0_looks 32 = .ok (.goto 4, 3) := dk_167 0 4 (dk_at dksX0_looks_1 10 rfl rfl)
theorem dX0_looks_35 : decode cX0_looks 35 = .ok (.iconst 0, 1) := dk_3 (dk_at dksX0_looks_1 13 rfl rfl)
theorem dX0_looks_36 : decode cX0_looks 36 = .ok (.bastore, 1) := dk_84 (dk_at dksX0_looks_1 14 rfl rfl)
theorem dX0_looks_37 : decode cX0_looks 37 = .ok (.aload_n 0, 1) := dk_42 (dk_at dksX0_looks_1 15 rfl rfl)
theorem dX0_looks_38 : decode cX0_looks 38 = .ok (.getfield 71, 3) := dk_180 0 71 (dk_at dksX0_looks_1 16 rfl rfl)
theorem dX0_looks_41 : decode cX0_looks 41 = .ok (.iload_n 1, 1) := dk_27 (dk_at dksX0_looks_1 19 rfl rfl)
theorem dX0_looks_42 : decode cX0_looks 42 = .ok (.baload, 1) := dk_51 (dk_at dksX0_looks_1 20 rfl rfl)
theorem dX0_looks_43 : decode cX0_looks 43 = .ok (.ifCond .eq 8, 3) := dk_153 0 8 (dk_at dksX0_looks_1 21 rfl rfl)
theorem dX0_looks_46 : decode cX0_looks 46 = .ok (.aload_n 0, 1) := dk_42 (dk_at dksX0_looks_2 0 rfl rfl)
theorem dX0_looks_47 : decode cX0_looks 47 = .ok (.iload_n 1, 1) := dk_27 (dk_at dksX0_looks_2 1 rfl rfl)
theorem dX0_looks_48 : decode cX0_looks 48 = .ok (.invokevirtual 419, 3) := dk_182 1 163 (dk_at dksX0_looks_2 2 rfl rfl)
theorem dX0_looks_51 : decode cX0_looks 51 = .ok (.iinc 1 (-1), 3) := dk_132 1 255 (dk_at dksX0_looks_2 5 rfl rfl)
theorem dX0_looks_54 : decode cX0_looks 54 = .ok (.goto (-44), 3) := dk_167 255 212 (dk_at dksX0_looks_2 8 rfl rfl)
theorem dX0_looks_57 : decode cX0_looks 57 = .ok (.aload_n 0, 1) := dk_42 (dk_at dksX0_looks_2 11 rfl rfl)
theorem dX0_looks_58 : decode cX0_looks 58 = .ok (.getfield 10, 3) := dk_180 0 10 (dk_at dksX0_looks_2 12 rfl rfl)
theorem dX0_looks_61 : decode cX0_looks 61 = .ok (.getfield 209, 3) := dk_180 0 209 (dk_at dksX0_looks_2 15 rfl rfl)
theorem dX0_looks_64 : decode cX0_looks 64 = .ok (.ifCond .le 20, 3) := dk_158 0 20 (dk_at dksX0_looks_2 18 rfl rfl)
theorem dX0_looks_67 : decode cX0_looks 67 = .ok (.aload_n 0, 1) := dk_42 (dk_at dksX0_looks_2 21 rfl rfl)
theorem dX0_looks_68 : decode cX0_looks 68 = .ok (.getfield 71, 3) := dk_180 0 71 (dk_at dksX0_looks_3 0 rfl rfl)
theorem dX0_looks_71 : decode cX0_looks 71 = .ok (.iconst 0, 1) := dk_3 (dk_at dksX0_looks_3 3 rfl rfl)
theorem dX0_looks_72 : decode cX0_looks 72 = .ok (.baload, 1) := dk_51 (dk_at dksX0_looks_3 4 rfl rfl)
theorem dX0_looks_73 : decode cX0_looks 73 = .ok (.ifCond .ne 11, 3) := dk_154 0 11 (dk_at dksX0_looks_3 5 rfl rfl)
theorem dX0_looks_76 : decode cX0_looks 76 = .ok (.aload_n 0, 1) := dk_42 (dk_at dksX0_looks_3 8 rfl rfl)
theorem dX0_looks_77 : decode cX0_looks 77 = .ok (.bipush 7, 2) := dk_16 7 (dk_at dksX0_looks_3 9 rfl rfl)
theorem dX0_looks_79 : decode cX0_looks 79 = .ok (.iconst 0, 1) := dk_3 (dk_at dksX0_looks_3 11 rfl rfl)
theorem dX0_looks_80 : decode cX0_looks 80 = .ok (.iconst 3, 1) := dk_6 (dk_at dksX0_looks_3 12 rfl rfl)
theorem dX0_looks_81 : decode cX0_looks 81 = .ok (.invokevirtual 421, 3) := dk_182 1 165 (dk_at dksX0_looks_3 13 rfl rfl)
theorem dX0_looks_84 : decode cX0_looks 84 = .ok (.return_, 1) := dk_177 (dk_at dksX0_looks_3 16 rfl rfl)
abbrev cX0_isAsleep : ByteArray := prog_1_method_52_code
def yX0_isAsleep : MethodName := ⟨RX0, "isAsleep", "(II)Z"⟩
def dkwX0_isAsleep_3 : List UInt8 := [180, 0, 65, 27, 46, 25, 4, 180, 0, 224, 162, 0, 5, 4, 172, 132, 3, 1, 167, 255, 172, 3, 172]
abbrev dktX0_isAsleep_3 : List UInt8 := dkwX0_isAsleep_3 ++ []
def dkwX0_isAsleep_2 : List UInt8 := [160, 0, 37, 25, 4, 180, 0, 221, 27, 160, 0, 28, 25, 4, 180, 0, 224, 28, 163, 0, 19, 42]
abbrev dktX0_isAsleep_2 : List UInt8 := dkwX0_isAsleep_2 ++ dktX0_isAsleep_3
def dkwX0_isAsleep_1 : List UInt8 := [182, 0, 153, 192, 0, 218, 58, 4, 29, 42, 180, 1, 61, 159, 0, 46, 25, 4, 180, 0, 220, 8]
abbrev dktX0_isAsleep_1 : List UInt8 := dkwX0_isAsleep_1 ++ dktX0_isAsleep_2
def dkwX0_isAsleep_0 : List UInt8 := [3, 62, 29, 42, 180, 0, 10, 180, 0, 175, 182, 0, 147, 162, 0, 76, 42, 180, 0, 10, 180, 0, 175, 29]
abbrev dktX0_isAsleep_0 : List UInt8 := dkwX0_isAsleep_0 ++ dktX0_isAsleep_1
theorem dksX0_isAsleep_0 : cX0_isAsleep.data.toList.drop 0 = dktX0_isAsleep_0 := by decide +kernel
theorem dksX0_isAsleep_1 : cX0_isAsleep.data.toList.drop 24 = dktX0_isAsleep_1 := dk_seg dksX0_isAsleep_0 24 rfl rfl
theorem dksX0_isAsleep_2 : cX0_isAsleep.data.toList.drop 46 = dktX0_isAsleep_2 := dk_seg dksX0_isAsleep_1 22 rfl rfl
theorem dksX0_isAsleep_3 : cX0_isAsleep.data.toList.drop 68 = dktX0_isAsleep_3 := dk_seg dksX0_isAsleep_2 22 rfl rfl
theorem dX0_isAsleep_0 : decode cX0_isAsleep 0 = .ok (.iconst 0, 1) := dk_3 (dk_at dksX0_isAsleep_0 0 rfl rfl)
theorem dX0_isAsleep_1 : decode cX0_isAsleep 1 = .ok (.istore_n 3, 1) := dk_62 (dk_at dksX0_isAsleep_0 1 rfl rfl)
theorem dX0_isAsleep_2 : decode cX0_isAsleep 2 = .ok (.iload_n 3, 1) := dk_29 (dk_at dksX0_isAsleep_0 2 rfl rfl)
theorem dX0_isAsleep_3 : decode cX0_isAsleep 3 = .ok (.aload_n 0, 1) := dk_42 (dk_at dksX0_isAsleep_0 3 rfl rfl)
theorem dX0_isAsleep_4 : decode cX0_isAsleep 4 = .ok (.getfield 10, 3) := dk_180 0 10 (dk_at dksX0_isAsleep_0 4 rfl rfl)
theorem dX0_isAsleep_7 : decode cX0_isAsleep 7 = .ok (.getfield 175, 3) := dk_180 0 175 (dk_at dksX0_isAsleep_0 7 rfl rfl)
theorem dX0_isAsleep_10 : decode cX0_isAsleep 10 = .ok (.invokevirtual 147, 3) := dk_182 0 147 (dk_at dksX0_isAsleep_0 10 rfl rfl)
theorem dX0_isAsleep_13 : decode cX0_isAsleep 13 = .ok (.if_icmp .ge 76, 3) := dk_162 0 76 (dk_at dksX0_isAsleep_0 13 rfl rfl)
theorem dX0_isAsleep_16 : decode cX0_isAsleep 16 = .ok (.aload_n 0, 1) := dk_42 (dk_at dksX0_isAsleep_0 16 rfl rfl)
theorem dX0_isAsleep_17 : decode cX0_isAsleep 17 = .ok (.getfield 10, 3) := dk_180 0 10 (dk_at dksX0_isAsleep_0 17 rfl rfl)
theorem dX0_isAsleep_20 : decode cX0_isAsleep 20 = .ok (.getfield 175, 3) := dk_180 0 175 (dk_at dksX0_isAsleep_0 20 rfl rfl)
theorem dX0_isAsleep_23 : decode cX0_isAsleep 23 = .ok (.iload_n 3, 1) := dk_29 (dk_at dksX0_isAsleep_0 23 rfl rfl)
theorem dX0_isAsleep_24 : decode cX0_isAsleep 24 = .ok (.invokevirtual 153, 3) := dk_182 0 153 (dk_at dksX0_isAsleep_1 0 rfl rfl)
theorem dX0_isAsleep_27 : decode cX0_isAsleep 27 = .ok (.checkcast 218, 3) := dk_192 0 218 (dk_at dksX0_isAsleep_1 3 rfl rfl)
theorem dX0_isAsleep_30 : decode cX0_isAsleep 30 = .ok (.astore 4, 2) := dk_58 4 (dk_at dksX0_isAsleep_1 6 rfl rfl)
theorem dX0_isAsleep_32 : decode cX0_isAsleep 32 = .ok (.iload_n 3, 1) := dk_29 (dk_at dksX0_isAsleep_1 8 rfl rfl)
theorem dX0_isAsleep_33 : decode cX0_isAsleep 33 = .ok (.aload_n 0, 1) := dk_42 (dk_at dksX0_isAsleep_1 9 rfl rfl)
theorem dX0_isAsleep_34 : decode cX0_isAsleep 34 = .ok (.getfield 317, 3) := dk_180 1 61 (dk_at dksX0_isAsleep_1 10 rfl rfl)
theorem dX0_isAsleep_37 : decode cX0_isAsleep 37 = .ok (.if_icmp .eq 46, 3) := dk_159 0 46 (dk_at dksX0_isAsleep_1 13 rfl rfl)
theorem dX0_isAsleep_40 : decode cX0_isAsleep 40 = .ok (.aload 4, 2) := dk_25 4 (dk_at dksX0_isAsleep_1 16 rfl rfl)
theorem dX0_isAsleep_42 : decode cX0_isAsleep 42 = .ok (.getfield 220, 3) := dk_180 0 220 (dk_at dksX0_isAsleep_1 18 rfl rfl)
theorem dX0_isAsleep_45 : decode cX0_isAsleep 45 = .ok (.iconst 5, 1) := dk_8 (dk_at dksX0_isAsleep_1 21 rfl rfl)
theorem dX0_isAsleep_46 : decode cX0_isAsleep 46 = .ok (.if_icmp .ne 37, 3) := dk_160 0 37 (dk_at dksX0_isAsleep_2 0 rfl rfl)
theorem dX0_isAsleep_49 : decode cX0_isAsleep 49 = .ok (.aload 4, 2) := dk_25 4 (dk_at dksX0_isAsleep_2 3 rfl rfl)
theorem dX0_isAsleep_51 : decode cX0_isAsleep 51 = .ok (.getfield 221, 3) := dk_180 0 221 (dk_at dksX0_isAsleep_2 5 rfl rfl)
theorem dX0_isAsleep_54 : decode cX0_isAsleep 54 = .ok (.iload_n 1, 1) := dk_27 (dk_at dksX0_isAsleep_2 8 rfl rfl)
theorem dX0_isAsleep_55 : decode cX0_isAsleep 55 = .ok (.if_icmp .ne 28, 3) := dk_160 0 28 (dk_at dksX0_isAsleep_2 9 rfl rfl)
theorem dX0_isAsleep_58 : decode cX0_isAsleep 58 = .ok (.aload 4, 2) := dk_25 4 (dk_at dksX0_isAsleep_2 12 rfl rfl)
theorem dX0_isAsleep_60 : decode cX0_isAsleep 60 = .ok (.getfield 224, 3) := dk_180 0 224 (dk_at dksX0_isAsleep_2 14 rfl rfl)
theorem dX0_isAsleep_63 : decode cX0_isAsleep 63 = .ok (.iload_n 2, 1) := dk_28 (dk_at dksX0_isAsleep_2 17 rfl rfl)
theorem dX0_isAsleep_64 : decode cX0_isAsleep 64 = .ok (.if_icmp .gt 19, 3) := dk_163 0 19 (dk_at dksX0_isAsleep_2 18 rfl rfl)
theorem dX0_isAsleep_67 : decode cX0_isAsleep 67 = .ok (.aload_n 0, 1) := dk_42 (dk_at dksX0_isAsleep_2 21 rfl rfl)
theorem dX0_isAsleep_68 : decode cX0_isAsleep 68 = .ok (.getfield 65, 3) := dk_180 0 65 (dk_at dksX0_isAsleep_3 0 rfl rfl)
theorem dX0_isAsleep_71 : decode cX0_isAsleep 71 = .ok (.iload_n 1, 1) := dk_27 (dk_at dksX0_isAsleep_3 3 rfl rfl)
theorem dX0_isAsleep_72 : decode cX0_isAsleep 72 = .ok (.iaload, 1) := dk_46 (dk_at dksX0_isAsleep_3 4 rfl rfl)
theorem dX0_isAsleep_73 : decode cX0_isAsleep 73 = .ok (.aload 4, 2) := dk_25 4 (dk_at dksX0_isAsleep_3 5 rfl rfl)
theorem dX0_isAsleep_75 : decode cX0_isAsleep 75 = .ok (.getfield 224, 3) := dk_180 0 224 (dk_at dksX0_isAsleep_3 7 rfl rfl)
theorem dX0_isAsleep_78 : decode cX0_isAsleep 78 = .ok (.if_icmp .ge 5, 3) := dk_162 0 5 (dk_at dksX0_isAsleep_3 10 rfl rfl)
theorem dX0_isAsleep_81 : decode cX0_isAsleep 81 = .ok (.iconst 1, 1) := dk_4 (dk_at dksX0_isAsleep_3 13 rfl rfl)
theorem dX0_isAsleep_82 : decode cX0_isAsleep 82 = .ok (.ireturn, 1) := dk_172 (dk_at dksX0_isAsleep_3 14 rfl rfl)
theorem dX0_isAsleep_83 : decode cX0_isAsleep 83 = .ok (.iinc 3 1, 3) := dk_132 3 1 (dk_at dksX0_isAsleep_3 15 rfl rfl)
theorem dX0_isAsleep_86 : decode cX0_isAsleep 86 = .ok (.goto (-84), 3) := dk_167 255 172 (dk_at dksX0_isAsleep_3 18 rfl rfl)
theorem dX0_isAsleep_89 : decode cX0_isAsleep 89 = .ok (.iconst 0, 1) := dk_3 (dk_at dksX0_isAsleep_3 21 rfl rfl)
theorem dX0_isAsleep_90 : decode cX0_isAsleep 90 = .ok (.ireturn, 1) := dk_172 (dk_at dksX0_isAsleep_3 22 rfl rfl)
abbrev cX0_looks_2 : ByteArray := prog_1_method_54_code
def yX0_looks_2 : MethodName := ⟨RX0, "looks", "(I)V"⟩
def dkwX0_looks_2_7 : List UInt8 := [167, 0, 4, 6, 182, 1, 165, 132, 3, 1, 167, 255, 185, 177]
abbrev dktX0_looks_2_7 : List UInt8 := dkwX0_looks_2_7 ++ []
def dkwX0_looks_2_6 : List UInt8 := [180, 0, 68, 29, 92, 46, 4, 96, 79, 42, 16, 6, 29, 42, 180, 0, 68, 29, 46, 4, 160, 0, 7, 5]
abbrev dktX0_looks_2_6 : List UInt8 := dkwX0_looks_2_6 ++ dktX0_looks_2_7
def dkwX0_looks_2_5 : List UInt8 := [180, 0, 212, 29, 46, 27, 160, 0, 47, 42, 180, 0, 71, 29, 51, 153, 0, 6, 167, 0, 35, 42]
abbrev dktX0_looks_2_5 : List UInt8 := dkwX0_looks_2_5 ++ dktX0_looks_2_6
def dkwX0_looks_2_4 : List UInt8 := [167, 255, 180, 27, 4, 96, 62, 29, 42, 180, 0, 10, 180, 0, 209, 162, 0, 66, 42, 180, 0, 10]
abbrev dktX0_looks_2_4 : List UInt8 := dkwX0_looks_2_4 ++ dktX0_looks_2_5
def dkwX0_looks_2_3 : List UInt8 := [42, 29, 182, 0, 178, 180, 0, 197, 133, 184, 0, 116, 154, 0, 9, 42, 8, 29, 182, 1, 149, 132, 3, 1]
abbrev dktX0_looks_2_3 : List UInt8 := dkwX0_looks_2_3 ++ dktX0_looks_2_4
def dkwX0_looks_2_2 : List UInt8 := [25, 4, 180, 1, 113, 28, 163, 0, 39, 25, 4, 180, 1, 107, 133, 42, 29, 182, 0, 178, 180, 0, 194, 133]
abbrev dktX0_looks_2_2 : List UInt8 := dkwX0_looks_2_2 ++ dktX0_looks_2_3
def dkwX0_looks_2_1 : List UInt8 := [162, 0, 74, 42, 180, 0, 58, 29, 50, 58, 4, 42, 29, 182, 0, 178, 180, 0, 182, 27, 160, 0, 48]
abbrev dktX0_looks_2_1 : List UInt8 := dkwX0_looks_2_1 ++ dktX0_looks_2_2
def dkwX0_looks_2_0 : List UInt8 := [42, 180, 1, 76, 4, 96, 42, 180, 0, 10, 180, 1, 11, 100, 61, 3, 62, 29, 42, 182, 0, 159]
abbrev dktX0_looks_2_0 : List UInt8 := dkwX0_looks_2_0 ++ dktX0_looks_2_1
theorem dksX0_looks_2_0 : cX0_looks_2.data.toList.drop 0 = dktX0_looks_2_0 := by decide +kernel
theorem dksX0_looks_2_1 : cX0_looks_2.data.toList.drop 22 = dktX0_looks_2_1 := dk_seg dksX0_looks_2_0 22 rfl rfl
theorem dksX0_looks_2_2 : cX0_looks_2.data.toList.drop 45 = dktX0_looks_2_2 := dk_seg dksX0_looks_2_1 23 rfl rfl
theorem dksX0_looks_2_3 : cX0_looks_2.data.toList.drop 69 = dktX0_looks_2_3 := dk_seg dksX0_looks_2_2 24 rfl rfl
theorem dksX0_looks_2_4 : cX0_looks_2.data.toList.drop 93 = dktX0_looks_2_4 := dk_seg dksX0_looks_2_3 24 rfl rfl
theorem dksX0_looks_2_5 : cX0_looks_2.data.toList.drop 115 = dktX0_looks_2_5 := dk_seg dksX0_looks_2_4 22 rfl rfl
theorem dksX0_looks_2_6 : cX0_looks_2.data.toList.drop 137 = dktX0_looks_2_6 := dk_seg dksX0_looks_2_5 22 rfl rfl
theorem dksX0_looks_2_7 : cX0_looks_2.data.toList.drop 161 = dktX0_looks_2_7 := dk_seg dksX0_looks_2_6 24 rfl rfl
theorem dX0_looks_2_0 : decode cX0_looks_2 0 = .ok (.aload_n 0, 1) := dk_42 (dk_at dksX0_looks_2_0 0 rfl rfl)
theorem dX0_looks_2_1 : decode cX0_looks_2 1 = .ok (.getfield 332, 3) := dk_180 1 76 (dk_at dksX0_looks_2_0 1 rfl rfl)
theorem dX0_looks_2_4 : decode cX0_looks_2 4 = .ok (.iconst 1, 1) := dk_4 (dk_at dksX0_looks_2_0 4 rfl rfl)
theorem dX0_looks_2_5 : decode cX0_looks_2 5 = .ok (.iadd, 1) := dk_96 (dk_at dksX0_looks_2_0 5 rfl rfl)
theorem dX0_looks_2_6 : decode cX0_looks_2 6 = .ok (.aload_n 0, 1) := dk_42 (dk_at dksX0_looks_2_0 6 rfl rfl)
theorem dX0_looks_2_7 : decode cX0_looks_2 7 = .ok (.getfield 10, 3) := dk_180 0 10 (dk_at dksX0_looks_2_0 7 rfl rfl)
theorem dX0_looks_2_10 : decode cX0_looks_2 10 = .ok (.getfield 267, 3) := dk_180 1 11 (dk_at dksX0_looks_2_0 10 rfl rfl)
theorem dX0_looks_2_13 : decode cX0_looks_2 13 = .ok (.isub, 1) := dk_100 (dk_at dksX0_looks_2_0 13 rfl rfl)
theorem dX0_looks_2_14 : decode cX0_looks_2 14 = .ok (.istore_n 2, 1) := dk_61 (dk_at dksX0_looks_2_0 14 rfl rfl)
theorem dX0_looks_2_15 : decode cX0_looks_2 15 = .ok (.iconst 0, 1) := dk_3 (dk_at dksX0_looks_2_0 15 rfl rfl)
theorem dX0_looks_2_16 : decode cX0_looks_2 16 = .ok (.istore_n 3, 1) := dk_62 (dk_at dksX0_looks_2_0 16 rfl rfl)
theorem dX0_looks_2_17 : decode cX0_looks_2 17 = .ok (.iload_n 3, 1) := dk_29 (dk_at dksX0_looks_2_0 17 rfl rfl)
theorem dX0_looks_2_18 : decode cX0_looks_2 18 = .ok (.aload_n 0, 1) := dk_42 (dk_at dksX0_looks_2_0 18 rfl rfl)
theorem dX0_looks_2_19 : decode cX0_looks_2 19 = .ok (.invokevirtual 159, 3) := dk_182 0 159 (dk_at dksX0_looks_2_0 19 rfl rfl)
theorem dX0_looks_2_22 : decode cX0_looks_2 22 = .ok (.if_icmp .ge 74, 3) := dk_162 0 74 (dk_at dksX0_looks_2_1 0 rfl rfl)
theorem dX0_looks_2_25 : decode cX0_looks_2 25 = .ok (.aload_n 0, 1) := dk_42 (dk_at dksX0_looks_2_1 3 rfl rfl)
theorem dX0_looks_2_26 : decode cX0_looks_2 26 = .ok (.getfield 58, 3) := dk_180 0 58 (dk_at dksX0_looks_2_1 4 rfl rfl)
theorem dX0_looks_2_29 : decode cX0_looks_2 29 = .ok (.iload_n 3, 1) := dk_29 (dk_at dksX0_looks_2_1 7 rfl rfl)
theorem dX0_looks_2_30 : decode cX0_looks_2 30 = .ok (.aaload, 1) := dk_50 (dk_at dksX0_looks_2_1 8 rfl rfl)
theorem dX0_looks_2_31 : decode cX0_looks_2 31 = .ok (.astore 4, 2) := dk_58 4 (dk_at dksX0_looks_2_1 9 rfl rfl)
theorem dX0_looks_2_33 : decode cX0_looks_2 33 = .ok (.aload_n 0, 1) := dk_42 (dk_at dksX0_looks_2_1 11 rfl rfl)
theorem dX0_looks_2_34 : decode cX0_looks_2 34 = .ok (.iload_n 3, 1) := dk_29 (dk_at dksX0_looks_2_1 12 rfl rfl)
theorem dX0_looks_2_35 : decode cX0_looks_2 35 = .ok (.invokevirtual 178, 3) := dk_182 0 178 (dk_at dksX0_looks_2_1 13 rfl rfl)
theorem dX0_looks_2_38 : decode cX0_looks_2 38 = .ok (.getfield 182, 3) := dk_180 0 182 (dk_at dksX0_looks_2_1 16 rfl rfl)
theorem dX0_looks_2_41 : decode cX0_looks_2 41 = .ok (.iload_n 1, 1) := dk_27 (dk_at dksX0_looks_2_1 19 rfl rfl)
theorem dX0_looks_2_42 : decode cX0_looks_2 42 = .ok (.if_icmp .ne 48, 3) := dk_160 0 48 (dk_at dksX0_looks_2_1 20 rfl rfl)
theorem dX0_looks_2_45 : decode cX0_looks_2 45 = .ok (.aload 4, 2) := dk_25 4 (dk_at dksX0_looks_2_2 0 rfl rfl)
theorem dX0_looks_2_47 : decode cX0_looks_2 47 = .ok (.getfield 369, 3) := dk_180 1 113 (dk_at dksX0_looks_2_2 2 rfl rfl)
theorem dX0_looks_2_50 : decode cX0_looks_2 50 = .ok (.iload_n 2, 1) := dk_28 (dk_at dksX0_looks_2_2 5 rfl rfl)
theorem dX0_looks_2_51 : decode cX0_looks_2 51 = .ok (.if_icmp .gt 39, 3) := dk_163 0 39 (dk_at dksX0_looks_2_2 6 rfl rfl)
theorem dX0_looks_2_54 : decode cX0_looks_2 54 = .ok (.aload 4, 2) := dk_25 4 (dk_at dksX0_looks_2_2 9 rfl rfl)
theorem dX0_looks_2_56 : decode cX0_looks_2 56 = .ok (.getfield 363, 3) := dk_180 1 107 (dk_at dksX0_looks_2_2 11 rfl rfl)
theorem dX0_looks_2_59 : decode cX0_looks_2 59 = .ok (.i2l, 1) := dk_133 (dk_at dksX0_looks_2_2 14 rfl rfl)
theorem dX0_looks_2_60 : decode cX0_looks_2 60 = .ok (.aload_n 0, 1) := dk_42 (dk_at dksX0_looks_2_2 15 rfl rfl)
theorem dX0_looks_2_61 : decode cX0_looks_2 61 = .ok (.iload_n 3, 1) := dk_29 (dk_at dksX0_looks_2_2 16 rfl rfl)
theorem dX0_looks_2_62 : decode cX0_looks_2 62 = .ok (.invokevirtual 178, 3) := dk_182 0 178 (dk_at dksX0_looks_2_2 17 rfl rfl)
theorem dX0_looks_2_65 : decode cX0_looks_2 65 = .ok (.getfield 194, 3) := dk_180 0 194 (dk_at dksX0_looks_2_2 20 rfl rfl)
theorem dX0_looks_2_68 : decode cX0_looks_2 68 = .ok (.i2l, 1) := dk_133 (dk_at dksX0_looks_2_2 23 rfl rfl)
theorem dX0_looks_2_69 : decode cX0_looks_2 69 = .ok (.aload_n 0, 1) := dk_42 (dk_at dksX0_looks_2_3 0 rfl rfl)
theorem dX0_looks_2_70 : decode cX0_looks_2 70 = .ok (.iload_n 3, 1) := dk_29 (dk_at dksX0_looks_2_3 1 rfl rfl)
theorem dX0_looks_2_71 : decode cX0_looks_2 71 = .ok (.invokevirtual 178, 3) := dk_182 0 178 (dk_at dksX0_looks_2_3 2 rfl rfl)
theorem dX0_looks_2_74 : decode cX0_looks_2 74 = .ok (.getfield 197, 3) := dk_180 0 197 (dk_at dksX0_looks_2_3 5 rfl rfl)
theorem dX0_looks_2_77 : decode cX0_looks_2 77 = .ok (.i2l, 1) := dk_133 (dk_at dksX0_looks_2_3 8 rfl rfl)
theorem dX0_looks_2_78 : decode cX0_looks_2 78 = .ok (.invokestatic 116, 3) := dk_184 0 116 (dk_at dksX0_looks_2_3 9 rfl rfl)
theorem dX0_looks_2_81 : decode cX0_looks_2 81 = .ok (.ifCond .ne 9, 3) := dk_154 0 9 (dk_at dksX0_looks_2_3 12 rfl rfl)
theorem dX0_looks_2_84 : decode cX0_looks_2 84 = .ok (.aload_n 0, 1) := dk_42 (dk_at dksX0_looks_2_3 15 rfl rfl)
theorem dX0_looks_2_85 : decode cX0_looks_2 85 = .ok (.iconst 5, 1) := dk_8 (dk_at dksX0_looks_2_3 16 rfl rfl)
theorem dX0_looks_2_86 : decode cX0_looks_2 86 = .ok (.iload_n 3, 1) := dk_29 (dk_at dksX0_looks_2_3 17 rfl rfl)
theorem dX0_looks_2_87 : decode cX0_looks_2 87 = .ok (.invokevirtual 405, 3) := dk_182 1 149 (dk_at dksX0_looks_2_3 18 rfl rfl)
theorem dX0_looks_2_90 : decode cX0_looks_2 90 = .ok (.iinc 3 1, 3) := dk_132 3 1 (dk_at dksX0_looks_2_3 21 rfl rfl)
theorem dX0_looks_2_93 : decode cX0_looks_2 93 = .ok (.goto (-76), 3) := dk_167 255 180 (dk_at dksX0_looks_2_4 0 rfl rfl)
theorem dX0_looks_2_96 : decode cX0_looks_2 96 = .ok (.iload_n 1, 1) := dk_27 (dk_at dksX0_looks_2_4 3 rfl rfl)
theorem dX0_looks_2_97 : decode cX0_looks_2 97 = .ok (.iconst 1, 1) := dk_4 (dk_at dksX0_looks_2_4 4 rfl rfl)
theorem dX0_looks_2_98 : decode cX0_looks_2 98 = .ok (.iadd, 1) := dk_96 (dk_at dksX0_looks_2_4 5 rfl rfl)
theorem dX0_looks_2_99 : decode cX0_looks_2 99 = .ok (.istore_n 3, 1) := dk_62 (dk_at dksX0_looks_2_4 6 rfl rfl)
theorem dX0_looks_2_100 : decode cX0_looks_2 100 = .ok (.iload_n 3, 1) := dk_29 (dk_at dksX0_looks_2_4 7 rfl rfl)
theorem dX0_looks_2_101 : decode cX0_looks_2 101 = .ok (.aload_n 0, 1) := dk_42 (dk_at dksX0_looks_2_4 8 rfl rfl)
theorem dX0_looks_2_102 : decode cX0_looks_2 102 = .ok (.getfield 10, 3) := dk_180 0 10 (dk_at dksX0_looks_2_4 9 rfl rfl)
theorem dX0_looks_2_105 : decode cX0_looks_2 105 = .ok (.getfield 209, 3) := dk_180 0 209 (dk_at dksX0_looks_2_4 12 rfl rfl)
theorem dX0_looks_2_108 : decode cX0_looks_2 108 = .ok (.if_icmp .ge 66, 3) := dk_162 0 66 (dk_at dksX0_looks_2_4 15 rfl rfl)
theorem dX0_looks_2_111 : decode cX0_looks_2 111 = .ok (.aload_n 0, 1) := dk_42 (dk_at dksX0_looks_2_4 18 rfl rfl)
theorem dX0_looks_2_112 : decode cX0_looks_2 112 = .ok (.getfield 10, 3) := dk_180 0 10 (dk_at dksX0_looks_2_4 19 rfl rfl)
theorem dX0_looks_2_115 : decode cX0_looks_2 115 = .ok (.getfield 212, 3) := dk_180 0 212 (dk_at dksX0_looks_2_5 0 rfl rfl)
theorem dX0_looks_2_118 : decode cX0_looks_2 118 = .ok (.iload_n 3, 1) := dk_29 (dk_at dksX0_looks_2_5 3 rfl rfl)
theorem dX0_looks_2_119 : decode cX0_looks_2 119 = .ok (.iaload, 1) := dk_46 (dk_at dksX0_looks_2_5 4 rfl rfl)
theorem dX0_looks_2_120 : decode cX0_looks_2 120 = .ok (.iload_n 1, 1) := dk_27 (dk_at dksX0_looks_2_5 5 rfl rfl)
theorem dX0_looks_2_121 : decode cX0_looks_2 121 = .ok (.if_icmp .ne 47, 3) := dk_160 0 47 (dk_at dksX0_looks_2_5 6 rfl rfl)
theorem dX0_looks_2_124 : decode cX0_looks_2 124 = .ok (.aload_n 0, 1) := dk_42 (dk_at dksX0_looks_2_5 9 rfl rfl)
theorem dX0_looks_2_125 : decode cX0_looks_2 125 = .ok (.getfield 71, 3) := dk_180 0 71 (dk_at dksX0_looks_2_5 10 rfl rfl)
theorem dX0_looks_2_128 : decode cX0_looks_2 128 = .ok (.iload_n 3, 1) := dk_29 (dk_at dksX0_looks_2_5 13 rfl rfl)
theorem dX0_looks_2_129 : decode cX0_looks_2 129 = .ok (.baload, 1) := dk_51 (dk_at dksX0_looks_2_5 14 rfl rfl)
theorem dX0_looks_2_130 : decode cX0_looks_2 130 = .ok (.ifCond .eq 6, 3) := dk_153 0 6 (dk_at dksX0_looks_2_5 15 rfl rfl)
theorem dX0_looks_2_133 : decode cX0_looks_2 133 = .ok (.goto 35, 3) := dk_167 0 35 (dk_at dksX0_looks_2_5 18 rfl rfl)
theorem dX0_looks_2_136 : decode cX0_looks_2 136 = .ok (.aload_n 0, 1) := dk_42 (dk_at dksX0_looks_2_5 21 rfl rfl)
theorem dX0_looks_2_137 : decode cX0_looks_2 137 = .ok (.getfield 68, 3) := dk_180 0 68 (dk_at dksX0_looks_2_6 0 rfl rfl)
theorem dX0_looks_2_140 : decode cX0_looks_2 140 = .ok (.iload_n 3, 1) := dk_29 (dk_at dksX0_looks_2_6 3 rfl rfl)
theorem dX0_looks_2_141 : decode cX0_looks_2 141 = .ok (.dup2, 1) := dk_92 (dk_at dksX0_looks_2_6 4 rfl rfl)
theorem dX0_looks_2_142 : decode cX0_looks_2 142 = .ok (.iaload, 1) := dk_46 (dk_at dksX0_looks_2_6 5 rfl rfl)
theorem dX0_looks_2_143 : decode cX0_looks_2 143 = .ok (.iconst 1, 1) := dk_4 (dk_at dksX0_looks_2_6 6 rfl rfl)
theorem dX0_looks_2_144 : decode cX0_looks_2 144 = .ok (.iadd, 1) := dk_96 (dk_at dksX0_looks_2_6 7 rfl rfl)
theorem dX0_looks_2_145 : decode cX0_looks_2 145 = .ok (.iastore, 1) := dk_79 (dk_at dksX0_looks_2_6 8 rfl rfl)
theorem dX0_looks_2_146 : decode cX0_looks_2 146 = .ok (.aload_n 0, 1) := dk_42 (dk_at dksX0_looks_2_6 9 rfl rfl)
theorem dX0_looks_2_147 : decode cX0_looks_2 147 = .ok (.bipush 6, 2) := dk_16 6 (dk_at dksX0_looks_2_6 10 rfl rfl)
theorem dX0_looks_2_149 : decode cX0_looks_2 149 = .ok (.iload_n 3, 1) := dk_29 (dk_at dksX0_looks_2_6 12 rfl rfl)
theorem dX0_looks_2_150 : decode cX0_looks_2 150 = .ok (.aload_n 0, 1) := dk_42 (dk_at dksX0_looks_2_6 13 rfl rfl)
theorem dX0_looks_2_151 : decode cX0_looks_2 151 = .ok (.getfield 68, 3) := dk_180 0 68 (dk_at dksX0_looks_2_6 14 rfl rfl)
theorem dX0_looks_2_154 : decode cX0_looks_2 154 = .ok (.iload_n 3, 1) := dk_29 (dk_at dksX0_looks_2_6 17 rfl rfl)
theorem dX0_looks_2_155 : decode cX0_looks_2 155 = .ok (.iaload, 1) := dk_46 (dk_at dksX0_looks_2_6 18 rfl rfl)
theorem dX0_looks_2_156 : decode cX0_looks_2 156 = .ok (.iconst 1, 1) := dk_4 (dk_at dksX0_looks_2_6 19 rfl rfl)
theorem dX0_looks_2_157 : decode cX0_looks_2 157 = .ok (.if_icmp .ne 7, 3) := dk_160 0 7 (dk_at dksX0_looks_2_6 20 rfl rfl)
theorem dX0_looks_2_160 : decode cX0_looks_2 160 = .ok (.iconst 2, 1) := dk_5 (dk_at dksX0_looks_2_6 23 rfl rfl)
theorem dX0_looks_2_161 : decode cX0_looks_2 161 = .ok (.goto 4, 3) := dk_167 0 4 (dk_at dksX0_looks_2_7 0 rfl rfl)
theorem dX0_looks_2_164 : decode cX0_looks_2 164 = .ok (.iconst 3, 1) := dk_6 (dk_at dksX0_looks_2_7 3 rfl rfl)
theorem dX0_looks_2_165 : decode cX0_looks_2 165 = .ok (.invokevirtual 421, 3) := dk_182 1 165 (dk_at dksX0_looks_2_7 4 rfl rfl)
theorem dX0_looks_2_168 : decode cX0_looks_2 168 = .ok (.iinc 3 1, 3) := dk_132 3 1 (dk_at dksX0_looks_2_7 7 rfl rfl)
theorem dX0_looks_2_171 : decode cX0_looks_2 171 = .ok (.goto (-71), 3) := dk_167 255 185 (dk_at dksX0_looks_2_7 10 rfl rfl)
theorem dX0_looks_2_174 : decode cX0_looks_2 174 = .ok (.return_, 1) := dk_177 (dk_at dksX0_looks_2_7 13 rfl rfl)
abbrev cX0_ends : ByteArray := prog_1_method_44_code
def yX0_ends : MethodName := ⟨RX0, "ends", "(LWatchStack$Life;)V"⟩
def dkwX0_ends_0 : List UInt8 := [42, 3, 181, 1, 104, 42, 3, 181, 1, 107, 177]
abbrev dktX0_ends_0 : List UInt8 := dkwX0_ends_0 ++ []
theorem dksX0_ends_0 : cX0_ends.data.toList.drop 0 = dktX0_ends_0 := by decide +kernel
theorem dX0_ends_0 : decode cX0_ends 0 = .ok (.aload_n 0, 1) := dk_42 (dk_at dksX0_ends_0 0 rfl rfl)
theorem dX0_ends_1 : decode cX0_ends 1 = .ok (.iconst 0, 1) := dk_3 (dk_at dksX0_ends_0 1 rfl rfl)
theorem dX0_ends_2 : decode cX0_ends 2 = .ok (.putfield 360, 3) := dk_181 1 104 (dk_at dksX0_ends_0 2 rfl rfl)
theorem dX0_ends_5 : decode cX0_ends 5 = .ok (.aload_n 0, 1) := dk_42 (dk_at dksX0_ends_0 5 rfl rfl)
theorem dX0_ends_6 : decode cX0_ends 6 = .ok (.iconst 0, 1) := dk_3 (dk_at dksX0_ends_0 6 rfl rfl)
theorem dX0_ends_7 : decode cX0_ends 7 = .ok (.putfield 363, 3) := dk_181 1 107 (dk_at dksX0_ends_0 7 rfl rfl)
theorem dX0_ends_10 : decode cX0_ends 10 = .ok (.return_, 1) := dk_177 (dk_at dksX0_ends_0 10 rfl rfl)
abbrev cX0_idle : ByteArray := prog_1_method_61_code
def yX0_idle : MethodName := ⟨RX0, "idle", "(I)I"⟩
def dkwX0_idle_2 : List UInt8 := [167, 255, 230, 28, 172]
abbrev dktX0_idle_2 : List UInt8 := dkwX0_idle_2 ++ []
def dkwX0_idle_1 : List UInt8 := [162, 0, 27, 28, 42, 180, 0, 62, 29, 46, 2, 160, 0, 7, 4, 167, 0, 4, 3, 96, 61, 132, 3, 1]
abbrev dktX0_idle_1 : List UInt8 := dkwX0_idle_1 ++ dktX0_idle_2
def dkwX0_idle_0 : List UInt8 := [42, 27, 182, 0, 172, 154, 0, 6, 16, 254, 172, 42, 27, 2, 182, 1, 189, 3, 61, 3, 62, 29, 27]
abbrev dktX0_idle_0 : List UInt8 := dkwX0_idle_0 ++ dktX0_idle_1
theorem dksX0_idle_0 : cX0_idle.data.toList.drop 0 = dktX0_idle_0 := by decide +kernel
theorem dksX0_idle_1 : cX0_idle.data.toList.drop 23 = dktX0_idle_1 := dk_seg dksX0_idle_0 23 rfl rfl
theorem dksX0_idle_2 : cX0_idle.data.toList.drop 47 = dktX0_idle_2 := dk_seg dksX0_idle_1 24 rfl rfl
theorem dX0_idle_0 : decode cX0_idle 0 = .ok (.aload_n 0, 1) := dk_42 (dk_at dksX0_idle_0 0 rfl rfl)
theorem dX0_idle_1 : decode cX0_idle 1 = .ok (.iload_n 1, 1) := dk_27 (dk_at dksX0_idle_0 1 rfl rfl)
theorem dX0_idle_2 : decode cX0_idle 2 = .ok (.invokevirtual 172, 3) := dk_182 0 172 (dk_at dksX0_idle_0 2 rfl rfl)
theorem dX0_idle_5 : decode cX0_idle 5 = .ok (.ifCond .ne 6, 3) := dk_154 0 6 (dk_at dksX0_idle_0 5 rfl rfl)
theorem dX0_idle_8 : decode cX0_idle 8 = .ok (.bipush (-2), 2) := dk_16 254 (dk_at dksX0_idle_0 8 rfl rfl)
theorem dX0_idle_10 : decode cX0_idle 10 = .ok (.ireturn, 1) := dk_172 (dk_at dksX0_idle_0 10 rfl rfl)
theorem dX0_idle_11 : decode cX0_idle 11 = .ok (.aload_n 0, 1) := dk_42 (dk_at dksX0_idle_0 11 rfl rfl)
theorem dX0_idle_12 : decode cX0_idle 12 = .ok (.iload_n 1, 1) := dk_27 (dk_at dksX0_idle_0 12 rfl rfl)
theorem dX0_idle_13 : decode cX0_idle 13 = .ok (.iconst (-1), 1) := dk_2 (dk_at dksX0_idle_0 13 rfl rfl)
theorem dX0_idle_14 : decode cX0_idle 14 = .ok (.invokevirtual 445, 3) := dk_182 1 189 (dk_at dksX0_idle_0 14 rfl rfl)
theorem dX0_idle_17 : decode cX0_idle 17 = .ok (.iconst 0, 1) := dk_3 (dk_at dksX0_idle_0 17 rfl rfl)
theorem dX0_idle_18 : decode cX0_idle 18 = .ok (.istore_n 2, 1) := dk_61 (dk_at dksX0_idle_0 18 rfl rfl)
theorem dX0_idle_19 : decode cX0_idle 19 = .ok (.iconst 0, 1) := dk_3 (dk_at dksX0_idle_0 19 rfl rfl)
theorem dX0_idle_20 : decode cX0_idle 20 = .ok (.istore_n 3, 1) := dk_62 (dk_at dksX0_idle_0 20 rfl rfl)
theorem dX0_idle_21 : decode cX0_idle 21 = .ok (.iload_n 3, 1) := dk_29 (dk_at dksX0_idle_0 21 rfl rfl)
theorem dX0_idle_22 : decode cX0_idle 22 = .ok (.iload_n 1, 1) := dk_27 (dk_at dksX0_idle_0 22 rfl rfl)
theorem dX0_idle_23 : decode cX0_idle 23 = .ok (.if_icmp .ge 27, 3) := dk_162 0 27 (dk_at dksX0_idle_1 0 rfl rfl)
theorem dX0_idle_26 : decode cX0_idle 26 = .ok (.iload_n 2, 1) := dk_28 (dk_at dksX0_idle_1 3 rfl rfl)
theorem dX0_idle_27 : decode cX0_idle 27 = .ok (.aload_n 0, 1) := dk_42 (dk_at dksX0_idle_1 4 rfl rfl)
theorem dX0_idle_28 : decode cX0_idle 28 = .ok (.getfield 62, 3) := dk_180 0 62 (dk_at dksX0_idle_1 5 rfl rfl)
theorem dX0_idle_31 : decode cX0_idle 31 = .ok (.iload_n 3, 1) := dk_29 (dk_at dksX0_idle_1 8 rfl rfl)
theorem dX0_idle_32 : decode cX0_idle 32 = .ok (.iaload, 1) := dk_46 (dk_at dksX0_idle_1 9 rfl rfl)
theorem dX0_idle_33 : decode cX0_idle 33 = .ok (.iconst (-1), 1) := dk_2 (dk_at dksX0_idle_1 10 rfl rfl)
theorem dX0_idle_34 : decode cX0_idle 34 = .ok (.if_icmp .ne 7, 3) := dk_160 0 7 (dk_at dksX0_idle_1 11 rfl rfl)
theorem dX0_idle_37 : decode cX0_idle 37 = .ok (.iconst 1, 1) := dk_4 (dk_at dksX0_idle_1 14 rfl rfl)
theorem dX0_idle_38 : decode cX0_idle 38 = .ok (.goto 4, 3) := dk_167 0 4 (dk_at dksX0_idle_1 15 rfl rfl)
theorem dX0_idle_41 : decode cX0_idle 41 = .ok (.iconst 0, 1) := dk_3 (dk_at dksX0_idle_1 18 rfl rfl)
theorem dX0_idle_42 : decode cX0_idle 42 = .ok (.iadd, 1) := dk_96 (dk_at dksX0_idle_1 19 rfl rfl)
theorem dX0_idle_43 : decode cX0_idle 43 = .ok (.istore_n 2, 1) := dk_61 (dk_at dksX0_idle_1 20 rfl rfl)
theorem dX0_idle_44 : decode cX0_idle 44 = .ok (.iinc 3 1, 3) := dk_132 3 1 (dk_at dksX0_idle_1 21 rfl rfl)
theorem dX0_idle_47 : decode cX0_idle 47 = .ok (.goto (-26), 3) := dk_167 255 230 (dk_at dksX0_idle_2 0 rfl rfl)
theorem dX0_idle_50 : decode cX0_idle 50 = .ok (.iload_n 2, 1) := dk_28 (dk_at dksX0_idle_2 3 rfl rfl)
theorem dX0_idle_51 : decode cX0_idle 51 = .ok (.ireturn, 1) := dk_172 (dk_at dksX0_idle_2 4 rfl rfl)
abbrev cX0_isTick : ByteArray := prog_1_method_11_code
def yX0_isTick : MethodName := ⟨RX0, "isTick", "(I)Z"⟩
def dkwX0_isTick_1 : List UInt8 := [153, 0, 7, 4, 167, 0, 4, 3, 172]
abbrev dktX0_isTick_1 : List UInt8 := dkwX0_isTick_1 ++ []
def dkwX0_isTick_0 : List UInt8 := [42, 180, 0, 10, 182, 0, 161, 153, 0, 24, 27, 133, 9, 42, 180, 0, 10, 180, 0, 165, 133, 184, 0, 116]
abbrev dktX0_isTick_0 : List UInt8 := dkwX0_isTick_0 ++ dktX0_isTick_1
theorem dksX0_isTick_0 : cX0_isTick.data.toList.drop 0 = dktX0_isTick_0 := by decide +kernel
theorem dksX0_isTick_1 : cX0_isTick.data.toList.drop 24 = dktX0_isTick_1 := dk_seg dksX0_isTick_0 24 rfl rfl
theorem dX0_isTick_0 : decode cX0_isTick 0 = .ok (.aload_n 0, 1) := dk_42 (dk_at dksX0_isTick_0 0 rfl rfl)
theorem dX0_isTick_1 : decode cX0_isTick 1 = .ok (.getfield 10, 3) := dk_180 0 10 (dk_at dksX0_isTick_0 1 rfl rfl)
theorem dX0_isTick_4 : decode cX0_isTick 4 = .ok (.invokevirtual 161, 3) := dk_182 0 161 (dk_at dksX0_isTick_0 4 rfl rfl)
theorem dX0_isTick_7 : decode cX0_isTick 7 = .ok (.ifCond .eq 24, 3) := dk_153 0 24 (dk_at dksX0_isTick_0 7 rfl rfl)
theorem dX0_isTick_10 : decode cX0_isTick 10 = .ok (.iload_n 1, 1) := dk_27 (dk_at dksX0_isTick_0 10 rfl rfl)
theorem dX0_isTick_11 : decode cX0_isTick 11 = .ok (.i2l, 1) := dk_133 (dk_at dksX0_isTick_0 11 rfl rfl)
theorem dX0_isTick_12 : decode cX0_isTick 12 = .ok (.lconst 0, 1) := dk_9 (dk_at dksX0_isTick_0 12 rfl rfl)
theorem dX0_isTick_13 : decode cX0_isTick 13 = .ok (.aload_n 0, 1) := dk_42 (dk_at dksX0_isTick_0 13 rfl rfl)
theorem dX0_isTick_14 : decode cX0_isTick 14 = .ok (.getfield 10, 3) := dk_180 0 10 (dk_at dksX0_isTick_0 14 rfl rfl)
theorem dX0_isTick_17 : decode cX0_isTick 17 = .ok (.getfield 165, 3) := dk_180 0 165 (dk_at dksX0_isTick_0 17 rfl rfl)
theorem dX0_isTick_20 : decode cX0_isTick 20 = .ok (.i2l, 1) := dk_133 (dk_at dksX0_isTick_0 20 rfl rfl)
theorem dX0_isTick_21 : decode cX0_isTick 21 = .ok (.invokestatic 116, 3) := dk_184 0 116 (dk_at dksX0_isTick_0 21 rfl rfl)
theorem dX0_isTick_24 : decode cX0_isTick 24 = .ok (.ifCond .eq 7, 3) := dk_153 0 7 (dk_at dksX0_isTick_1 0 rfl rfl)
theorem dX0_isTick_27 : decode cX0_isTick 27 = .ok (.iconst 1, 1) := dk_4 (dk_at dksX0_isTick_1 3 rfl rfl)
theorem dX0_isTick_28 : decode cX0_isTick 28 = .ok (.goto 4, 3) := dk_167 0 4 (dk_at dksX0_isTick_1 4 rfl rfl)
theorem dX0_isTick_31 : decode cX0_isTick 31 = .ok (.iconst 0, 1) := dk_3 (dk_at dksX0_isTick_1 7 rfl rfl)
theorem dX0_isTick_32 : decode cX0_isTick 32 = .ok (.ireturn, 1) := dk_172 (dk_at dksX0_isTick_1 8 rfl rfl)
abbrev cX0_kicks_2 : ByteArray := prog_1_method_62_code
def yX0_kicks_2 : MethodName := ⟨RX0, "kicks", "(II)I"⟩
def dkwX0_kicks_2_0 : List UInt8 := [42, 27, 28, 182, 1, 196, 153, 0, 15, 42, 27, 28, 182, 1, 199, 180, 1, 203, 167, 0, 5, 16, 254, 172]
abbrev dktX0_kicks_2_0 : List UInt8 := dkwX0_kicks_2_0 ++ []
theorem dksX0_kicks_2_0 : cX0_kicks_2.data.toList.drop 0 = dktX0_kicks_2_0 := by decide +kernel
theorem dX0_kicks_2_0 : decode cX0_kicks_2 0 = .ok (.aload_n 0, 1) := dk_42 (dk_at dksX0_kicks_2_0 0 rfl rfl)
theorem dX0_kicks_2_1 : decode cX0_kicks_2 1 = .ok (.iload_n 1, 1) := dk_27 (dk_at dksX0_kicks_2_0 1 rfl rfl)
theorem dX0_kicks_2_2 : decode cX0_kicks_2 2 = .ok (.iload_n 2, 1) := dk_28 (dk_at dksX0_kicks_2_0 2 rfl rfl)
theorem dX0_kicks_2_3 : decode cX0_kicks_2 3 = .ok (.invokevirtual 452, 3) := dk_182 1 196 (dk_at dksX0_kicks_2_0 3 rfl rfl)
theorem dX0_kicks_2_6 : decode cX0_kicks_2 6 = .ok (.ifCond .eq 15, 3) := dk_153 0 15 (dk_at dksX0_kicks_2_0 6 rfl rfl)
theorem dX0_kicks_2_9 : decode cX0_kicks_2 9 = .ok (.aload_n 0, 1) := dk_42 (dk_at dksX0_kicks_2_0 9 rfl rfl)
theorem dX0_kicks_2_10 : decode cX0_kicks_2 10 = .ok (.iload_n 1, 1) := dk_27 (dk_at dksX0_kicks_2_0 10 rfl rfl)
theorem dX0_kicks_2_11 : decode cX0_kicks_2 11 = .ok (.iload_n 2, 1) := dk_28 (dk_at dksX0_kicks_2_0 11 rfl rfl)
theorem dX0_kicks_2_12 : decode cX0_kicks_2 12 = .ok (.invokevirtual 455, 3) := dk_182 1 199 (dk_at dksX0_kicks_2_0 12 rfl rfl)
theorem dX0_kicks_2_15 : decode cX0_kicks_2 15 = .ok (.getfield 459, 3) := dk_180 1 203 (dk_at dksX0_kicks_2_0 15 rfl rfl)
theorem dX0_kicks_2_18 : decode cX0_kicks_2 18 = .ok (.goto 5, 3) := dk_167 0 5 (dk_at dksX0_kicks_2_0 18 rfl rfl)
theorem dX0_kicks_2_21 : decode cX0_kicks_2 21 = .ok (.bipush (-2), 2) := dk_16 254 (dk_at dksX0_kicks_2_0 21 rfl rfl)
theorem dX0_kicks_2_23 : decode cX0_kicks_2 23 = .ok (.ireturn, 1) := dk_172 (dk_at dksX0_kicks_2_0 23 rfl rfl)
abbrev cX0_isThen : ByteArray := prog_1_method_12_code
def yX0_isThen : MethodName := ⟨RX0, "isThen", "(II)Z"⟩
def dkwX0_isThen_0 : List UInt8 := [42, 27, 182, 0, 168, 153, 0, 15, 42, 28, 182, 0, 172, 153, 0, 7, 4, 167, 0, 4, 3, 172]
abbrev dktX0_isThen_0 : List UInt8 := dkwX0_isThen_0 ++ []
theorem dksX0_isThen_0 : cX0_isThen.data.toList.drop 0 = dktX0_isThen_0 := by decide +kernel
theorem dX0_isThen_0 : decode cX0_isThen 0 = .ok (.aload_n 0, 1) := dk_42 (dk_at dksX0_isThen_0 0 rfl rfl)
theorem dX0_isThen_1 : decode cX0_isThen 1 = .ok (.iload_n 1, 1) := dk_27 (dk_at dksX0_isThen_0 1 rfl rfl)
theorem dX0_isThen_2 : decode cX0_isThen 2 = .ok (.invokevirtual 168, 3) := dk_182 0 168 (dk_at dksX0_isThen_0 2 rfl rfl)
theorem dX0_isThen_5 : decode cX0_isThen 5 = .ok (.ifCond .eq 15, 3) := dk_153 0 15 (dk_at dksX0_isThen_0 5 rfl rfl)
theorem dX0_isThen_8 : decode cX0_isThen 8 = .ok (.aload_n 0, 1) := dk_42 (dk_at dksX0_isThen_0 8 rfl rfl)
theorem dX0_isThen_9 : decode cX0_isThen 9 = .ok (.iload_n 2, 1) := dk_28 (dk_at dksX0_isThen_0 9 rfl rfl)
theorem dX0_isThen_10 : decode cX0_isThen 10 = .ok (.invokevirtual 172, 3) := dk_182 0 172 (dk_at dksX0_isThen_0 10 rfl rfl)
theorem dX0_isThen_13 : decode cX0_isThen 13 = .ok (.ifCond .eq 7, 3) := dk_153 0 7 (dk_at dksX0_isThen_0 13 rfl rfl)
theorem dX0_isThen_16 : decode cX0_isThen 16 = .ok (.iconst 1, 1) := dk_4 (dk_at dksX0_isThen_0 16 rfl rfl)
theorem dX0_isThen_17 : decode cX0_isThen 17 = .ok (.goto 4, 3) := dk_167 0 4 (dk_at dksX0_isThen_0 17 rfl rfl)
theorem dX0_isThen_20 : decode cX0_isThen 20 = .ok (.iconst 0, 1) := dk_3 (dk_at dksX0_isThen_0 20 rfl rfl)
theorem dX0_isThen_21 : decode cX0_isThen 21 = .ok (.ireturn, 1) := dk_172 (dk_at dksX0_isThen_0 21 rfl rfl)
abbrev cX0_then : ByteArray := prog_1_method_58_code
def yX0_then : MethodName := ⟨RX0, "then", "(II)LWatchStack$Life;"⟩
def dkwX0_then_0 : List UInt8 := [42, 27, 28, 2, 182, 1, 192, 176]
abbrev dktX0_then_0 : List UInt8 := dkwX0_then_0 ++ []
theorem dksX0_then_0 : cX0_then.data.toList.drop 0 = dktX0_then_0 := by decide +kernel
theorem dX0_then_0 : decode cX0_then 0 = .ok (.aload_n 0, 1) := dk_42 (dk_at dksX0_then_0 0 rfl rfl)
theorem dX0_then_1 : decode cX0_then 1 = .ok (.iload_n 1, 1) := dk_27 (dk_at dksX0_then_0 1 rfl rfl)
theorem dX0_then_2 : decode cX0_then 2 = .ok (.iload_n 2, 1) := dk_28 (dk_at dksX0_then_0 2 rfl rfl)
theorem dX0_then_3 : decode cX0_then 3 = .ok (.iconst (-1), 1) := dk_2 (dk_at dksX0_then_0 3 rfl rfl)
theorem dX0_then_4 : decode cX0_then 4 = .ok (.invokevirtual 448, 3) := dk_182 1 192 (dk_at dksX0_then_0 4 rfl rfl)
theorem dX0_then_7 : decode cX0_then 7 = .ok (.areturn, 1) := dk_176 (dk_at dksX0_then_0 7 rfl rfl)
abbrev cX0_at : ByteArray := prog_1_method_57_code
def yX0_at : MethodName := ⟨RX0, "at", "(III)LWatchStack$Life;"⟩
def dkwX0_at_0 : List UInt8 := [42, 28, 29, 182, 1, 189, 42, 180, 0, 58, 27, 50, 176]
abbrev dktX0_at_0 : List UInt8 := dkwX0_at_0 ++ []
theorem dksX0_at_0 : cX0_at.data.toList.drop 0 = dktX0_at_0 := by decide +kernel
theorem dX0_at_0 : decode cX0_at 0 = .ok (.aload_n 0, 1) := dk_42 (dk_at dksX0_at_0 0 rfl rfl)
theorem dX0_at_1 : decode cX0_at 1 = .ok (.iload_n 2, 1) := dk_28 (dk_at dksX0_at_0 1 rfl rfl)
theorem dX0_at_2 : decode cX0_at 2 = .ok (.iload_n 3, 1) := dk_29 (dk_at dksX0_at_0 2 rfl rfl)
theorem dX0_at_3 : decode cX0_at 3 = .ok (.invokevirtual 445, 3) := dk_182 1 189 (dk_at dksX0_at_0 3 rfl rfl)
theorem dX0_at_6 : decode cX0_at 6 = .ok (.aload_n 0, 1) := dk_42 (dk_at dksX0_at_0 6 rfl rfl)
theorem dX0_at_7 : decode cX0_at 7 = .ok (.getfield 58, 3) := dk_180 0 58 (dk_at dksX0_at_0 7 rfl rfl)
theorem dX0_at_10 : decode cX0_at 10 = .ok (.iload_n 1, 1) := dk_27 (dk_at dksX0_at_0 10 rfl rfl)
theorem dX0_at_11 : decode cX0_at 11 = .ok (.aaload, 1) := dk_50 (dk_at dksX0_at_0 11 rfl rfl)
theorem dX0_at_12 : decode cX0_at 12 = .ok (.areturn, 1) := dk_176 (dk_at dksX0_at_0 12 rfl rfl)
abbrev cX0_kicked : ByteArray := prog_1_method_63_code
def yX0_kicked : MethodName := ⟨RX0, "kicked", "(II)I"⟩
def dkwX0_kicked_0 : List UInt8 := [42, 27, 28, 182, 1, 196, 153, 0, 15, 42, 27, 28, 182, 1, 199, 180, 1, 205, 167, 0, 5, 16, 254, 172]
abbrev dktX0_kicked_0 : List UInt8 := dkwX0_kicked_0 ++ []
theorem dksX0_kicked_0 : cX0_kicked.data.toList.drop 0 = dktX0_kicked_0 := by decide +kernel
theorem dX0_kicked_0 : decode cX0_kicked 0 = .ok (.aload_n 0, 1) := dk_42 (dk_at dksX0_kicked_0 0 rfl rfl)
theorem dX0_kicked_1 : decode cX0_kicked 1 = .ok (.iload_n 1, 1) := dk_27 (dk_at dksX0_kicked_0 1 rfl rfl)
theorem dX0_kicked_2 : decode cX0_kicked 2 = .ok (.iload_n 2, 1) := dk_28 (dk_at dksX0_kicked_0 2 rfl rfl)
theorem dX0_kicked_3 : decode cX0_kicked 3 = .ok (.invokevirtual 452, 3) := dk_182 1 196 (dk_at dksX0_kicked_0 3 rfl rfl)
theorem dX0_kicked_6 : decode cX0_kicked 6 = .ok (.ifCond .eq 15, 3) := dk_153 0 15 (dk_at dksX0_kicked_0 6 rfl rfl)
theorem dX0_kicked_9 : decode cX0_kicked 9 = .ok (.aload_n 0, 1) := dk_42 (dk_at dksX0_kicked_0 9 rfl rfl)
theorem dX0_kicked_10 : decode cX0_kicked 10 = .ok (.iload_n 1, 1) := dk_27 (dk_at dksX0_kicked_0 10 rfl rfl)
theorem dX0_kicked_11 : decode cX0_kicked 11 = .ok (.iload_n 2, 1) := dk_28 (dk_at dksX0_kicked_0 11 rfl rfl)
theorem dX0_kicked_12 : decode cX0_kicked 12 = .ok (.invokevirtual 455, 3) := dk_182 1 199 (dk_at dksX0_kicked_0 12 rfl rfl)
theorem dX0_kicked_15 : decode cX0_kicked 15 = .ok (.getfield 461, 3) := dk_180 1 205 (dk_at dksX0_kicked_0 15 rfl rfl)
theorem dX0_kicked_18 : decode cX0_kicked 18 = .ok (.goto 5, 3) := dk_167 0 5 (dk_at dksX0_kicked_0 18 rfl rfl)
theorem dX0_kicked_21 : decode cX0_kicked 21 = .ok (.bipush (-2), 2) := dk_16 254 (dk_at dksX0_kicked_0 21 rfl rfl)
theorem dX0_kicked_23 : decode cX0_kicked 23 = .ok (.ireturn, 1) := dk_172 (dk_at dksX0_kicked_0 23 rfl rfl)
abbrev cX0_jobs : ByteArray := prog_1_method_64_code
def yX0_jobs : MethodName := ⟨RX0, "jobs", "(II)I"⟩
def dkwX0_jobs_0 : List UInt8 := [42, 27, 28, 182, 1, 196, 153, 0, 15, 42, 27, 28, 182, 1, 199, 180, 1, 208, 167, 0, 5, 16, 254, 172]
abbrev dktX0_jobs_0 : List UInt8 := dkwX0_jobs_0 ++ []
theorem dksX0_jobs_0 : cX0_jobs.data.toList.drop 0 = dktX0_jobs_0 := by decide +kernel
theorem dX0_jobs_0 : decode cX0_jobs 0 = .ok (.aload_n 0, 1) := dk_42 (dk_at dksX0_jobs_0 0 rfl rfl)
theorem dX0_jobs_1 : decode cX0_jobs 1 = .ok (.iload_n 1, 1) := dk_27 (dk_at dksX0_jobs_0 1 rfl rfl)
theorem dX0_jobs_2 : decode cX0_jobs 2 = .ok (.iload_n 2, 1) := dk_28 (dk_at dksX0_jobs_0 2 rfl rfl)
theorem dX0_jobs_3 : decode cX0_jobs 3 = .ok (.invokevirtual 452, 3) := dk_182 1 196 (dk_at dksX0_jobs_0 3 rfl rfl)
theorem dX0_jobs_6 : decode cX0_jobs 6 = .ok (.ifCond .eq 15, 3) := dk_153 0 15 (dk_at dksX0_jobs_0 6 rfl rfl)
theorem dX0_jobs_9 : decode cX0_jobs 9 = .ok (.aload_n 0, 1) := dk_42 (dk_at dksX0_jobs_0 9 rfl rfl)
theorem dX0_jobs_10 : decode cX0_jobs 10 = .ok (.iload_n 1, 1) := dk_27 (dk_at dksX0_jobs_0 10 rfl rfl)
theorem dX0_jobs_11 : decode cX0_jobs 11 = .ok (.iload_n 2, 1) := dk_28 (dk_at dksX0_jobs_0 11 rfl rfl)
theorem dX0_jobs_12 : decode cX0_jobs 12 = .ok (.invokevirtual 455, 3) := dk_182 1 199 (dk_at dksX0_jobs_0 12 rfl rfl)
theorem dX0_jobs_15 : decode cX0_jobs 15 = .ok (.getfield 464, 3) := dk_180 1 208 (dk_at dksX0_jobs_0 15 rfl rfl)
theorem dX0_jobs_18 : decode cX0_jobs 18 = .ok (.goto 5, 3) := dk_167 0 5 (dk_at dksX0_jobs_0 18 rfl rfl)
theorem dX0_jobs_21 : decode cX0_jobs 21 = .ok (.bipush (-2), 2) := dk_16 254 (dk_at dksX0_jobs_0 21 rfl rfl)
theorem dX0_jobs_23 : decode cX0_jobs 23 = .ok (.ireturn, 1) := dk_172 (dk_at dksX0_jobs_0 23 rfl rfl)
abbrev cX0_at_2 : ByteArray := prog_1_method_65_code
def yX0_at_2 : MethodName := ⟨RX0, "at", "(II)I"⟩
def dkwX0_at_2_1 : List UInt8 := [153, 0, 10, 45, 180, 1, 123, 167, 0, 4, 2, 172]
abbrev dktX0_at_2_1 : List UInt8 := dkwX0_at_2_1 ++ []
def dkwX0_at_2_0 : List UInt8 := [42, 27, 28, 182, 1, 196, 154, 0, 6, 16, 254, 172, 42, 27, 28, 182, 1, 199, 78, 45, 180, 1, 110]
abbrev dktX0_at_2_0 : List UInt8 := dkwX0_at_2_0 ++ dktX0_at_2_1
theorem dksX0_at_2_0 : cX0_at_2.data.toList.drop 0 = dktX0_at_2_0 := by decide +kernel
theorem dksX0_at_2_1 : cX0_at_2.data.toList.drop 23 = dktX0_at_2_1 := dk_seg dksX0_at_2_0 23 rfl rfl
theorem dX0_at_2_0 : decode cX0_at_2 0 = .ok (.aload_n 0, 1) := dk_42 (dk_at dksX0_at_2_0 0 rfl rfl)
theorem dX0_at_2_1 : decode cX0_at_2 1 = .ok (.iload_n 1, 1) := dk_27 (dk_at dksX0_at_2_0 1 rfl rfl)
theorem dX0_at_2_2 : decode cX0_at_2 2 = .ok (.iload_n 2, 1) := dk_28 (dk_at dksX0_at_2_0 2 rfl rfl)
theorem dX0_at_2_3 : decode cX0_at_2 3 = .ok (.invokevirtual 452, 3) := dk_182 1 196 (dk_at dksX0_at_2_0 3 rfl rfl)
theorem dX0_at_2_6 : decode cX0_at_2 6 = .ok (.ifCond .ne 6, 3) := dk_154 0 6 (dk_at dksX0_at_2_0 6 rfl rfl)
theorem dX0_at_2_9 : decode cX0_at_2 9 = .ok (.bipush (-2), 2) := dk_16 254 (dk_at dksX0_at_2_0 9 rfl rfl)
theorem dX0_at_2_11 : decode cX0_at_2 11 = .ok (.ireturn, 1) := dk_172 (dk_at dksX0_at_2_0 11 rfl rfl)
theorem dX0_at_2_12 : decode cX0_at_2 12 = .ok (.aload_n 0, 1) := dk_42 (dk_at dksX0_at_2_0 12 rfl rfl)
theorem dX0_at_2_13 : decode cX0_at_2 13 = .ok (.iload_n 1, 1) := dk_27 (dk_at dksX0_at_2_0 13 rfl rfl)
theorem dX0_at_2_14 : decode cX0_at_2 14 = .ok (.iload_n 2, 1) := dk_28 (dk_at dksX0_at_2_0 14 rfl rfl)
theorem dX0_at_2_15 : decode cX0_at_2 15 = .ok (.invokevirtual 455, 3) := dk_182 1 199 (dk_at dksX0_at_2_0 15 rfl rfl)
theorem dX0_at_2_18 : decode cX0_at_2 18 = .ok (.astore_n 3, 1) := dk_78 (dk_at dksX0_at_2_0 18 rfl rfl)
theorem dX0_at_2_19 : decode cX0_at_2 19 = .ok (.aload_n 3, 1) := dk_45 (dk_at dksX0_at_2_0 19 rfl rfl)
theorem dX0_at_2_20 : decode cX0_at_2 20 = .ok (.getfield 366, 3) := dk_180 1 110 (dk_at dksX0_at_2_0 20 rfl rfl)
theorem dX0_at_2_23 : decode cX0_at_2 23 = .ok (.ifCond .eq 10, 3) := dk_153 0 10 (dk_at dksX0_at_2_1 0 rfl rfl)
theorem dX0_at_2_26 : decode cX0_at_2 26 = .ok (.aload_n 3, 1) := dk_45 (dk_at dksX0_at_2_1 3 rfl rfl)
theorem dX0_at_2_27 : decode cX0_at_2 27 = .ok (.getfield 379, 3) := dk_180 1 123 (dk_at dksX0_at_2_1 4 rfl rfl)
theorem dX0_at_2_30 : decode cX0_at_2 30 = .ok (.goto 4, 3) := dk_167 0 4 (dk_at dksX0_at_2_1 7 rfl rfl)
theorem dX0_at_2_33 : decode cX0_at_2 33 = .ok (.iconst (-1), 1) := dk_2 (dk_at dksX0_at_2_1 10 rfl rfl)
theorem dX0_at_2_34 : decode cX0_at_2 34 = .ok (.ireturn, 1) := dk_172 (dk_at dksX0_at_2_1 11 rfl rfl)
abbrev cX0_gap : ByteArray := prog_1_method_67_code
def yX0_gap : MethodName := ⟨RX0, "gap", "(II)I"⟩
def dkwX0_gap_1 : List UInt8 := [181, 1, 214, 42, 2, 181, 1, 217, 42, 2, 182, 1, 220, 87, 42, 180, 1, 217, 172]
abbrev dktX0_gap_1 : List UInt8 := dkwX0_gap_1 ++ []
def dkwX0_gap_0 : List UInt8 := [42, 27, 182, 0, 168, 153, 0, 7, 28, 156, 0, 6, 16, 254, 172, 42, 27, 181, 1, 211, 42, 28]
abbrev dktX0_gap_0 : List UInt8 := dkwX0_gap_0 ++ dktX0_gap_1
theorem dksX0_gap_0 : cX0_gap.data.toList.drop 0 = dktX0_gap_0 := by decide +kernel
theorem dksX0_gap_1 : cX0_gap.data.toList.drop 22 = dktX0_gap_1 := dk_seg dksX0_gap_0 22 rfl rfl
theorem dX0_gap_0 : decode cX0_gap 0 = .ok (.aload_n 0, 1) := dk_42 (dk_at dksX0_gap_0 0 rfl rfl)
theorem dX0_gap_1 : decode cX0_gap 1 = .ok (.iload_n 1, 1) := dk_27 (dk_at dksX0_gap_0 1 rfl rfl)
theorem dX0_gap_2 : decode cX0_gap 2 = .ok (.invokevirtual 168, 3) := dk_182 0 168 (dk_at dksX0_gap_0 2 rfl rfl)
theorem dX0_gap_5 : decode cX0_gap 5 = .ok (.ifCond .eq 7, 3) := dk_153 0 7 (dk_at dksX0_gap_0 5 rfl rfl)
theorem dX0_gap_8 : decode cX0_gap 8 = .ok (.iload_n 2, 1) := dk_28 (dk_at dksX0_gap_0 8 rfl rfl)
theorem dX0_gap_9 : decode cX0_gap 9 = .ok (.ifCond .ge 6, 3) := dk_156 0 6 (dk_at dksX0_gap_0 9 rfl rfl)
theorem dX0_gap_12 : decode cX0_gap 12 = .ok (.bipush (-2), 2) := dk_16 254 (dk_at dksX0_gap_0 12 rfl rfl)
theorem dX0_gap_14 : decode cX0_gap 14 = .ok (.ireturn, 1) := dk_172 (dk_at dksX0_gap_0 14 rfl rfl)
theorem dX0_gap_15 : decode cX0_gap 15 = .ok (.aload_n 0, 1) := dk_42 (dk_at dksX0_gap_0 15 rfl rfl)
theorem dX0_gap_16 : decode cX0_gap 16 = .ok (.iload_n 1, 1) := dk_27 (dk_at dksX0_gap_0 16 rfl rfl)
theorem dX0_gap_17 : decode cX0_gap 17 = .ok (.putfield 467, 3) := dk_181 1 211 (dk_at dksX0_gap_0 17 rfl rfl)
theorem dX0_gap_20 : decode cX0_gap 20 = .ok (.aload_n 0, 1) := dk_42 (dk_at dksX0_gap_0 20 rfl rfl)
theorem dX0_gap_21 : decode cX0_gap 21 = .ok (.iload_n 2, 1) := dk_28 (dk_at dksX0_gap_0 21 rfl rfl)
theorem dX0_gap_22 : decode cX0_gap 22 = .ok (.putfield 470, 3) := dk_181 1 214 (dk_at dksX0_gap_1 0 rfl rfl)
theorem dX0_gap_25 : decode cX0_gap 25 = .ok (.aload_n 0, 1) := dk_42 (dk_at dksX0_gap_1 3 rfl rfl)
theorem dX0_gap_26 : decode cX0_gap 26 = .ok (.iconst (-1), 1) := dk_2 (dk_at dksX0_gap_1 4 rfl rfl)
theorem dX0_gap_27 : decode cX0_gap 27 = .ok (.putfield 473, 3) := dk_181 1 217 (dk_at dksX0_gap_1 5 rfl rfl)
theorem dX0_gap_30 : decode cX0_gap 30 = .ok (.aload_n 0, 1) := dk_42 (dk_at dksX0_gap_1 8 rfl rfl)
theorem dX0_gap_31 : decode cX0_gap 31 = .ok (.iconst (-1), 1) := dk_2 (dk_at dksX0_gap_1 9 rfl rfl)
theorem dX0_gap_32 : decode cX0_gap 32 = .ok (.invokevirtual 476, 3) := dk_182 1 220 (dk_at dksX0_gap_1 10 rfl rfl)
theorem dX0_gap_35 : decode cX0_gap 35 = .ok (.pop, 1) := dk_87 (dk_at dksX0_gap_1 13 rfl rfl)
theorem dX0_gap_36 : decode cX0_gap 36 = .ok (.aload_n 0, 1) := dk_42 (dk_at dksX0_gap_1 14 rfl rfl)
theorem dX0_gap_37 : decode cX0_gap 37 = .ok (.getfield 473, 3) := dk_180 1 217 (dk_at dksX0_gap_1 15 rfl rfl)
theorem dX0_gap_40 : decode cX0_gap 40 = .ok (.ireturn, 1) := dk_172 (dk_at dksX0_gap_1 18 rfl rfl)
abbrev cX0_all : ByteArray := prog_1_method_59_code
def yX0_all : MethodName := ⟨RX0, "all", "(I)I"⟩
def dkwX0_all_0 : List UInt8 := [42, 42, 180, 0, 10, 180, 0, 165, 27, 182, 1, 189, 42, 180, 1, 64, 172]
abbrev dktX0_all_0 : List UInt8 := dkwX0_all_0 ++ []
theorem dksX0_all_0 : cX0_all.data.toList.drop 0 = dktX0_all_0 := by decide +kernel
theorem dX0_all_0 : decode cX0_all 0 = .ok (.aload_n 0, 1) := dk_42 (dk_at dksX0_all_0 0 rfl rfl)
theorem dX0_all_1 : decode cX0_all 1 = .ok (.aload_n 0, 1) := dk_42 (dk_at dksX0_all_0 1 rfl rfl)
theorem dX0_all_2 : decode cX0_all 2 = .ok (.getfield 10, 3) := dk_180 0 10 (dk_at dksX0_all_0 2 rfl rfl)
theorem dX0_all_5 : decode cX0_all 5 = .ok (.getfield 165, 3) := dk_180 0 165 (dk_at dksX0_all_0 5 rfl rfl)
theorem dX0_all_8 : decode cX0_all 8 = .ok (.iload_n 1, 1) := dk_27 (dk_at dksX0_all_0 8 rfl rfl)
theorem dX0_all_9 : decode cX0_all 9 = .ok (.invokevirtual 445, 3) := dk_182 1 189 (dk_at dksX0_all_0 9 rfl rfl)
theorem dX0_all_12 : decode cX0_all 12 = .ok (.aload_n 0, 1) := dk_42 (dk_at dksX0_all_0 12 rfl rfl)
theorem dX0_all_13 : decode cX0_all 13 = .ok (.getfield 320, 3) := dk_180 1 64 (dk_at dksX0_all_0 13 rfl rfl)
theorem dX0_all_16 : decode cX0_all 16 = .ok (.ireturn, 1) := dk_172 (dk_at dksX0_all_0 16 rfl rfl)
abbrev cX0_question : ByteArray := prog_1_method_68_code
def yX0_question : MethodName := ⟨RX0, "question", "(II)I"⟩
def dkwX0_question_0 : List UInt8 := [42, 27, 28, 182, 1, 196, 153, 0, 15, 42, 27, 28, 182, 1, 199, 180, 1, 223, 167, 0, 5, 16, 254, 172]
abbrev dktX0_question_0 : List UInt8 := dkwX0_question_0 ++ []
theorem dksX0_question_0 : cX0_question.data.toList.drop 0 = dktX0_question_0 := by decide +kernel
theorem dX0_question_0 : decode cX0_question 0 = .ok (.aload_n 0, 1) := dk_42 (dk_at dksX0_question_0 0 rfl rfl)
theorem dX0_question_1 : decode cX0_question 1 = .ok (.iload_n 1, 1) := dk_27 (dk_at dksX0_question_0 1 rfl rfl)
theorem dX0_question_2 : decode cX0_question 2 = .ok (.iload_n 2, 1) := dk_28 (dk_at dksX0_question_0 2 rfl rfl)
theorem dX0_question_3 : decode cX0_question 3 = .ok (.invokevirtual 452, 3) := dk_182 1 196 (dk_at dksX0_question_0 3 rfl rfl)
theorem dX0_question_6 : decode cX0_question 6 = .ok (.ifCond .eq 15, 3) := dk_153 0 15 (dk_at dksX0_question_0 6 rfl rfl)
theorem dX0_question_9 : decode cX0_question 9 = .ok (.aload_n 0, 1) := dk_42 (dk_at dksX0_question_0 9 rfl rfl)
theorem dX0_question_10 : decode cX0_question 10 = .ok (.iload_n 1, 1) := dk_27 (dk_at dksX0_question_0 10 rfl rfl)
theorem dX0_question_11 : decode cX0_question 11 = .ok (.iload_n 2, 1) := dk_28 (dk_at dksX0_question_0 11 rfl rfl)
theorem dX0_question_12 : decode cX0_question 12 = .ok (.invokevirtual 455, 3) := dk_182 1 199 (dk_at dksX0_question_0 12 rfl rfl)
theorem dX0_question_15 : decode cX0_question 15 = .ok (.getfield 479, 3) := dk_180 1 223 (dk_at dksX0_question_0 15 rfl rfl)
theorem dX0_question_18 : decode cX0_question 18 = .ok (.goto 5, 3) := dk_167 0 5 (dk_at dksX0_question_0 18 rfl rfl)
theorem dX0_question_21 : decode cX0_question 21 = .ok (.bipush (-2), 2) := dk_16 254 (dk_at dksX0_question_0 21 rfl rfl)
theorem dX0_question_23 : decode cX0_question 23 = .ok (.ireturn, 1) := dk_172 (dk_at dksX0_question_0 23 rfl rfl)
abbrev cX0_start : ByteArray := prog_1_method_69_code
def yX0_start : MethodName := ⟨RX0, "start", "(II)I"⟩
def dkwX0_start_0 : List UInt8 := [42, 27, 28, 182, 1, 196, 153, 0, 15, 42, 27, 28, 182, 1, 199, 180, 1, 113, 167, 0, 5, 16, 254, 172]
abbrev dktX0_start_0 : List UInt8 := dkwX0_start_0 ++ []
theorem dksX0_start_0 : cX0_start.data.toList.drop 0 = dktX0_start_0 := by decide +kernel
theorem dX0_start_0 : decode cX0_start 0 = .ok (.aload_n 0, 1) := dk_42 (dk_at dksX0_start_0 0 rfl rfl)
theorem dX0_start_1 : decode cX0_start 1 = .ok (.iload_n 1, 1) := dk_27 (dk_at dksX0_start_0 1 rfl rfl)
theorem dX0_start_2 : decode cX0_start 2 = .ok (.iload_n 2, 1) := dk_28 (dk_at dksX0_start_0 2 rfl rfl)
theorem dX0_start_3 : decode cX0_start 3 = .ok (.invokevirtual 452, 3) := dk_182 1 196 (dk_at dksX0_start_0 3 rfl rfl)
theorem dX0_start_6 : decode cX0_start 6 = .ok (.ifCond .eq 15, 3) := dk_153 0 15 (dk_at dksX0_start_0 6 rfl rfl)
theorem dX0_start_9 : decode cX0_start 9 = .ok (.aload_n 0, 1) := dk_42 (dk_at dksX0_start_0 9 rfl rfl)
theorem dX0_start_10 : decode cX0_start 10 = .ok (.iload_n 1, 1) := dk_27 (dk_at dksX0_start_0 10 rfl rfl)
theorem dX0_start_11 : decode cX0_start 11 = .ok (.iload_n 2, 1) := dk_28 (dk_at dksX0_start_0 11 rfl rfl)
theorem dX0_start_12 : decode cX0_start 12 = .ok (.invokevirtual 455, 3) := dk_182 1 199 (dk_at dksX0_start_0 12 rfl rfl)
theorem dX0_start_15 : decode cX0_start 15 = .ok (.getfield 369, 3) := dk_180 1 113 (dk_at dksX0_start_0 15 rfl rfl)
theorem dX0_start_18 : decode cX0_start 18 = .ok (.goto 5, 3) := dk_167 0 5 (dk_at dksX0_start_0 18 rfl rfl)
theorem dX0_start_21 : decode cX0_start 21 = .ok (.bipush (-2), 2) := dk_16 254 (dk_at dksX0_start_0 21 rfl rfl)
theorem dX0_start_23 : decode cX0_start 23 = .ok (.ireturn, 1) := dk_172 (dk_at dksX0_start_0 23 rfl rfl)
abbrev cX0_memory : ByteArray := prog_1_method_70_code
def yX0_memory : MethodName := ⟨RX0, "memory", "(II)I"⟩
def dkwX0_memory_0 : List UInt8 := [42, 27, 28, 182, 1, 196, 153, 0, 15, 42, 27, 28, 182, 1, 199, 180, 1, 168, 167, 0, 5, 16, 254, 172]
abbrev dktX0_memory_0 : List UInt8 := dkwX0_memory_0 ++ []
theorem dksX0_memory_0 : cX0_memory.data.toList.drop 0 = dktX0_memory_0 := by decide +kernel
theorem dX0_memory_0 : decode cX0_memory 0 = .ok (.aload_n 0, 1) := dk_42 (dk_at dksX0_memory_0 0 rfl rfl)
theorem dX0_memory_1 : decode cX0_memory 1 = .ok (.iload_n 1, 1) := dk_27 (dk_at dksX0_memory_0 1 rfl rfl)
theorem dX0_memory_2 : decode cX0_memory 2 = .ok (.iload_n 2, 1) := dk_28 (dk_at dksX0_memory_0 2 rfl rfl)
theorem dX0_memory_3 : decode cX0_memory 3 = .ok (.invokevirtual 452, 3) := dk_182 1 196 (dk_at dksX0_memory_0 3 rfl rfl)
theorem dX0_memory_6 : decode cX0_memory 6 = .ok (.ifCond .eq 15, 3) := dk_153 0 15 (dk_at dksX0_memory_0 6 rfl rfl)
theorem dX0_memory_9 : decode cX0_memory 9 = .ok (.aload_n 0, 1) := dk_42 (dk_at dksX0_memory_0 9 rfl rfl)
theorem dX0_memory_10 : decode cX0_memory 10 = .ok (.iload_n 1, 1) := dk_27 (dk_at dksX0_memory_0 10 rfl rfl)
theorem dX0_memory_11 : decode cX0_memory 11 = .ok (.iload_n 2, 1) := dk_28 (dk_at dksX0_memory_0 11 rfl rfl)
theorem dX0_memory_12 : decode cX0_memory 12 = .ok (.invokevirtual 455, 3) := dk_182 1 199 (dk_at dksX0_memory_0 12 rfl rfl)
theorem dX0_memory_15 : decode cX0_memory 15 = .ok (.getfield 424, 3) := dk_180 1 168 (dk_at dksX0_memory_0 15 rfl rfl)
theorem dX0_memory_18 : decode cX0_memory 18 = .ok (.goto 5, 3) := dk_167 0 5 (dk_at dksX0_memory_0 18 rfl rfl)
theorem dX0_memory_21 : decode cX0_memory 21 = .ok (.bipush (-2), 2) := dk_16 254 (dk_at dksX0_memory_0 21 rfl rfl)
theorem dX0_memory_23 : decode cX0_memory 23 = .ok (.ireturn, 1) := dk_172 (dk_at dksX0_memory_0 23 rfl rfl)
abbrev cX0_health : ByteArray := prog_1_method_71_code
def yX0_health : MethodName := ⟨RX0, "health", "(II)I"⟩
def dkwX0_health_1 : List UInt8 := [16, 254, 172]
abbrev dktX0_health_1 : List UInt8 := dkwX0_health_1 ++ []
def dkwX0_health_0 : List UInt8 := [42, 27, 28, 182, 1, 196, 153, 0, 18, 42, 27, 28, 182, 1, 199, 180, 1, 174, 184, 1, 55, 167, 0, 5]
abbrev dktX0_health_0 : List UInt8 := dkwX0_health_0 ++ dktX0_health_1
theorem dksX0_health_0 : cX0_health.data.toList.drop 0 = dktX0_health_0 := by decide +kernel
theorem dksX0_health_1 : cX0_health.data.toList.drop 24 = dktX0_health_1 := dk_seg dksX0_health_0 24 rfl rfl
theorem dX0_health_0 : decode cX0_health 0 = .ok (.aload_n 0, 1) := dk_42 (dk_at dksX0_health_0 0 rfl rfl)
theorem dX0_health_1 : decode cX0_health 1 = .ok (.iload_n 1, 1) := dk_27 (dk_at dksX0_health_0 1 rfl rfl)
theorem dX0_health_2 : decode cX0_health 2 = .ok (.iload_n 2, 1) := dk_28 (dk_at dksX0_health_0 2 rfl rfl)
theorem dX0_health_3 : decode cX0_health 3 = .ok (.invokevirtual 452, 3) := dk_182 1 196 (dk_at dksX0_health_0 3 rfl rfl)
theorem dX0_health_6 : decode cX0_health 6 = .ok (.ifCond .eq 18, 3) := dk_153 0 18 (dk_at dksX0_health_0 6 rfl rfl)
theorem dX0_health_9 : decode cX0_health 9 = .ok (.aload_n 0, 1) := dk_42 (dk_at dksX0_health_0 9 rfl rfl)
theorem dX0_health_10 : decode cX0_health 10 = .ok (.iload_n 1, 1) := dk_27 (dk_at dksX0_health_0 10 rfl rfl)
theorem dX0_health_11 : decode cX0_health 11 = .ok (.iload_n 2, 1) := dk_28 (dk_at dksX0_health_0 11 rfl rfl)
theorem dX0_health_12 : decode cX0_health 12 = .ok (.invokevirtual 455, 3) := dk_182 1 199 (dk_at dksX0_health_0 12 rfl rfl)
theorem dX0_health_15 : decode cX0_health 15 = .ok (.getfield 430, 3) := dk_180 1 174 (dk_at dksX0_health_0 15 rfl rfl)
theorem dX0_health_18 : decode cX0_health 18 = .ok (.invokestatic 311, 3) := dk_184 1 55 (dk_at dksX0_health_0 18 rfl rfl)
theorem dX0_health_21 : decode cX0_health 21 = .ok (.goto 5, 3) := dk_167 0 5 (dk_at dksX0_health_0 21 rfl rfl)
theorem dX0_health_24 : decode cX0_health 24 = .ok (.bipush (-2), 2) := dk_16 254 (dk_at dksX0_health_1 0 rfl rfl)
theorem dX0_health_26 : decode cX0_health 26 = .ok (.ireturn, 1) := dk_172 (dk_at dksX0_health_1 2 rfl rfl)
abbrev cX0_tenths : ByteArray := prog_1_method_72_code
def yX0_tenths : MethodName := ⟨RX0, "tenths", "(II)I"⟩
def dkwX0_tenths_1 : List UInt8 := [167, 0, 5, 16, 254, 172]
abbrev dktX0_tenths_1 : List UInt8 := dkwX0_tenths_1 ++ []
def dkwX0_tenths_0 : List UInt8 := [42, 27, 28, 182, 1, 196, 153, 0, 20, 42, 27, 28, 182, 1, 199, 180, 1, 174, 19, 1, 182, 106, 139]
abbrev dktX0_tenths_0 : List UInt8 := dkwX0_tenths_0 ++ dktX0_tenths_1
theorem dksX0_tenths_0 : cX0_tenths.data.toList.drop 0 = dktX0_tenths_0 := by decide +kernel
theorem dksX0_tenths_1 : cX0_tenths.data.toList.drop 23 = dktX0_tenths_1 := dk_seg dksX0_tenths_0 23 rfl rfl
theorem dX0_tenths_0 : decode cX0_tenths 0 = .ok (.aload_n 0, 1) := dk_42 (dk_at dksX0_tenths_0 0 rfl rfl)
theorem dX0_tenths_1 : decode cX0_tenths 1 = .ok (.iload_n 1, 1) := dk_27 (dk_at dksX0_tenths_0 1 rfl rfl)
theorem dX0_tenths_2 : decode cX0_tenths 2 = .ok (.iload_n 2, 1) := dk_28 (dk_at dksX0_tenths_0 2 rfl rfl)
theorem dX0_tenths_3 : decode cX0_tenths 3 = .ok (.invokevirtual 452, 3) := dk_182 1 196 (dk_at dksX0_tenths_0 3 rfl rfl)
theorem dX0_tenths_6 : decode cX0_tenths 6 = .ok (.ifCond .eq 20, 3) := dk_153 0 20 (dk_at dksX0_tenths_0 6 rfl rfl)
theorem dX0_tenths_9 : decode cX0_tenths 9 = .ok (.aload_n 0, 1) := dk_42 (dk_at dksX0_tenths_0 9 rfl rfl)
theorem dX0_tenths_10 : decode cX0_tenths 10 = .ok (.iload_n 1, 1) := dk_27 (dk_at dksX0_tenths_0 10 rfl rfl)
theorem dX0_tenths_11 : decode cX0_tenths 11 = .ok (.iload_n 2, 1) := dk_28 (dk_at dksX0_tenths_0 11 rfl rfl)
theorem dX0_tenths_12 : decode cX0_tenths 12 = .ok (.invokevirtual 455, 3) := dk_182 1 199 (dk_at dksX0_tenths_0 12 rfl rfl)
theorem dX0_tenths_15 : decode cX0_tenths 15 = .ok (.getfield 430, 3) := dk_180 1 174 (dk_at dksX0_tenths_0 15 rfl rfl)
theorem dX0_tenths_18 : decode cX0_tenths 18 = .ok (.ldc_w 438, 3) := dk_19 1 182 (dk_at dksX0_tenths_0 18 rfl rfl)
theorem dX0_tenths_21 : decode cX0_tenths 21 = .ok (.fmul, 1) := dk_106 (dk_at dksX0_tenths_0 21 rfl rfl)
theorem dX0_tenths_22 : decode cX0_tenths 22 = .ok (.f2i, 1) := dk_139 (dk_at dksX0_tenths_0 22 rfl rfl)
theorem dX0_tenths_23 : decode cX0_tenths 23 = .ok (.goto 5, 3) := dk_167 0 5 (dk_at dksX0_tenths_1 0 rfl rfl)
theorem dX0_tenths_26 : decode cX0_tenths 26 = .ok (.bipush (-2), 2) := dk_16 254 (dk_at dksX0_tenths_1 3 rfl rfl)
theorem dX0_tenths_28 : decode cX0_tenths 28 = .ok (.ireturn, 1) := dk_172 (dk_at dksX0_tenths_1 5 rfl rfl)
abbrev cX0_margin : ByteArray := prog_1_method_73_code
def yX0_margin : MethodName := ⟨RX0, "margin", "(II)I"⟩
def dkwX0_margin_1 : List UInt8 := [154, 0, 7, 2, 167, 0, 10, 45, 180, 1, 229, 184, 1, 55, 172]
abbrev dktX0_margin_1 : List UInt8 := dkwX0_margin_1 ++ []
def dkwX0_margin_0 : List UInt8 := [42, 27, 28, 182, 1, 196, 154, 0, 6, 16, 254, 172, 42, 27, 28, 182, 1, 199, 78, 45, 180, 1, 226]
abbrev dktX0_margin_0 : List UInt8 := dkwX0_margin_0 ++ dktX0_margin_1
theorem dksX0_margin_0 : cX0_margin.data.toList.drop 0 = dktX0_margin_0 := by decide +kernel
theorem dksX0_margin_1 : cX0_margin.data.toList.drop 23 = dktX0_margin_1 := dk_seg dksX0_margin_0 23 rfl rfl
theorem dX0_margin_0 : decode cX0_margin 0 = .ok (.aload_n 0, 1) := dk_42 (dk_at dksX0_margin_0 0 rfl rfl)
theorem dX0_margin_1 : decode cX0_margin 1 = .ok (.iload_n 1, 1) := dk_27 (dk_at dksX0_margin_0 1 rfl rfl)
theorem dX0_margin_2 : decode cX0_margin 2 = .ok (.iload_n 2, 1) := dk_28 (dk_at dksX0_margin_0 2 rfl rfl)
theorem dX0_margin_3 : decode cX0_margin 3 = .ok (.invokevirtual 452, 3) := dk_182 1 196 (dk_at dksX0_margin_0 3 rfl rfl)
theorem dX0_margin_6 : decode cX0_margin 6 = .ok (.ifCond .ne 6, 3) := dk_154 0 6 (dk_at dksX0_margin_0 6 rfl rfl)
theorem dX0_margin_9 : decode cX0_margin 9 = .ok (.bipush (-2), 2) := dk_16 254 (dk_at dksX0_margin_0 9 rfl rfl)
theorem dX0_margin_11 : decode cX0_margin 11 = .ok (.ireturn, 1) := dk_172 (dk_at dksX0_margin_0 11 rfl rfl)
theorem dX0_margin_12 : decode cX0_margin 12 = .ok (.aload_n 0, 1) := dk_42 (dk_at dksX0_margin_0 12 rfl rfl)
theorem dX0_margin_13 : decode cX0_margin 13 = .ok (.iload_n 1, 1) := dk_27 (dk_at dksX0_margin_0 13 rfl rfl)
theorem dX0_margin_14 : decode cX0_margin 14 = .ok (.iload_n 2, 1) := dk_28 (dk_at dksX0_margin_0 14 rfl rfl)
theorem dX0_margin_15 : decode cX0_margin 15 = .ok (.invokevirtual 455, 3) := dk_182 1 199 (dk_at dksX0_margin_0 15 rfl rfl)
theorem dX0_margin_18 : decode cX0_margin 18 = .ok (.astore_n 3, 1) := dk_78 (dk_at dksX0_margin_0 18 rfl rfl)
theorem dX0_margin_19 : decode cX0_margin 19 = .ok (.aload_n 3, 1) := dk_45 (dk_at dksX0_margin_0 19 rfl rfl)
theorem dX0_margin_20 : decode cX0_margin 20 = .ok (.getfield 482, 3) := dk_180 1 226 (dk_at dksX0_margin_0 20 rfl rfl)
theorem dX0_margin_23 : decode cX0_margin 23 = .ok (.ifCond .ne 7, 3) := dk_154 0 7 (dk_at dksX0_margin_1 0 rfl rfl)
theorem dX0_margin_26 : decode cX0_margin 26 = .ok (.iconst (-1), 1) := dk_2 (dk_at dksX0_margin_1 3 rfl rfl)
theorem dX0_margin_27 : decode cX0_margin 27 = .ok (.goto 10, 3) := dk_167 0 10 (dk_at dksX0_margin_1 4 rfl rfl)
theorem dX0_margin_30 : decode cX0_margin 30 = .ok (.aload_n 3, 1) := dk_45 (dk_at dksX0_margin_1 7 rfl rfl)
theorem dX0_margin_31 : decode cX0_margin 31 = .ok (.getfield 485, 3) := dk_180 1 229 (dk_at dksX0_margin_1 8 rfl rfl)
theorem dX0_margin_34 : decode cX0_margin 34 = .ok (.invokestatic 311, 3) := dk_184 1 55 (dk_at dksX0_margin_1 11 rfl rfl)
theorem dX0_margin_37 : decode cX0_margin 37 = .ok (.ireturn, 1) := dk_172 (dk_at dksX0_margin_1 14 rfl rfl)
abbrev cX0_mean : ByteArray := prog_1_method_74_code
def yX0_mean : MethodName := ⟨RX0, "mean", "(II)J"⟩
def dkwX0_mean_1 : List UInt8 := [154, 0, 9, 20, 1, 234, 167, 0, 16, 45, 180, 1, 236, 45, 180, 1, 226, 135, 111, 184, 1, 240, 173]
abbrev dktX0_mean_1 : List UInt8 := dkwX0_mean_1 ++ []
def dkwX0_mean_0 : List UInt8 := [42, 27, 28, 182, 1, 196, 154, 0, 7, 20, 1, 232, 173, 42, 27, 28, 182, 1, 199, 78, 45, 180, 1, 226]
abbrev dktX0_mean_0 : List UInt8 := dkwX0_mean_0 ++ dktX0_mean_1
theorem dksX0_mean_0 : cX0_mean.data.toList.drop 0 = dktX0_mean_0 := by decide +kernel
theorem dksX0_mean_1 : cX0_mean.data.toList.drop 24 = dktX0_mean_1 := dk_seg dksX0_mean_0 24 rfl rfl
theorem dX0_mean_0 : decode cX0_mean 0 = .ok (.aload_n 0, 1) := dk_42 (dk_at dksX0_mean_0 0 rfl rfl)
theorem dX0_mean_1 : decode cX0_mean 1 = .ok (.iload_n 1, 1) := dk_27 (dk_at dksX0_mean_0 1 rfl rfl)
theorem dX0_mean_2 : decode cX0_mean 2 = .ok (.iload_n 2, 1) := dk_28 (dk_at dksX0_mean_0 2 rfl rfl)
theorem dX0_mean_3 : decode cX0_mean 3 = .ok (.invokevirtual 452, 3) := dk_182 1 196 (dk_at dksX0_mean_0 3 rfl rfl)
theorem dX0_mean_6 : decode cX0_mean 6 = .ok (.ifCond .ne 7, 3) := dk_154 0 7 (dk_at dksX0_mean_0 6 rfl rfl)
theorem dX0_mean_9 : decode cX0_mean 9 = .ok (.ldc2_w 488, 3) := dk_20 1 232 (dk_at dksX0_mean_0 9 rfl rfl)
theorem dX0_mean_12 : decode cX0_mean 12 = .ok (.lreturn, 1) := dk_173 (dk_at dksX0_mean_0 12 rfl rfl)
theorem dX0_mean_13 : decode cX0_mean 13 = .ok (.aload_n 0, 1) := dk_42 (dk_at dksX0_mean_0 13 rfl rfl)
theorem dX0_mean_14 : decode cX0_mean 14 = .ok (.iload_n 1, 1) := dk_27 (dk_at dksX0_mean_0 14 rfl rfl)
theorem dX0_mean_15 : decode cX0_mean 15 = .ok (.iload_n 2, 1) := dk_28 (dk_at dksX0_mean_0 15 rfl rfl)
theorem dX0_mean_16 : decode cX0_mean 16 = .ok (.invokevirtual 455, 3) := dk_182 1 199 (dk_at dksX0_mean_0 16 rfl rfl)
theorem dX0_mean_19 : decode cX0_mean 19 = .ok (.astore_n 3, 1) := dk_78 (dk_at dksX0_mean_0 19 rfl rfl)
theorem dX0_mean_20 : decode cX0_mean 20 = .ok (.aload_n 3, 1) := dk_45 (dk_at dksX0_mean_0 20 rfl rfl)
theorem dX0_mean_21 : decode cX0_mean 21 = .ok (.getfield 482, 3) := dk_180 1 226 (dk_at dksX0_mean_0 21 rfl rfl)
theorem dX0_mean_24 : decode cX0_mean 24 = .ok (.ifCond .ne 9, 3) := dk_154 0 9 (dk_at dksX0_mean_1 0 rfl rfl)
theorem dX0_mean_27 : decode cX0_mean 27 = .ok (.ldc2_w 490, 3) := dk_20 1 234 (dk_at dksX0_mean_1 3 rfl rfl)
theorem dX0_mean_30 : decode cX0_mean 30 = .ok (.goto 16, 3) := dk_167 0 16 (dk_at dksX0_mean_1 6 rfl rfl)
theorem dX0_mean_33 : decode cX0_mean 33 = .ok (.aload_n 3, 1) := dk_45 (dk_at dksX0_mean_1 9 rfl rfl)
theorem dX0_mean_34 : decode cX0_mean 34 = .ok (.getfield 492, 3) := dk_180 1 236 (dk_at dksX0_mean_1 10 rfl rfl)
theorem dX0_mean_37 : decode cX0_mean 37 = .ok (.aload_n 3, 1) := dk_45 (dk_at dksX0_mean_1 13 rfl rfl)
theorem dX0_mean_38 : decode cX0_mean 38 = .ok (.getfield 482, 3) := dk_180 1 226 (dk_at dksX0_mean_1 14 rfl rfl)
theorem dX0_mean_41 : decode cX0_mean 41 = .ok (.i2d, 1) := dk_135 (dk_at dksX0_mean_1 17 rfl rfl)
theorem dX0_mean_42 : decode cX0_mean 42 = .ok (.ddiv, 1) := dk_111 (dk_at dksX0_mean_1 18 rfl rfl)
theorem dX0_mean_43 : decode cX0_mean 43 = .ok (.invokestatic 496, 3) := dk_184 1 240 (dk_at dksX0_mean_1 19 rfl rfl)
theorem dX0_mean_46 : decode cX0_mean 46 = .ok (.lreturn, 1) := dk_173 (dk_at dksX0_mean_1 22 rfl rfl)
abbrev cX0_faults_2 : ByteArray := prog_1_method_75_code
def yX0_faults_2 : MethodName := ⟨RX0, "faults", "(I)I"⟩
def dkwX0_faults_2_0 : List UInt8 := [42, 27, 182, 0, 172, 154, 0, 6, 16, 254, 172, 42, 27, 2, 182, 1, 189, 42, 180, 1, 64, 172]
abbrev dktX0_faults_2_0 : List UInt8 := dkwX0_faults_2_0 ++ []
theorem dksX0_faults_2_0 : cX0_faults_2.data.toList.drop 0 = dktX0_faults_2_0 := by decide +kernel
theorem dX0_faults_2_0 : decode cX0_faults_2 0 = .ok (.aload_n 0, 1) := dk_42 (dk_at dksX0_faults_2_0 0 rfl rfl)
theorem dX0_faults_2_1 : decode cX0_faults_2 1 = .ok (.iload_n 1, 1) := dk_27 (dk_at dksX0_faults_2_0 1 rfl rfl)
theorem dX0_faults_2_2 : decode cX0_faults_2 2 = .ok (.invokevirtual 172, 3) := dk_182 0 172 (dk_at dksX0_faults_2_0 2 rfl rfl)
theorem dX0_faults_2_5 : decode cX0_faults_2 5 = .ok (.ifCond .ne 6, 3) := dk_154 0 6 (dk_at dksX0_faults_2_0 5 rfl rfl)
theorem dX0_faults_2_8 : decode cX0_faults_2 8 = .ok (.bipush (-2), 2) := dk_16 254 (dk_at dksX0_faults_2_0 8 rfl rfl)
theorem dX0_faults_2_10 : decode cX0_faults_2 10 = .ok (.ireturn, 1) := dk_172 (dk_at dksX0_faults_2_0 10 rfl rfl)
theorem dX0_faults_2_11 : decode cX0_faults_2 11 = .ok (.aload_n 0, 1) := dk_42 (dk_at dksX0_faults_2_0 11 rfl rfl)
theorem dX0_faults_2_12 : decode cX0_faults_2 12 = .ok (.iload_n 1, 1) := dk_27 (dk_at dksX0_faults_2_0 12 rfl rfl)
theorem dX0_faults_2_13 : decode cX0_faults_2 13 = .ok (.iconst (-1), 1) := dk_2 (dk_at dksX0_faults_2_0 13 rfl rfl)
theorem dX0_faults_2_14 : decode cX0_faults_2 14 = .ok (.invokevirtual 445, 3) := dk_182 1 189 (dk_at dksX0_faults_2_0 14 rfl rfl)
theorem dX0_faults_2_17 : decode cX0_faults_2 17 = .ok (.aload_n 0, 1) := dk_42 (dk_at dksX0_faults_2_0 17 rfl rfl)
theorem dX0_faults_2_18 : decode cX0_faults_2 18 = .ok (.getfield 320, 3) := dk_180 1 64 (dk_at dksX0_faults_2_0 18 rfl rfl)
theorem dX0_faults_2_21 : decode cX0_faults_2 21 = .ok (.ireturn, 1) := dk_172 (dk_at dksX0_faults_2_0 21 rfl rfl)
abbrev cX0_record : ByteArray := prog_1_method_76_code
def yX0_record : MethodName := ⟨RX0, "record", "(II)I"⟩
def dkwX0_record_3 : List UInt8 := [160, 0, 12, 42, 180, 0, 81, 27, 46, 167, 0, 9, 42, 180, 0, 84, 27, 46, 172]
abbrev dktX0_record_3 : List UInt8 := dkwX0_record_3 ++ []
def dkwX0_record_2 : List UInt8 := [180, 0, 75, 27, 46, 167, 0, 37, 28, 4, 160, 0, 12, 42, 180, 0, 78, 27, 46, 167, 0, 23, 28, 5]
abbrev dktX0_record_2 : List UInt8 := dkwX0_record_2 ++ dktX0_record_3
def dkwX0_record_1 : List UInt8 := [154, 0, 6, 16, 254, 172, 27, 42, 2, 182, 1, 220, 161, 0, 5, 2, 172, 28, 154, 0, 12, 42]
abbrev dktX0_record_1 : List UInt8 := dkwX0_record_1 ++ dktX0_record_2
def dkwX0_record_0 : List UInt8 := [42, 180, 0, 10, 182, 0, 161, 153, 0, 19, 27, 155, 0, 15, 28, 133, 9, 20, 1, 19, 184, 0, 116]
abbrev dktX0_record_0 : List UInt8 := dkwX0_record_0 ++ dktX0_record_1
theorem dksX0_record_0 : cX0_record.data.toList.drop 0 = dktX0_record_0 := by decide +kernel
theorem dksX0_record_1 : cX0_record.data.toList.drop 23 = dktX0_record_1 := dk_seg dksX0_record_0 23 rfl rfl
theorem dksX0_record_2 : cX0_record.data.toList.drop 45 = dktX0_record_2 := dk_seg dksX0_record_1 22 rfl rfl
theorem dksX0_record_3 : cX0_record.data.toList.drop 69 = dktX0_record_3 := dk_seg dksX0_record_2 24 rfl rfl
theorem dX0_record_0 : decode cX0_record 0 = .ok (.aload_n 0, 1) := dk_42 (dk_at dksX0_record_0 0 rfl rfl)
theorem dX0_record_1 : decode cX0_record 1 = .ok (.getfield 10, 3) := dk_180 0 10 (dk_at dksX0_record_0 1 rfl rfl)
theorem dX0_record_4 : decode cX0_record 4 = .ok (.invokevirtual 161, 3) := dk_182 0 161 (dk_at dksX0_record_0 4 rfl rfl)
theorem dX0_record_7 : decode cX0_record 7 = .ok (.ifCond .eq 19, 3) := dk_153 0 19 (dk_at dksX0_record_0 7 rfl rfl)
theorem dX0_record_10 : decode cX0_record 10 = .ok (.iload_n 1, 1) := dk_27 (dk_at dksX0_record_0 10 rfl rfl)
theorem dX0_record_11 : decode cX0_record 11 = .ok (.ifCond .lt 15, 3) := dk_155 0 15 (dk_at dksX0_record_0 11 rfl rfl)
theorem dX0_record_14 : decode cX0_record 14 = .ok (.iload_n 2, 1) := dk_28 (dk_at dksX0_record_0 14 rfl rfl)
theorem dX0_record_15 : decode cX0_record 15 = .ok (.i2l, 1) := dk_133 (dk_at dksX0_record_0 15 rfl rfl)
theorem dX0_record_16 : decode cX0_record 16 = .ok (.lconst 0, 1) := dk_9 (dk_at dksX0_record_0 16 rfl rfl)
theorem dX0_record_17 : decode cX0_record 17 = .ok (.ldc2_w 275, 3) := dk_20 1 19 (dk_at dksX0_record_0 17 rfl rfl)
theorem dX0_record_20 : decode cX0_record 20 = .ok (.invokestatic 116, 3) := dk_184 0 116 (dk_at dksX0_record_0 20 rfl rfl)
theorem dX0_record_23 : decode cX0_record 23 = .ok (.ifCond .ne 6, 3) := dk_154 0 6 (dk_at dksX0_record_1 0 rfl rfl)
theorem dX0_record_26 : decode cX0_record 26 = .ok (.bipush (-2), 2) := dk_16 254 (dk_at dksX0_record_1 3 rfl rfl)
theorem dX0_record_28 : decode cX0_record 28 = .ok (.ireturn, 1) := dk_172 (dk_at dksX0_record_1 5 rfl rfl)
theorem dX0_record_29 : decode cX0_record 29 = .ok (.iload_n 1, 1) := dk_27 (dk_at dksX0_record_1 6 rfl rfl)
theorem dX0_record_30 : decode cX0_record 30 = .ok (.aload_n 0, 1) := dk_42 (dk_at dksX0_record_1 7 rfl rfl)
theorem dX0_record_31 : decode cX0_record 31 = .ok (.iconst (-1), 1) := dk_2 (dk_at dksX0_record_1 8 rfl rfl)
theorem dX0_record_32 : decode cX0_record 32 = .ok (.invokevirtual 476, 3) := dk_182 1 220 (dk_at dksX0_record_1 9 rfl rfl)
theorem dX0_record_35 : decode cX0_record 35 = .ok (.if_icmp .lt 5, 3) := dk_161 0 5 (dk_at dksX0_record_1 12 rfl rfl)
theorem dX0_record_38 : decode cX0_record 38 = .ok (.iconst (-1), 1) := dk_2 (dk_at dksX0_record_1 15 rfl rfl)
theorem dX0_record_39 : decode cX0_record 39 = .ok (.ireturn, 1) := dk_172 (dk_at dksX0_record_1 16 rfl rfl)
theorem dX0_record_40 : decode cX0_record 40 = .ok (.iload_n 2, 1) := dk_28 (dk_at dksX0_record_1 17 rfl rfl)
theorem dX0_record_41 : decode cX0_record 41 = .ok (.ifCond .ne 12, 3) := dk_154 0 12 (dk_at dksX0_record_1 18 rfl rfl)
theorem dX0_record_44 : decode cX0_record 44 = .ok (.aload_n 0, 1) := dk_42 (dk_at dksX0_record_1 21 rfl rfl)
theorem dX0_record_45 : decode cX0_record 45 = .ok (.getfield 75, 3) := dk_180 0 75 (dk_at dksX0_record_2 0 rfl rfl)
theorem dX0_record_48 : decode cX0_record 48 = .ok (.iload_n 1, 1) := dk_27 (dk_at dksX0_record_2 3 rfl rfl)
theorem dX0_record_49 : decode cX0_record 49 = .ok (.iaload, 1) := dk_46 (dk_at dksX0_record_2 4 rfl rfl)
theorem dX0_record_50 : decode cX0_record 50 = .ok (.goto 37, 3) := dk_167 0 37 (dk_at dksX0_record_2 5 rfl rfl)
theorem dX0_record_53 : decode cX0_record 53 = .ok (.iload_n 2, 1) := dk_28 (dk_at dksX0_record_2 8 rfl rfl)
theorem dX0_record_54 : decode cX0_record 54 = .ok (.iconst 1, 1) := dk_4 (dk_at dksX0_record_2 9 rfl rfl)
theorem dX0_record_55 : decode cX0_record 55 = .ok (.if_icmp .ne 12, 3) := dk_160 0 12 (dk_at dksX0_record_2 10 rfl rfl)
theorem dX0_record_58 : decode cX0_record 58 = .ok (.aload_n 0, 1) := dk_42 (dk_at dksX0_record_2 13 rfl rfl)
theorem dX0_record_59 : decode cX0_record 59 = .ok (.getfield 78, 3) := dk_180 0 78 (dk_at dksX0_record_2 14 rfl rfl)
theorem dX0_record_62 : decode cX0_record 62 = .ok (.iload_n 1, 1) := dk_27 (dk_at dksX0_record_2 17 rfl rfl)
theorem dX0_record_63 : decode cX0_record 63 = .ok (.iaload, 1) := dk_46 (dk_at dksX0_record_2 18 rfl rfl)
theorem dX0_record_64 : decode cX0_record 64 = .ok (.goto 23, 3) := dk_167 0 23 (dk_at dksX0_record_2 19 rfl rfl)
theorem dX0_record_67 : decode cX0_record 67 = .ok (.iload_n 2, 1) := dk_28 (dk_at dksX0_record_2 22 rfl rfl)
theorem dX0_record_68 : decode cX0_record 68 = .ok (.iconst 2, 1) := dk_5 (dk_at dksX0_record_2 23 rfl rfl)
theorem dX0_record_69 : decode cX0_record 69 = .ok (.if_icmp .ne 12, 3) := dk_160 0 12 (dk_at dksX0_record_3 0 rfl rfl)
theorem dX0_record_72 : decode cX0_record 72 = .ok (.aload_n 0, 1) := dk_42 (dk_at dksX0_record_3 3 rfl rfl)
theorem dX0_record_73 : decode cX0_record 73 = .ok (.getfield 81, 3) := dk_180 0 81 (dk_at dksX0_record_3 4 rfl rfl)
theorem dX0_record_76 : decode cX0_record 76 = .ok (.iload_n 1, 1) := dk_27 (dk_at dksX0_record_3 7 rfl rfl)
theorem dX0_record_77 : decode cX0_record 77 = .ok (.iaload, 1) := dk_46 (dk_at dksX0_record_3 8 rfl rfl)
theorem dX0_record_78 : decode cX0_record 78 = .ok (.goto 9, 3) := dk_167 0 9 (dk_at dksX0_record_3 9 rfl rfl)
theorem dX0_record_81 : decode cX0_record 81 = .ok (.aload_n 0, 1) := dk_42 (dk_at dksX0_record_3 12 rfl rfl)
theorem dX0_record_82 : decode cX0_record 82 = .ok (.getfield 84, 3) := dk_180 0 84 (dk_at dksX0_record_3 13 rfl rfl)
theorem dX0_record_85 : decode cX0_record 85 = .ok (.iload_n 1, 1) := dk_27 (dk_at dksX0_record_3 16 rfl rfl)
theorem dX0_record_86 : decode cX0_record 86 = .ok (.iaload, 1) := dk_46 (dk_at dksX0_record_3 17 rfl rfl)
theorem dX0_record_87 : decode cX0_record 87 = .ok (.ireturn, 1) := dk_172 (dk_at dksX0_record_3 18 rfl rfl)
abbrev cX0_ledger : ByteArray := prog_1_method_77_code
def yX0_ledger : MethodName := ⟨RX0, "ledger", "(I)I"⟩
def dkwX0_ledger_3 : List UInt8 := [182, 1, 250, 132, 4, 1, 167, 255, 220, 44, 180, 1, 254, 172]
abbrev dktX0_ledger_3 : List UInt8 := dkwX0_ledger_3 ++ []
def dkwX0_ledger_2 : List UInt8 := [44, 42, 180, 0, 78, 21, 4, 46, 16, 6, 162, 0, 10, 42, 180, 0, 99, 167, 0, 7, 42, 180, 0, 106]
abbrev dktX0_ledger_2 : List UInt8 := dkwX0_ledger_2 ++ dktX0_ledger_3
def dkwX0_ledger_1 : List UInt8 := [187, 1, 246, 89, 27, 183, 1, 248, 77, 42, 2, 182, 1, 220, 62, 3, 54, 4, 21, 4, 29, 162, 0, 36]
abbrev dktX0_ledger_1 : List UInt8 := dkwX0_ledger_1 ++ dktX0_ledger_2
def dkwX0_ledger_0 : List UInt8 := [42, 180, 0, 10, 182, 0, 161, 153, 0, 13, 27, 133, 9, 10, 184, 0, 116, 154, 0, 6, 16, 254, 172]
abbrev dktX0_ledger_0 : List UInt8 := dkwX0_ledger_0 ++ dktX0_ledger_1
theorem dksX0_ledger_0 : cX0_ledger.data.toList.drop 0 = dktX0_ledger_0 := by decide +kernel
theorem dksX0_ledger_1 : cX0_ledger.data.toList.drop 23 = dktX0_ledger_1 := dk_seg dksX0_ledger_0 23 rfl rfl
theorem dksX0_ledger_2 : cX0_ledger.data.toList.drop 47 = dktX0_ledger_2 := dk_seg dksX0_ledger_1 24 rfl rfl
theorem dksX0_ledger_3 : cX0_ledger.data.toList.drop 71 = dktX0_ledger_3 := dk_seg dksX0_ledger_2 24 rfl rfl
theorem dX0_ledger_0 : decode cX0_ledger 0 = .ok (.aload_n 0, 1) := dk_42 (dk_at dksX0_ledger_0 0 rfl rfl)
theorem dX0_ledger_1 : decode cX0_ledger 1 = .ok (.getfield 10, 3) := dk_180 0 10 (dk_at dksX0_ledger_0 1 rfl rfl)
theorem dX0_ledger_4 : decode cX0_ledger 4 = .ok (.invokevirtual 161, 3) := dk_182 0 161 (dk_at dksX0_ledger_0 4 rfl rfl)
theorem dX0_ledger_7 : decode cX0_ledger 7 = .ok (.ifCond .eq 13, 3) := dk_153 0 13 (dk_at dksX0_ledger_0 7 rfl rfl)
theorem dX0_ledger_10 : decode cX0_ledger 10 = .ok (.iload_n 1, 1) := dk_27 (dk_at dksX0_ledger_0 10 rfl rfl)
theorem dX0_ledger_11 : decode cX0_ledger 11 = .ok (.i2l, 1) := dk_133 (dk_at dksX0_ledger_0 11 rfl rfl)
theorem dX0_ledger_12 : decode cX0_ledger 12 = .ok (.lconst 0, 1) := dk_9 (dk_at dksX0_ledger_0 12 rfl rfl)
theorem dX0_ledger_13 : decode cX0_ledger 13 = .ok (.lconst 1, 1) := dk_10 (dk_at dksX0_ledger_0 13 rfl rfl)
theorem dX0_ledger_14 : decode cX0_ledger 14 = .ok (.invokestatic 116, 3) := dk_184 0 116 (dk_at dksX0_ledger_0 14 rfl rfl)
theorem dX0_ledger_17 : decode cX0_ledger 17 = .ok (.ifCond .ne 6, 3) := dk_154 0 6 (dk_at dksX0_ledger_0 17 rfl rfl)
theorem dX0_ledger_20 : decode cX0_ledger 20 = .ok (.bipush (-2), 2) := dk_16 254 (dk_at dksX0_ledger_0 20 rfl rfl)
theorem dX0_ledger_22 : decode cX0_ledger 22 = .ok (.ireturn, 1) := dk_172 (dk_at dksX0_ledger_0 22 rfl rfl)
theorem dX0_ledger_23 : decode cX0_ledger 23 = .ok (.new 502, 3) := dk_187 1 246 (dk_at dksX0_ledger_1 0 rfl rfl)
theorem dX0_ledger_26 : decode cX0_ledger 26 = .ok (.dup, 1) := dk_89 (dk_at dksX0_ledger_1 3 rfl rfl)
theorem dX0_ledger_27 : decode cX0_ledger 27 = .ok (.iload_n 1, 1) := dk_27 (dk_at dksX0_ledger_1 4 rfl rfl)
theorem dX0_ledger_28 : decode cX0_ledger 28 = .ok (.invokespecial 504, 3) := dk_183 1 248 (dk_at dksX0_ledger_1 5 rfl rfl)
theorem dX0_ledger_31 : decode cX0_ledger 31 = .ok (.astore_n 2, 1) := dk_77 (dk_at dksX0_ledger_1 8 rfl rfl)
theorem dX0_ledger_32 : decode cX0_ledger 32 = .ok (.aload_n 0, 1) := dk_42 (dk_at dksX0_ledger_1 9 rfl rfl)
theorem dX0_ledger_33 : decode cX0_ledger 33 = .ok (.iconst (-1), 1) := dk_2 (dk_at dksX0_ledger_1 10 rfl rfl)
theorem dX0_ledger_34 : decode cX0_ledger 34 = .ok (.invokevirtual 476, 3) := dk_182 1 220 (dk_at dksX0_ledger_1 11 rfl rfl)
theorem dX0_ledger_37 : decode cX0_ledger 37 = .ok (.istore_n 3, 1) := dk_62 (dk_at dksX0_ledger_1 14 rfl rfl)
theorem dX0_ledger_38 : decode cX0_ledger 38 = .ok (.iconst 0, 1) := dk_3 (dk_at dksX0_ledger_1 15 rfl rfl)
theorem dX0_ledger_39 : decode cX0_ledger 39 = .ok (.istore 4, 2) := dk_54 4 (dk_at dksX0_ledger_1 16 rfl rfl)
theorem dX0_ledger_41 : decode cX0_ledger 41 = .ok (.iload 4, 2) := dk_21 4 (dk_at dksX0_ledger_1 18 rfl rfl)
theorem dX0_ledger_43 : decode cX0_ledger 43 = .ok (.iload_n 3, 1) := dk_29 (dk_at dksX0_ledger_1 20 rfl rfl)
theorem dX0_ledger_44 : decode cX0_ledger 44 = .ok (.if_icmp .ge 36, 3) := dk_162 0 36 (dk_at dksX0_ledger_1 21 rfl rfl)
theorem dX0_ledger_47 : decode cX0_ledger 47 = .ok (.aload_n 2, 1) := dk_44 (dk_at dksX0_ledger_2 0 rfl rfl)
theorem dX0_ledger_48 : decode cX0_ledger 48 = .ok (.aload_n 0, 1) := dk_42 (dk_at dksX0_ledger_2 1 rfl rfl)
theorem dX0_ledger_49 : decode cX0_ledger 49 = .ok (.getfield 78, 3) := dk_180 0 78 (dk_at dksX0_ledger_2 2 rfl rfl)
theorem dX0_ledger_52 : decode cX0_ledger 52 = .ok (.iload 4, 2) := dk_21 4 (dk_at dksX0_ledger_2 5 rfl rfl)
theorem dX0_ledger_54 : decode cX0_ledger 54 = .ok (.iaload, 1) := dk_46 (dk_at dksX0_ledger_2 7 rfl rfl)
theorem dX0_ledger_55 : decode cX0_ledger 55 = .ok (.bipush 6, 2) := dk_16 6 (dk_at dksX0_ledger_2 8 rfl rfl)
theorem dX0_ledger_57 : decode cX0_ledger 57 = .ok (.if_icmp .ge 10, 3) := dk_162 0 10 (dk_at dksX0_ledger_2 10 rfl rfl)
theorem dX0_ledger_60 : decode cX0_ledger 60 = .ok (.aload_n 0, 1) := dk_42 (dk_at dksX0_ledger_2 13 rfl rfl)
theorem dX0_ledger_61 : decode cX0_ledger 61 = .ok (.getfield 99, 3) := dk_180 0 99 (dk_at dksX0_ledger_2 14 rfl rfl)
theorem dX0_ledger_64 : decode cX0_ledger 64 = .ok (.goto 7, 3) := dk_167 0 7 (dk_at dksX0_ledger_2 17 rfl rfl)
theorem dX0_ledger_67 : decode cX0_ledger 67 = .ok (.aload_n 0, 1) := dk_42 (dk_at dksX0_ledger_2 20 rfl rfl)
theorem dX0_ledger_68 : decode cX0_ledger 68 = .ok (.getfield 106, 3) := dk_180 0 106 (dk_at dksX0_ledger_2 21 rfl rfl)
theorem dX0_ledger_71 : decode cX0_ledger 71 = .ok (.invokevirtual 506, 3) := dk_182 1 250 (dk_at dksX0_ledger_3 0 rfl rfl)
theorem dX0_ledger_74 : decode cX0_ledger 74 = .ok (.iinc 4 1, 3) := dk_132 4 1 (dk_at dksX0_ledger_3 3 rfl rfl)
theorem dX0_ledger_77 : decode cX0_ledger 77 = .ok (.goto (-36), 3) := dk_167 255 220 (dk_at dksX0_ledger_3 6 rfl rfl)
theorem dX0_ledger_80 : decode cX0_ledger 80 = .ok (.aload_n 2, 1) := dk_44 (dk_at dksX0_ledger_3 9 rfl rfl)
theorem dX0_ledger_81 : decode cX0_ledger 81 = .ok (.getfield 510, 3) := dk_180 1 254 (dk_at dksX0_ledger_3 10 rfl rfl)
theorem dX0_ledger_84 : decode cX0_ledger 84 = .ok (.ireturn, 1) := dk_172 (dk_at dksX0_ledger_3 13 rfl rfl)
abbrev cX0_kinds : ByteArray := prog_1_method_78_code
def yX0_kinds : MethodName := ⟨RX0, "kinds", "(I)I"⟩
def dkwX0_kinds_2 : List UInt8 := [21, 4, 46, 27, 160, 0, 7, 4, 167, 0, 4, 3, 96, 62, 132, 4, 1, 167, 255, 228, 29, 172]
abbrev dktX0_kinds_2 : List UInt8 := dkwX0_kinds_2 ++ []
def dkwX0_kinds_1 : List UInt8 := [172, 42, 2, 182, 1, 220, 61, 3, 62, 3, 54, 4, 21, 4, 28, 162, 0, 28, 29, 42, 180, 0, 78]
abbrev dktX0_kinds_1 : List UInt8 := dkwX0_kinds_1 ++ dktX0_kinds_2
def dkwX0_kinds_0 : List UInt8 := [42, 180, 0, 10, 182, 0, 161, 153, 0, 15, 27, 133, 10, 20, 2, 1, 184, 0, 116, 154, 0, 6, 16, 254]
abbrev dktX0_kinds_0 : List UInt8 := dkwX0_kinds_0 ++ dktX0_kinds_1
theorem dksX0_kinds_0 : cX0_kinds.data.toList.drop 0 = dktX0_kinds_0 := by decide +kernel
theorem dksX0_kinds_1 : cX0_kinds.data.toList.drop 24 = dktX0_kinds_1 := dk_seg dksX0_kinds_0 24 rfl rfl
theorem dksX0_kinds_2 : cX0_kinds.data.toList.drop 47 = dktX0_kinds_2 := dk_seg dksX0_kinds_1 23 rfl rfl
theorem dX0_kinds_0 : decode cX0_kinds 0 = .ok (.aload_n 0, 1) := dk_42 (dk_at dksX0_kinds_0 0 rfl rfl)
theorem dX0_kinds_1 : decode cX0_kinds 1 = .ok (.getfield 10, 3) := dk_180 0 10 (dk_at dksX0_kinds_0 1 rfl rfl)
theorem dX0_kinds_4 : decode cX0_kinds 4 = .ok (.invokevirtual 161, 3) := dk_182 0 161 (dk_at dksX0_kinds_0 4 rfl rfl)
theorem dX0_kinds_7 : decode cX0_kinds 7 = .ok (.ifCond .eq 15, 3) := dk_153 0 15 (dk_at dksX0_kinds_0 7 rfl rfl)
theorem dX0_kinds_10 : decode cX0_kinds 10 = .ok (.iload_n 1, 1) := dk_27 (dk_at dksX0_kinds_0 10 rfl rfl)
theorem dX0_kinds_11 : decode cX0_kinds 11 = .ok (.i2l, 1) := dk_133 (dk_at dksX0_kinds_0 11 rfl rfl)
theorem dX0_kinds_12 : decode cX0_kinds 12 = .ok (.lconst 1, 1) := dk_10 (dk_at dksX0_kinds_0 12 rfl rfl)
theorem dX0_kinds_13 : decode cX0_kinds 13 = .ok (.ldc2_w 513, 3) := dk_20 2 1 (dk_at dksX0_kinds_0 13 rfl rfl)
theorem dX0_kinds_16 : decode cX0_kinds 16 = .ok (.invokestatic 116, 3) := dk_184 0 116 (dk_at dksX0_kinds_0 16 rfl rfl)
theorem dX0_kinds_19 : decode cX0_kinds 19 = .ok (.ifCond .ne 6, 3) := dk_154 0 6 (dk_at dksX0_kinds_0 19 rfl rfl)
theorem dX0_kinds_22 : decode cX0_kinds 22 = .ok (.bipush (-2), 2) := dk_16 254 (dk_at dksX0_kinds_0 22 rfl rfl)
theorem dX0_kinds_24 : decode cX0_kinds 24 = .ok (.ireturn, 1) := dk_172 (dk_at dksX0_kinds_1 0 rfl rfl)
theorem dX0_kinds_25 : decode cX0_kinds 25 = .ok (.aload_n 0, 1) := dk_42 (dk_at dksX0_kinds_1 1 rfl rfl)
theorem dX0_kinds_26 : decode cX0_kinds 26 = .ok (.iconst (-1), 1) := dk_2 (dk_at dksX0_kinds_1 2 rfl rfl)
theorem dX0_kinds_27 : decode cX0_kinds 27 = .ok (.invokevirtual 476, 3) := dk_182 1 220 (dk_at dksX0_kinds_1 3 rfl rfl)
theorem dX0_kinds_30 : decode cX0_kinds 30 = .ok (.istore_n 2, 1) := dk_61 (dk_at dksX0_kinds_1 6 rfl rfl)
theorem dX0_kinds_31 : decode cX0_kinds 31 = .ok (.iconst 0, 1) := dk_3 (dk_at dksX0_kinds_1 7 rfl rfl)
theorem dX0_kinds_32 : decode cX0_kinds 32 = .ok (.istore_n 3, 1) := dk_62 (dk_at dksX0_kinds_1 8 rfl rfl)
theorem dX0_kinds_33 : decode cX0_kinds 33 = .ok (.iconst 0, 1) := dk_3 (dk_at dksX0_kinds_1 9 rfl rfl)
theorem dX0_kinds_34 : decode cX0_kinds 34 = .ok (.istore 4, 2) := dk_54 4 (dk_at dksX0_kinds_1 10 rfl rfl)
theorem dX0_kinds_36 : decode cX0_kinds 36 = .ok (.iload 4, 2) := dk_21 4 (dk_at dksX0_kinds_1 12 rfl rfl)
theorem dX0_kinds_38 : decode cX0_kinds 38 = .ok (.iload_n 2, 1) := dk_28 (dk_at dksX0_kinds_1 14 rfl rfl)
theorem dX0_kinds_39 : decode cX0_kinds 39 = .ok (.if_icmp .ge 28, 3) := dk_162 0 28 (dk_at dksX0_kinds_1 15 rfl rfl)
theorem dX0_kinds_42 : decode cX0_kinds 42 = .ok (.iload_n 3, 1) := dk_29 (dk_at dksX0_kinds_1 18 rfl rfl)
theorem dX0_kinds_43 : decode cX0_kinds 43 = .ok (.aload_n 0, 1) := dk_42 (dk_at dksX0_kinds_1 19 rfl rfl)
theorem dX0_kinds_44 : decode cX0_kinds 44 = .ok (.getfield 78, 3) := dk_180 0 78 (dk_at dksX0_kinds_1 20 rfl rfl)
theorem dX0_kinds_47 : decode cX0_kinds 47 = .ok (.iload 4, 2) := dk_21 4 (dk_at dksX0_kinds_2 0 rfl rfl)
theorem dX0_kinds_49 : decode cX0_kinds 49 = .ok (.iaload, 1) := dk_46 (dk_at dksX0_kinds_2 2 rfl rfl)
theorem dX0_kinds_50 : decode cX0_kinds 50 = .ok (.iload_n 1, 1) := dk_27 (dk_at dksX0_kinds_2 3 rfl rfl)
theorem dX0_kinds_51 : decode cX0_kinds 51 = .ok (.if_icmp .ne 7, 3) := dk_160 0 7 (dk_at dksX0_kinds_2 4 rfl rfl)
theorem dX0_kinds_54 : decode cX0_kinds 54 = .ok (.iconst 1, 1) := dk_4 (dk_at dksX0_kinds_2 7 rfl rfl)
theorem dX0_kinds_55 : decode cX0_kinds 55 = .ok (.goto 4, 3) := dk_167 0 4 (dk_at dksX0_kinds_2 8 rfl rfl)
theorem dX0_kinds_58 : decode cX0_kinds 58 = .ok (.iconst 0, 1) := dk_3 (dk_at dksX0_kinds_2 11 rfl rfl)
theorem dX0_kinds_59 : decode cX0_kinds 59 = .ok (.iadd, 1) := dk_96 (dk_at dksX0_kinds_2 12 rfl rfl)
theorem dX0_kinds_60 : decode cX0_kinds 60 = .ok (.istore_n 3, 1) := dk_62 (dk_at dksX0_kinds_2 13 rfl rfl)
theorem dX0_kinds_61 : decode cX0_kinds 61 = .ok (.iinc 4 1, 3) := dk_132 4 1 (dk_at dksX0_kinds_2 14 rfl rfl)
theorem dX0_kinds_64 : decode cX0_kinds 64 = .ok (.goto (-28), 3) := dk_167 255 228 (dk_at dksX0_kinds_2 17 rfl rfl)
theorem dX0_kinds_67 : decode cX0_kinds 67 = .ok (.iload_n 3, 1) := dk_29 (dk_at dksX0_kinds_2 20 rfl rfl)
theorem dX0_kinds_68 : decode cX0_kinds 68 = .ok (.ireturn, 1) := dk_172 (dk_at dksX0_kinds_2 21 rfl rfl)
abbrev cX0_levels : ByteArray := prog_1_method_79_code
def yX0_levels : MethodName := ⟨RX0, "levels", "(II)I"⟩
def dkwX0_levels_2 : List UInt8 := [21, 4, 46, 27, 160, 0, 7, 4, 167, 0, 4, 3, 96, 62, 132, 4, 1, 167, 255, 225, 29, 172]
abbrev dktX0_levels_2 : List UInt8 := dkwX0_levels_2 ++ []
def dkwX0_levels_1 : List UInt8 := [28, 2, 182, 1, 189, 3, 62, 3, 54, 4, 21, 4, 42, 180, 1, 64, 162, 0, 28, 29, 42, 180, 0, 84]
abbrev dktX0_levels_1 : List UInt8 := dkwX0_levels_1 ++ dktX0_levels_2
def dkwX0_levels_0 : List UInt8 := [42, 28, 182, 0, 172, 153, 0, 15, 27, 133, 9, 20, 1, 19, 184, 0, 116, 154, 0, 6, 16, 254, 172, 42]
abbrev dktX0_levels_0 : List UInt8 := dkwX0_levels_0 ++ dktX0_levels_1
theorem dksX0_levels_0 : cX0_levels.data.toList.drop 0 = dktX0_levels_0 := by decide +kernel
theorem dksX0_levels_1 : cX0_levels.data.toList.drop 24 = dktX0_levels_1 := dk_seg dksX0_levels_0 24 rfl rfl
theorem dksX0_levels_2 : cX0_levels.data.toList.drop 48 = dktX0_levels_2 := dk_seg dksX0_levels_1 24 rfl rfl
theorem dX0_levels_0 : decode cX0_levels 0 = .ok (.aload_n 0, 1) := dk_42 (dk_at dksX0_levels_0 0 rfl rfl)
theorem dX0_levels_1 : decode cX0_levels 1 = .ok (.iload_n 2, 1) := dk_28 (dk_at dksX0_levels_0 1 rfl rfl)
theorem dX0_levels_2 : decode cX0_levels 2 = .ok (.invokevirtual 172, 3) := dk_182 0 172 (dk_at dksX0_levels_0 2 rfl rfl)
theorem dX0_levels_5 : decode cX0_levels 5 = .ok (.ifCond .eq 15, 3) := dk_153 0 15 (dk_at dksX0_levels_0 5 rfl rfl)
theorem dX0_levels_8 : decode cX0_levels 8 = .ok (.iload_n 1, 1) := dk_27 (dk_at dksX0_levels_0 8 rfl rfl)
theorem dX0_levels_9 : decode cX0_levels 9 = .ok (.i2l, 1) := dk_133 (dk_at dksX0_levels_0 9 rfl rfl)
theorem dX0_levels_10 : decode cX0_levels 10 = .ok (.lconst 0, 1) := dk_9 (dk_at dksX0_levels_0 10 rfl rfl)
theorem dX0_levels_11 : decode cX0_levels 11 = .ok (.ldc2_w 275, 3) := dk_20 1 19 (dk_at dksX0_levels_0 11 rfl rfl)
theorem dX0_levels_14 : decode cX0_levels 14 = .ok (.invokestatic 116, 3) := dk_184 0 116 (dk_at dksX0_levels_0 14 rfl rfl)
theorem dX0_levels_17 : decode cX0_levels 17 = .ok (.ifCond .ne 6, 3) := dk_154 0 6 (dk_at dksX0_levels_0 17 rfl rfl)
theorem dX0_levels_20 : decode cX0_levels 20 = .ok (.bipush (-2), 2) := dk_16 254 (dk_at dksX0_levels_0 20 rfl rfl)
theorem dX0_levels_22 : decode cX0_levels 22 = .ok (.ireturn, 1) := dk_172 (dk_at dksX0_levels_0 22 rfl rfl)
theorem dX0_levels_23 : decode cX0_levels 23 = .ok (.aload_n 0, 1) := dk_42 (dk_at dksX0_levels_0 23 rfl rfl)
theorem dX0_levels_24 : decode cX0_levels 24 = .ok (.iload_n 2, 1) := dk_28 (dk_at dksX0_levels_1 0 rfl rfl)
theorem dX0_levels_25 : decode cX0_levels 25 = .ok (.iconst (-1), 1) := dk_2 (dk_at dksX0_levels_1 1 rfl rfl)
theorem dX0_levels_26 : decode cX0_levels 26 = .ok (.invokevirtual 445, 3) := dk_182 1 189 (dk_at dksX0_levels_1 2 rfl rfl)
theorem dX0_levels_29 : decode cX0_levels 29 = .ok (.iconst 0, 1) := dk_3 (dk_at dksX0_levels_1 5 rfl rfl)
theorem dX0_levels_30 : decode cX0_levels 30 = .ok (.istore_n 3, 1) := dk_62 (dk_at dksX0_levels_1 6 rfl rfl)
theorem dX0_levels_31 : decode cX0_levels 31 = .ok (.iconst 0, 1) := dk_3 (dk_at dksX0_levels_1 7 rfl rfl)
theorem dX0_levels_32 : decode cX0_levels 32 = .ok (.istore 4, 2) := dk_54 4 (dk_at dksX0_levels_1 8 rfl rfl)
theorem dX0_levels_34 : decode cX0_levels 34 = .ok (.iload 4, 2) := dk_21 4 (dk_at dksX0_levels_1 10 rfl rfl)
theorem dX0_levels_36 : decode cX0_levels 36 = .ok (.aload_n 0, 1) := dk_42 (dk_at dksX0_levels_1 12 rfl rfl)
theorem dX0_levels_37 : decode cX0_levels 37 = .ok (.getfield 320, 3) := dk_180 1 64 (dk_at dksX0_levels_1 13 rfl rfl)
theorem dX0_levels_40 : decode cX0_levels 40 = .ok (.if_icmp .ge 28, 3) := dk_162 0 28 (dk_at dksX0_levels_1 16 rfl rfl)
theorem dX0_levels_43 : decode cX0_levels 43 = .ok (.iload_n 3, 1) := dk_29 (dk_at dksX0_levels_1 19 rfl rfl)
theorem dX0_levels_44 : decode cX0_levels 44 = .ok (.aload_n 0, 1) := dk_42 (dk_at dksX0_levels_1 20 rfl rfl)
theorem dX0_levels_45 : decode cX0_levels 45 = .ok (.getfield 84, 3) := dk_180 0 84 (dk_at dksX0_levels_1 21 rfl rfl)
theorem dX0_levels_48 : decode cX0_levels 48 = .ok (.iload 4, 2) := dk_21 4 (dk_at dksX0_levels_2 0 rfl rfl)
theorem dX0_levels_50 : decode cX0_levels 50 = .ok (.iaload, 1) := dk_46 (dk_at dksX0_levels_2 2 rfl rfl)
theorem dX0_levels_51 : decode cX0_levels 51 = .ok (.iload_n 1, 1) := dk_27 (dk_at dksX0_levels_2 3 rfl rfl)
theorem dX0_levels_52 : decode cX0_levels 52 = .ok (.if_icmp .ne 7, 3) := dk_160 0 7 (dk_at dksX0_levels_2 4 rfl rfl)
theorem dX0_levels_55 : decode cX0_levels 55 = .ok (.iconst 1, 1) := dk_4 (dk_at dksX0_levels_2 7 rfl rfl)
theorem dX0_levels_56 : decode cX0_levels 56 = .ok (.goto 4, 3) := dk_167 0 4 (dk_at dksX0_levels_2 8 rfl rfl)
theorem dX0_levels_59 : decode cX0_levels 59 = .ok (.iconst 0, 1) := dk_3 (dk_at dksX0_levels_2 11 rfl rfl)
theorem dX0_levels_60 : decode cX0_levels 60 = .ok (.iadd, 1) := dk_96 (dk_at dksX0_levels_2 12 rfl rfl)
theorem dX0_levels_61 : decode cX0_levels 61 = .ok (.istore_n 3, 1) := dk_62 (dk_at dksX0_levels_2 13 rfl rfl)
theorem dX0_levels_62 : decode cX0_levels 62 = .ok (.iinc 4 1, 3) := dk_132 4 1 (dk_at dksX0_levels_2 14 rfl rfl)
theorem dX0_levels_65 : decode cX0_levels 65 = .ok (.goto (-31), 3) := dk_167 255 225 (dk_at dksX0_levels_2 17 rfl rfl)
theorem dX0_levels_68 : decode cX0_levels 68 = .ok (.iload_n 3, 1) := dk_29 (dk_at dksX0_levels_2 20 rfl rfl)
theorem dX0_levels_69 : decode cX0_levels 69 = .ok (.ireturn, 1) := dk_172 (dk_at dksX0_levels_2 21 rfl rfl)
abbrev cX0_halts : ByteArray := prog_1_method_80_code
def yX0_halts : MethodName := ⟨RX0, "halts", "()I"⟩
def dkwX0_halts_0 : List UInt8 := [42, 180, 0, 10, 182, 0, 161, 154, 0, 6, 16, 254, 172, 42, 2, 182, 1, 220, 87, 42, 180, 1, 70, 172]
abbrev dktX0_halts_0 : List UInt8 := dkwX0_halts_0 ++ []
theorem dksX0_halts_0 : cX0_halts.data.toList.drop 0 = dktX0_halts_0 := by decide +kernel
theorem dX0_halts_0 : decode cX0_halts 0 = .ok (.aload_n 0, 1) := dk_42 (dk_at dksX0_halts_0 0 rfl rfl)
theorem dX0_halts_1 : decode cX0_halts 1 = .ok (.getfield 10, 3) := dk_180 0 10 (dk_at dksX0_halts_0 1 rfl rfl)
theorem dX0_halts_4 : decode cX0_halts 4 = .ok (.invokevirtual 161, 3) := dk_182 0 161 (dk_at dksX0_halts_0 4 rfl rfl)
theorem dX0_halts_7 : decode cX0_halts 7 = .ok (.ifCond .ne 6, 3) := dk_154 0 6 (dk_at dksX0_halts_0 7 rfl rfl)
theorem dX0_halts_10 : decode cX0_halts 10 = .ok (.bipush (-2), 2) := dk_16 254 (dk_at dksX0_halts_0 10 rfl rfl)
theorem dX0_halts_12 : decode cX0_halts 12 = .ok (.ireturn, 1) := dk_172 (dk_at dksX0_halts_0 12 rfl rfl)
theorem dX0_halts_13 : decode cX0_halts 13 = .ok (.aload_n 0, 1) := dk_42 (dk_at dksX0_halts_0 13 rfl rfl)
theorem dX0_halts_14 : decode cX0_halts 14 = .ok (.iconst (-1), 1) := dk_2 (dk_at dksX0_halts_0 14 rfl rfl)
theorem dX0_halts_15 : decode cX0_halts 15 = .ok (.invokevirtual 476, 3) := dk_182 1 220 (dk_at dksX0_halts_0 15 rfl rfl)
theorem dX0_halts_18 : decode cX0_halts 18 = .ok (.pop, 1) := dk_87 (dk_at dksX0_halts_0 18 rfl rfl)
theorem dX0_halts_19 : decode cX0_halts 19 = .ok (.aload_n 0, 1) := dk_42 (dk_at dksX0_halts_0 19 rfl rfl)
theorem dX0_halts_20 : decode cX0_halts 20 = .ok (.getfield 326, 3) := dk_180 1 70 (dk_at dksX0_halts_0 20 rfl rfl)
theorem dX0_halts_23 : decode cX0_halts 23 = .ok (.ireturn, 1) := dk_172 (dk_at dksX0_halts_0 23 rfl rfl)
abbrev cX0_sleeps : ByteArray := prog_1_method_81_code
def yX0_sleeps : MethodName := ⟨RX0, "sleeps", "(II)I"⟩
def dkwX0_sleeps_2 : List UInt8 := [167, 0, 4, 3, 172]
abbrev dktX0_sleeps_2 : List UInt8 := dkwX0_sleeps_2 ++ []
def dkwX0_sleeps_1 : List UInt8 := [154, 0, 6, 16, 254, 172, 42, 28, 2, 182, 1, 189, 42, 27, 28, 182, 1, 160, 153, 0, 7, 4]
abbrev dktX0_sleeps_1 : List UInt8 := dkwX0_sleeps_1 ++ dktX0_sleeps_2
def dkwX0_sleeps_0 : List UInt8 := [27, 133, 9, 42, 180, 0, 10, 180, 0, 209, 4, 100, 133, 184, 0, 116, 153, 0, 11, 42, 28, 182, 0, 172]
abbrev dktX0_sleeps_0 : List UInt8 := dkwX0_sleeps_0 ++ dktX0_sleeps_1
theorem dksX0_sleeps_0 : cX0_sleeps.data.toList.drop 0 = dktX0_sleeps_0 := by decide +kernel
theorem dksX0_sleeps_1 : cX0_sleeps.data.toList.drop 24 = dktX0_sleeps_1 := dk_seg dksX0_sleeps_0 24 rfl rfl
theorem dksX0_sleeps_2 : cX0_sleeps.data.toList.drop 46 = dktX0_sleeps_2 := dk_seg dksX0_sleeps_1 22 rfl rfl
theorem dX0_sleeps_0 : decode cX0_sleeps 0 = .ok (.iload_n 1, 1) := dk_27 (dk_at dksX0_sleeps_0 0 rfl rfl)
theorem dX0_sleeps_1 : decode cX0_sleeps 1 = .ok (.i2l, 1) := dk_133 (dk_at dksX0_sleeps_0 1 rfl rfl)
theorem dX0_sleeps_2 : decode cX0_sleeps 2 = .ok (.lconst 0, 1) := dk_9 (dk_at dksX0_sleeps_0 2 rfl rfl)
theorem dX0_sleeps_3 : decode cX0_sleeps 3 = .ok (.aload_n 0, 1) := dk_42 (dk_at dksX0_sleeps_0 3 rfl rfl)
theorem dX0_sleeps_4 : decode cX0_sleeps 4 = .ok (.getfield 10, 3) := dk_180 0 10 (dk_at dksX0_sleeps_0 4 rfl rfl)
theorem dX0_sleeps_7 : decode cX0_sleeps 7 = .ok (.getfield 209, 3) := dk_180 0 209 (dk_at dksX0_sleeps_0 7 rfl rfl)
theorem dX0_sleeps_10 : decode cX0_sleeps 10 = .ok (.iconst 1, 1) := dk_4 (dk_at dksX0_sleeps_0 10 rfl rfl)
theorem dX0_sleeps_11 : decode cX0_sleeps 11 = .ok (.isub, 1) := dk_100 (dk_at dksX0_sleeps_0 11 rfl rfl)
theorem dX0_sleeps_12 : decode cX0_sleeps 12 = .ok (.i2l, 1) := dk_133 (dk_at dksX0_sleeps_0 12 rfl rfl)
theorem dX0_sleeps_13 : decode cX0_sleeps 13 = .ok (.invokestatic 116, 3) := dk_184 0 116 (dk_at dksX0_sleeps_0 13 rfl rfl)
theorem dX0_sleeps_16 : decode cX0_sleeps 16 = .ok (.ifCond .eq 11, 3) := dk_153 0 11 (dk_at dksX0_sleeps_0 16 rfl rfl)
theorem dX0_sleeps_19 : decode cX0_sleeps 19 = .ok (.aload_n 0, 1) := dk_42 (dk_at dksX0_sleeps_0 19 rfl rfl)
theorem dX0_sleeps_20 : decode cX0_sleeps 20 = .ok (.iload_n 2, 1) := dk_28 (dk_at dksX0_sleeps_0 20 rfl rfl)
theorem dX0_sleeps_21 : decode cX0_sleeps 21 = .ok (.invokevirtual 172, 3) := dk_182 0 172 (dk_at dksX0_sleeps_0 21 rfl rfl)
theorem dX0_sleeps_24 : decode cX0_sleeps 24 = .ok (.ifCond .ne 6, 3) := dk_154 0 6 (dk_at dksX0_sleeps_1 0 rfl rfl)
theorem dX0_sleeps_27 : decode cX0_sleeps 27 = .ok (.bipush (-2), 2) := dk_16 254 (dk_at dksX0_sleeps_1 3 rfl rfl)
theorem dX0_sleeps_29 : decode cX0_sleeps 29 = .ok (.ireturn, 1) := dk_172 (dk_at dksX0_sleeps_1 5 rfl rfl)
theorem dX0_sleeps_30 : decode cX0_sleeps 30 = .ok (.aload_n 0, 1) := dk_42 (dk_at dksX0_sleeps_1 6 rfl rfl)
theorem dX0_sleeps_31 : decode cX0_sleeps 31 = .ok (.iload_n 2, 1) := dk_28 (dk_at dksX0_sleeps_1 7 rfl rfl)
theorem dX0_sleeps_32 : decode cX0_sleeps 32 = .ok (.iconst (-1), 1) := dk_2 (dk_at dksX0_sleeps_1 8 rfl rfl)
theorem dX0_sleeps_33 : decode cX0_sleeps 33 = .ok (.invokevirtual 445, 3) := dk_182 1 189 (dk_at dksX0_sleeps_1 9 rfl rfl)
theorem dX0_sleeps_36 : decode cX0_sleeps 36 = .ok (.aload_n 0, 1) := dk_42 (dk_at dksX0_sleeps_1 12 rfl rfl)
theorem dX0_sleeps_37 : decode cX0_sleeps 37 = .ok (.iload_n 1, 1) := dk_27 (dk_at dksX0_sleeps_1 13 rfl rfl)
theorem dX0_sleeps_38 : decode cX0_sleeps 38 = .ok (.iload_n 2, 1) := dk_28 (dk_at dksX0_sleeps_1 14 rfl rfl)
theorem dX0_sleeps_39 : decode cX0_sleeps 39 = .ok (.invokevirtual 416, 3) := dk_182 1 160 (dk_at dksX0_sleeps_1 15 rfl rfl)
theorem dX0_sleeps_42 : decode cX0_sleeps 42 = .ok (.ifCond .eq 7, 3) := dk_153 0 7 (dk_at dksX0_sleeps_1 18 rfl rfl)
theorem dX0_sleeps_45 : decode cX0_sleeps 45 = .ok (.iconst 1, 1) := dk_4 (dk_at dksX0_sleeps_1 21 rfl rfl)
theorem dX0_sleeps_46 : decode cX0_sleeps 46 = .ok (.goto 4, 3) := dk_167 0 4 (dk_at dksX0_sleeps_2 0 rfl rfl)
theorem dX0_sleeps_49 : decode cX0_sleeps 49 = .ok (.iconst 0, 1) := dk_3 (dk_at dksX0_sleeps_2 3 rfl rfl)
theorem dX0_sleeps_50 : decode cX0_sleeps 50 = .ok (.ireturn, 1) := dk_172 (dk_at dksX0_sleeps_2 4 rfl rfl)
abbrev cX0_caught : ByteArray := prog_1_method_83_code
def yX0_caught : MethodName := ⟨RX0, "caught", "(I)I"⟩
def dkwX0_caught_0 : List UInt8 := [42, 27, 182, 0, 215, 153, 0, 11, 42, 27, 182, 2, 3, 167, 0, 5, 16, 254, 172]
abbrev dktX0_caught_0 : List UInt8 := dkwX0_caught_0 ++ []
theorem dksX0_caught_0 : cX0_caught.data.toList.drop 0 = dktX0_caught_0 := by decide +kernel
theorem dX0_caught_0 : decode cX0_caught 0 = .ok (.aload_n 0, 1) := dk_42 (dk_at dksX0_caught_0 0 rfl rfl)
theorem dX0_caught_1 : decode cX0_caught 1 = .ok (.iload_n 1, 1) := dk_27 (dk_at dksX0_caught_0 1 rfl rfl)
theorem dX0_caught_2 : decode cX0_caught 2 = .ok (.invokevirtual 215, 3) := dk_182 0 215 (dk_at dksX0_caught_0 2 rfl rfl)
theorem dX0_caught_5 : decode cX0_caught 5 = .ok (.ifCond .eq 11, 3) := dk_153 0 11 (dk_at dksX0_caught_0 5 rfl rfl)
theorem dX0_caught_8 : decode cX0_caught 8 = .ok (.aload_n 0, 1) := dk_42 (dk_at dksX0_caught_0 8 rfl rfl)
theorem dX0_caught_9 : decode cX0_caught 9 = .ok (.iload_n 1, 1) := dk_27 (dk_at dksX0_caught_0 9 rfl rfl)
theorem dX0_caught_10 : decode cX0_caught 10 = .ok (.invokevirtual 515, 3) := dk_182 2 3 (dk_at dksX0_caught_0 10 rfl rfl)
theorem dX0_caught_13 : decode cX0_caught 13 = .ok (.goto 5, 3) := dk_167 0 5 (dk_at dksX0_caught_0 13 rfl rfl)
theorem dX0_caught_16 : decode cX0_caught 16 = .ok (.bipush (-2), 2) := dk_16 254 (dk_at dksX0_caught_0 16 rfl rfl)
theorem dX0_caught_18 : decode cX0_caught 18 = .ok (.ireturn, 1) := dk_172 (dk_at dksX0_caught_0 18 rfl rfl)
abbrev cX0_caughtOf : ByteArray := prog_1_method_84_code
def yX0_caughtOf : MethodName := ⟨RX0, "caughtOf", "(I)I"⟩
def dkwX0_caughtOf_4 : List UInt8 := [132, 5, 1, 167, 255, 208, 2, 172]
abbrev dktX0_caughtOf_4 : List UInt8 := dkwX0_caughtOf_4 ++ []
def dkwX0_caughtOf_3 : List UInt8 := [161, 0, 24, 42, 21, 5, 44, 182, 2, 6, 153, 0, 14, 42, 180, 0, 75, 21, 5, 46, 21, 4, 100, 172]
abbrev dktX0_caughtOf_3 : List UInt8 := dkwX0_caughtOf_3 ++ dktX0_caughtOf_4
def dkwX0_caughtOf_2 : List UInt8 := [54, 5, 21, 5, 29, 162, 0, 48, 21, 4, 2, 159, 0, 42, 42, 180, 0, 75, 21, 5, 46, 21, 4]
abbrev dktX0_caughtOf_2 : List UInt8 := dkwX0_caughtOf_2 ++ dktX0_caughtOf_3
def dkwX0_caughtOf_1 : List UInt8 := [180, 0, 220, 8, 160, 0, 10, 44, 180, 0, 224, 167, 0, 9, 42, 180, 0, 93, 27, 46, 54, 4, 3]
abbrev dktX0_caughtOf_1 : List UInt8 := dkwX0_caughtOf_1 ++ dktX0_caughtOf_2
def dkwX0_caughtOf_0 : List UInt8 := [42, 180, 0, 10, 180, 0, 175, 27, 182, 0, 153, 192, 0, 218, 77, 42, 2, 182, 1, 220, 62, 44]
abbrev dktX0_caughtOf_0 : List UInt8 := dkwX0_caughtOf_0 ++ dktX0_caughtOf_1
theorem dksX0_caughtOf_0 : cX0_caughtOf.data.toList.drop 0 = dktX0_caughtOf_0 := by decide +kernel
theorem dksX0_caughtOf_1 : cX0_caughtOf.data.toList.drop 22 = dktX0_caughtOf_1 := dk_seg dksX0_caughtOf_0 22 rfl rfl
theorem dksX0_caughtOf_2 : cX0_caughtOf.data.toList.drop 45 = dktX0_caughtOf_2 := dk_seg dksX0_caughtOf_1 23 rfl rfl
theorem dksX0_caughtOf_3 : cX0_caughtOf.data.toList.drop 68 = dktX0_caughtOf_3 := dk_seg dksX0_caughtOf_2 23 rfl rfl
theorem dksX0_caughtOf_4 : cX0_caughtOf.data.toList.drop 92 = dktX0_caughtOf_4 := dk_seg dksX0_caughtOf_3 24 rfl rfl
theorem dX0_caughtOf_0 : decode cX0_caughtOf 0 = .ok (.aload_n 0, 1) := dk_42 (dk_at dksX0_caughtOf_0 0 rfl rfl)
theorem dX0_caughtOf_1 : decode cX0_caughtOf 1 = .ok (.getfield 10, 3) := dk_180 0 10 (dk_at dksX0_caughtOf_0 1 rfl rfl)
theorem dX0_caughtOf_4 : decode cX0_caughtOf 4 = .ok (.getfield 175, 3) := dk_180 0 175 (dk_at dksX0_caughtOf_0 4 rfl rfl)
theorem dX0_caughtOf_7 : decode cX0_caughtOf 7 = .ok (.iload_n 1, 1) := dk_27 (dk_at dksX0_caughtOf_0 7 rfl rfl)
theorem dX0_caughtOf_8 : decode cX0_caughtOf 8 = .ok (.invokevirtual 153, 3) := dk_182 0 153 (dk_at dksX0_caughtOf_0 8 rfl rfl)
theorem dX0_caughtOf_11 : decode cX0_caughtOf 11 = .ok (.checkcast 218, 3) := dk_192 0 218 (dk_at dksX0_caughtOf_0 11 rfl rfl)
theorem dX0_caughtOf_14 : decode cX0_caughtOf 14 = .ok (.astore_n 2, 1) := dk_77 (dk_at dksX0_caughtOf_0 14 rfl rfl)
theorem dX0_caughtOf_15 : decode cX0_caughtOf 15 = .ok (.aload_n 0, 1) := dk_42 (dk_at dksX0_caughtOf_0 15 rfl rfl)
theorem dX0_caughtOf_16 : decode cX0_caughtOf 16 = .ok (.iconst (-1), 1) := dk_2 (dk_at dksX0_caughtOf_0 16 rfl rfl)
theorem dX0_caughtOf_17 : decode cX0_caughtOf 17 = .ok (.invokevirtual 476, 3) := dk_182 1 220 (dk_at dksX0_caughtOf_0 17 rfl rfl)
theorem dX0_caughtOf_20 : decode cX0_caughtOf 20 = .ok (.istore_n 3, 1) := dk_62 (dk_at dksX0_caughtOf_0 20 rfl rfl)
theorem dX0_caughtOf_21 : decode cX0_caughtOf 21 = .ok (.aload_n 2, 1) := dk_44 (dk_at dksX0_caughtOf_0 21 rfl rfl)
theorem dX0_caughtOf_22 : decode cX0_caughtOf 22 = .ok (.getfield 220, 3) := dk_180 0 220 (dk_at dksX0_caughtOf_1 0 rfl rfl)
theorem dX0_caughtOf_25 : decode cX0_caughtOf 25 = .ok (.iconst 5, 1) := dk_8 (dk_at dksX0_caughtOf_1 3 rfl rfl)
theorem dX0_caughtOf_26 : decode cX0_caughtOf 26 = .ok (.if_icmp .ne 10, 3) := dk_160 0 10 (dk_at dksX0_caughtOf_1 4 rfl rfl)
theorem dX0_caughtOf_29 : decode cX0_caughtOf 29 = .ok (.aload_n 2, 1) := dk_44 (dk_at dksX0_caughtOf_1 7 rfl rfl)
theorem dX0_caughtOf_30 : decode cX0_caughtOf 30 = .ok (.getfield 224, 3) := dk_180 0 224 (dk_at dksX0_caughtOf_1 8 rfl rfl)
theorem dX0_caughtOf_33 : decode cX0_caughtOf 33 = .ok (.goto 9, 3) := dk_167 0 9 (dk_at dksX0_caughtOf_1 11 rfl rfl)
theorem dX0_caughtOf_36 : decode cX0_caughtOf 36 = .ok (.aload_n 0, 1) := dk_42 (dk_at dksX0_caughtOf_1 14 rfl rfl)
theorem dX0_caughtOf_37 : decode cX0_caughtOf 37 = .ok (.getfield 93, 3) := dk_180 0 93 (dk_at dksX0_caughtOf_1 15 rfl rfl)
theorem dX0_caughtOf_40 : decode cX0_caughtOf 40 = .ok (.iload_n 1, 1) := dk_27 (dk_at dksX0_caughtOf_1 18 rfl rfl)
theorem dX0_caughtOf_41 : decode cX0_caughtOf 41 = .ok (.iaload, 1) := dk_46 (dk_at dksX0_caughtOf_1 19 rfl rfl)
theorem dX0_caughtOf_42 : decode cX0_caughtOf 42 = .ok (.istore 4, 2) := dk_54 4 (dk_at dksX0_caughtOf_1 20 rfl rfl)
theorem dX0_caughtOf_44 : decode cX0_caughtOf 44 = .ok (.iconst 0, 1) := dk_3 (dk_at dksX0_caughtOf_1 22 rfl rfl)
theorem dX0_caughtOf_45 : decode cX0_caughtOf 45 = .ok (.istore 5, 2) := dk_54 5 (dk_at dksX0_caughtOf_2 0 rfl rfl)
theorem dX0_caughtOf_47 : decode cX0_caughtOf 47 = .ok (.iload 5, 2) := dk_21 5 (dk_at dksX0_caughtOf_2 2 rfl rfl)
theorem dX0_caughtOf_49 : decode cX0_caughtOf 49 = .ok (.iload_n 3, 1) := dk_29 (dk_at dksX0_caughtOf_2 4 rfl rfl)
theorem dX0_caughtOf_50 : decode cX0_caughtOf 50 = .ok (.if_icmp .ge 48, 3) := dk_162 0 48 (dk_at dksX0_caughtOf_2 5 rfl rfl)
theorem dX0_caughtOf_53 : decode cX0_caughtOf 53 = .ok (.iload 4, 2) := dk_21 4 (dk_at dksX0_caughtOf_2 8 rfl rfl)
theorem dX0_caughtOf_55 : decode cX0_caughtOf 55 = .ok (.iconst (-1), 1) := dk_2 (dk_at dksX0_caughtOf_2 10 rfl rfl)
theorem dX0_caughtOf_56 : decode cX0_caughtOf 56 = .ok (.if_icmp .eq 42, 3) := dk_159 0 42 (dk_at dksX0_caughtOf_2 11 rfl rfl)
theorem dX0_caughtOf_59 : decode cX0_caughtOf 59 = .ok (.aload_n 0, 1) := dk_42 (dk_at dksX0_caughtOf_2 14 rfl rfl)
theorem dX0_caughtOf_60 : decode cX0_caughtOf 60 = .ok (.getfield 75, 3) := dk_180 0 75 (dk_at dksX0_caughtOf_2 15 rfl rfl)
theorem dX0_caughtOf_63 : decode cX0_caughtOf 63 = .ok (.iload 5, 2) := dk_21 5 (dk_at dksX0_caughtOf_2 18 rfl rfl)
theorem dX0_caughtOf_65 : decode cX0_caughtOf 65 = .ok (.iaload, 1) := dk_46 (dk_at dksX0_caughtOf_2 20 rfl rfl)
theorem dX0_caughtOf_66 : decode cX0_caughtOf 66 = .ok (.iload 4, 2) := dk_21 4 (dk_at dksX0_caughtOf_2 21 rfl rfl)
theorem dX0_caughtOf_68 : decode cX0_caughtOf 68 = .ok (.if_icmp .lt 24, 3) := dk_161 0 24 (dk_at dksX0_caughtOf_3 0 rfl rfl)
theorem dX0_caughtOf_71 : decode cX0_caughtOf 71 = .ok (.aload_n 0, 1) := dk_42 (dk_at dksX0_caughtOf_3 3 rfl rfl)
theorem dX0_caughtOf_72 : decode cX0_caughtOf 72 = .ok (.iload 5, 2) := dk_21 5 (dk_at dksX0_caughtOf_3 4 rfl rfl)
theorem dX0_caughtOf_74 : decode cX0_caughtOf 74 = .ok (.aload_n 2, 1) := dk_44 (dk_at dksX0_caughtOf_3 6 rfl rfl)
theorem dX0_caughtOf_75 : decode cX0_caughtOf 75 = .ok (.invokevirtual 518, 3) := dk_182 2 6 (dk_at dksX0_caughtOf_3 7 rfl rfl)
theorem dX0_caughtOf_78 : decode cX0_caughtOf 78 = .ok (.ifCond .eq 14, 3) := dk_153 0 14 (dk_at dksX0_caughtOf_3 10 rfl rfl)
theorem dX0_caughtOf_81 : decode cX0_caughtOf 81 = .ok (.aload_n 0, 1) := dk_42 (dk_at dksX0_caughtOf_3 13 rfl rfl)
theorem dX0_caughtOf_82 : decode cX0_caughtOf 82 = .ok (.getfield 75, 3) := dk_180 0 75 (dk_at dksX0_caughtOf_3 14 rfl rfl)
theorem dX0_caughtOf_85 : decode cX0_caughtOf 85 = .ok (.iload 5, 2) := dk_21 5 (dk_at dksX0_caughtOf_3 17 rfl rfl)
theorem dX0_caughtOf_87 : decode cX0_caughtOf 87 = .ok (.iaload, 1) := dk_46 (dk_at dksX0_caughtOf_3 19 rfl rfl)
theorem dX0_caughtOf_88 : decode cX0_caughtOf 88 = .ok (.iload 4, 2) := dk_21 4 (dk_at dksX0_caughtOf_3 20 rfl rfl)
theorem dX0_caughtOf_90 : decode cX0_caughtOf 90 = .ok (.isub, 1) := dk_100 (dk_at dksX0_caughtOf_3 22 rfl rfl)
theorem dX0_caughtOf_91 : decode cX0_caughtOf 91 = .ok (.ireturn, 1) := dk_172 (dk_at dksX0_caughtOf_3 23 rfl rfl)
theorem dX0_caughtOf_92 : decode cX0_caughtOf 92 = .ok (.iinc 5 1, 3) := dk_132 5 1 (dk_at dksX0_caughtOf_4 0 rfl rfl)
theorem dX0_caughtOf_95 : decode cX0_caughtOf 95 = .ok (.goto (-48), 3) := dk_167 255 208 (dk_at dksX0_caughtOf_4 3 rfl rfl)
theorem dX0_caughtOf_98 : decode cX0_caughtOf 98 = .ok (.iconst (-1), 1) := dk_2 (dk_at dksX0_caughtOf_4 6 rfl rfl)
theorem dX0_caughtOf_99 : decode cX0_caughtOf 99 = .ok (.ireturn, 1) := dk_172 (dk_at dksX0_caughtOf_4 7 rfl rfl)
abbrev cX0_isRecordOf : ByteArray := prog_1_method_82_code
def yX0_isRecordOf : MethodName := ⟨RX0, "isRecordOf", "(ILWatchStack$Injection;)Z"⟩
def dkwX0_isRecordOf_2 : List UInt8 := [161, 0, 20, 42, 180, 0, 81, 27, 46, 44, 180, 0, 221, 160, 0, 7, 4, 167, 0, 4, 3, 172]
abbrev dktX0_isRecordOf_2 : List UInt8 := dkwX0_isRecordOf_2 ++ []
def dkwX0_isRecordOf_1 : List UInt8 := [46, 44, 180, 0, 221, 160, 0, 7, 4, 167, 0, 4, 3, 172, 42, 180, 0, 78, 27, 46, 16, 6]
abbrev dktX0_isRecordOf_1 : List UInt8 := dkwX0_isRecordOf_1 ++ dktX0_isRecordOf_2
def dkwX0_isRecordOf_0 : List UInt8 := [44, 180, 0, 220, 8, 159, 0, 33, 42, 180, 0, 78, 27, 46, 16, 6, 162, 0, 20, 42, 180, 0, 81, 27]
abbrev dktX0_isRecordOf_0 : List UInt8 := dkwX0_isRecordOf_0 ++ dktX0_isRecordOf_1
theorem dksX0_isRecordOf_0 : cX0_isRecordOf.data.toList.drop 0 = dktX0_isRecordOf_0 := by decide +kernel
theorem dksX0_isRecordOf_1 : cX0_isRecordOf.data.toList.drop 24 = dktX0_isRecordOf_1 := dk_seg dksX0_isRecordOf_0 24 rfl rfl
theorem dksX0_isRecordOf_2 : cX0_isRecordOf.data.toList.drop 46 = dktX0_isRecordOf_2 := dk_seg dksX0_isRecordOf_1 22 rfl rfl
theorem dX0_isRecordOf_0 : decode cX0_isRecordOf 0 = .ok (.aload_n 2, 1) := dk_44 (dk_at dksX0_isRecordOf_0 0 rfl rfl)
theorem dX0_isRecordOf_1 : decode cX0_isRecordOf 1 = .ok (.getfield 220, 3) := dk_180 0 220 (dk_at dksX0_isRecordOf_0 1 rfl rfl)
theorem dX0_isRecordOf_4 : decode cX0_isRecordOf 4 = .ok (.iconst 5, 1) := dk_8 (dk_at dksX0_isRecordOf_0 4 rfl rfl)
theorem dX0_isRecordOf_5 : decode cX0_isRecordOf 5 = .ok (.if_icmp .eq 33, 3) := dk_159 0 33 (dk_at dksX0_isRecordOf_0 5 rfl rfl)
theorem dX0_isRecordOf_8 : decode cX0_isRecordOf 8 = .ok (.aload_n 0, 1) := dk_42 (dk_at dksX0_isRecordOf_0 8 rfl rfl)
theorem dX0_isRecordOf_9 : decode cX0_isRecordOf 9 = .ok (.getfield 78, 3) := dk_180 0 78 (dk_at dksX0_isRecordOf_0 9 rfl rfl)
theorem dX0_isRecordOf_12 : decode cX0_isRecordOf 12 = .ok (.iload_n 1, 1) := dk_27 (dk_at dksX0_isRecordOf_0 12 rfl rfl)
theorem dX0_isRecordOf_13 : decode cX0_isRecordOf 13 = .ok (.iaload, 1) := dk_46 (dk_at dksX0_isRecordOf_0 13 rfl rfl)
theorem dX0_isRecordOf_14 : decode cX0_isRecordOf 14 = .ok (.bipush 6, 2) := dk_16 6 (dk_at dksX0_isRecordOf_0 14 rfl rfl)
theorem dX0_isRecordOf_16 : decode cX0_isRecordOf 16 = .ok (.if_icmp .ge 20, 3) := dk_162 0 20 (dk_at dksX0_isRecordOf_0 16 rfl rfl)
theorem dX0_isRecordOf_19 : decode cX0_isRecordOf 19 = .ok (.aload_n 0, 1) := dk_42 (dk_at dksX0_isRecordOf_0 19 rfl rfl)
theorem dX0_isRecordOf_20 : decode cX0_isRecordOf 20 = .ok (.getfield 81, 3) := dk_180 0 81 (dk_at dksX0_isRecordOf_0 20 rfl rfl)
theorem dX0_isRecordOf_23 : decode cX0_isRecordOf 23 = .ok (.iload_n 1, 1) := dk_27 (dk_at dksX0_isRecordOf_0 23 rfl rfl)
theorem dX0_isRecordOf_24 : decode cX0_isRecordOf 24 = .ok (.iaload, 1) := dk_46 (dk_at dksX0_isRecordOf_1 0 rfl rfl)
theorem dX0_isRecordOf_25 : decode cX0_isRecordOf 25 = .ok (.aload_n 2, 1) := dk_44 (dk_at dksX0_isRecordOf_1 1 rfl rfl)
theorem dX0_isRecordOf_26 : decode cX0_isRecordOf 26 = .ok (.getfield 221, 3) := dk_180 0 221 (dk_at dksX0_isRecordOf_1 2 rfl rfl)
theorem dX0_isRecordOf_29 : decode cX0_isRecordOf 29 = .ok (.if_icmp .ne 7, 3) := dk_160 0 7 (dk_at dksX0_isRecordOf_1 5 rfl rfl)
theorem dX0_isRecordOf_32 : decode cX0_isRecordOf 32 = .ok (.iconst 1, 1) := dk_4 (dk_at dksX0_isRecordOf_1 8 rfl rfl)
theorem dX0_isRecordOf_33 : decode cX0_isRecordOf 33 = .ok (.goto 4, 3) := dk_167 0 4 (dk_at dksX0_isRecordOf_1 9 rfl rfl)
theorem dX0_isRecordOf_36 : decode cX0_isRecordOf 36 = .ok (.iconst 0, 1) := dk_3 (dk_at dksX0_isRecordOf_1 12 rfl rfl)
theorem dX0_isRecordOf_37 : decode cX0_isRecordOf 37 = .ok (.ireturn, 1) := dk_172 (dk_at dksX0_isRecordOf_1 13 rfl rfl)
theorem dX0_isRecordOf_38 : decode cX0_isRecordOf 38 = .ok (.aload_n 0, 1) := dk_42 (dk_at dksX0_isRecordOf_1 14 rfl rfl)
theorem dX0_isRecordOf_39 : decode cX0_isRecordOf 39 = .ok (.getfield 78, 3) := dk_180 0 78 (dk_at dksX0_isRecordOf_1 15 rfl rfl)
theorem dX0_isRecordOf_42 : decode cX0_isRecordOf 42 = .ok (.iload_n 1, 1) := dk_27 (dk_at dksX0_isRecordOf_1 18 rfl rfl)
theorem dX0_isRecordOf_43 : decode cX0_isRecordOf 43 = .ok (.iaload, 1) := dk_46 (dk_at dksX0_isRecordOf_1 19 rfl rfl)
theorem dX0_isRecordOf_44 : decode cX0_isRecordOf 44 = .ok (.bipush 6, 2) := dk_16 6 (dk_at dksX0_isRecordOf_1 20 rfl rfl)
theorem dX0_isRecordOf_46 : decode cX0_isRecordOf 46 = .ok (.if_icmp .lt 20, 3) := dk_161 0 20 (dk_at dksX0_isRecordOf_2 0 rfl rfl)
theorem dX0_isRecordOf_49 : decode cX0_isRecordOf 49 = .ok (.aload_n 0, 1) := dk_42 (dk_at dksX0_isRecordOf_2 3 rfl rfl)
theorem dX0_isRecordOf_50 : decode cX0_isRecordOf 50 = .ok (.getfield 81, 3) := dk_180 0 81 (dk_at dksX0_isRecordOf_2 4 rfl rfl)
theorem dX0_isRecordOf_53 : decode cX0_isRecordOf 53 = .ok (.iload_n 1, 1) := dk_27 (dk_at dksX0_isRecordOf_2 7 rfl rfl)
theorem dX0_isRecordOf_54 : decode cX0_isRecordOf 54 = .ok (.iaload, 1) := dk_46 (dk_at dksX0_isRecordOf_2 8 rfl rfl)
theorem dX0_isRecordOf_55 : decode cX0_isRecordOf 55 = .ok (.aload_n 2, 1) := dk_44 (dk_at dksX0_isRecordOf_2 9 rfl rfl)
theorem dX0_isRecordOf_56 : decode cX0_isRecordOf 56 = .ok (.getfield 221, 3) := dk_180 0 221 (dk_at dksX0_isRecordOf_2 10 rfl rfl)
theorem dX0_isRecordOf_59 : decode cX0_isRecordOf 59 = .ok (.if_icmp .ne 7, 3) := dk_160 0 7 (dk_at dksX0_isRecordOf_2 13 rfl rfl)
theorem dX0_isRecordOf_62 : decode cX0_isRecordOf 62 = .ok (.iconst 1, 1) := dk_4 (dk_at dksX0_isRecordOf_2 16 rfl rfl)
theorem dX0_isRecordOf_63 : decode cX0_isRecordOf 63 = .ok (.goto 4, 3) := dk_167 0 4 (dk_at dksX0_isRecordOf_2 17 rfl rfl)
theorem dX0_isRecordOf_66 : decode cX0_isRecordOf 66 = .ok (.iconst 0, 1) := dk_3 (dk_at dksX0_isRecordOf_2 20 rfl rfl)
theorem dX0_isRecordOf_67 : decode cX0_isRecordOf 67 = .ok (.ireturn, 1) := dk_172 (dk_at dksX0_isRecordOf_2 21 rfl rfl)
abbrev cX0_without : ByteArray := prog_1_method_85_code
def yX0_without : MethodName := ⟨RX0, "without", "(I)I"⟩
def dkwX0_without_0 : List UInt8 := [42, 27, 182, 0, 215, 153, 0, 11, 42, 27, 182, 1, 220, 167, 0, 5, 16, 254, 172]
abbrev dktX0_without_0 : List UInt8 := dkwX0_without_0 ++ []
theorem dksX0_without_0 : cX0_without.data.toList.drop 0 = dktX0_without_0 := by decide +kernel
theorem dX0_without_0 : decode cX0_without 0 = .ok (.aload_n 0, 1) := dk_42 (dk_at dksX0_without_0 0 rfl rfl)
theorem dX0_without_1 : decode cX0_without 1 = .ok (.iload_n 1, 1) := dk_27 (dk_at dksX0_without_0 1 rfl rfl)
theorem dX0_without_2 : decode cX0_without 2 = .ok (.invokevirtual 215, 3) := dk_182 0 215 (dk_at dksX0_without_0 2 rfl rfl)
theorem dX0_without_5 : decode cX0_without 5 = .ok (.ifCond .eq 11, 3) := dk_153 0 11 (dk_at dksX0_without_0 5 rfl rfl)
theorem dX0_without_8 : decode cX0_without 8 = .ok (.aload_n 0, 1) := dk_42 (dk_at dksX0_without_0 8 rfl rfl)
theorem dX0_without_9 : decode cX0_without 9 = .ok (.iload_n 1, 1) := dk_27 (dk_at dksX0_without_0 9 rfl rfl)
theorem dX0_without_10 : decode cX0_without 10 = .ok (.invokevirtual 476, 3) := dk_182 1 220 (dk_at dksX0_without_0 10 rfl rfl)
theorem dX0_without_13 : decode cX0_without 13 = .ok (.goto 5, 3) := dk_167 0 5 (dk_at dksX0_without_0 13 rfl rfl)
theorem dX0_without_16 : decode cX0_without 16 = .ok (.bipush (-2), 2) := dk_16 254 (dk_at dksX0_without_0 16 rfl rfl)
theorem dX0_without_18 : decode cX0_without 18 = .ok (.ireturn, 1) := dk_172 (dk_at dksX0_without_0 18 rfl rfl)
abbrev cX0_blame : ByteArray := prog_1_method_86_code
def yX0_blame : MethodName := ⟨RX0, "blame", "()I"⟩
def dkwX0_blame_2 : List UInt8 := [161, 0, 6, 167, 0, 8, 29, 61, 21, 4, 60, 132, 3, 1, 167, 255, 218, 28, 172]
abbrev dktX0_blame_2 : List UInt8 := dkwX0_blame_2 ++ []
def dkwX0_blame_1 : List UInt8 := [42, 180, 0, 10, 180, 0, 175, 182, 0, 147, 162, 0, 30, 42, 29, 182, 1, 220, 54, 4, 21, 4, 27]
abbrev dktX0_blame_1 : List UInt8 := dkwX0_blame_1 ++ dktX0_blame_2
def dkwX0_blame_0 : List UInt8 := [42, 180, 0, 10, 182, 0, 161, 154, 0, 6, 16, 254, 172, 42, 2, 182, 1, 220, 60, 2, 61, 3, 62, 29]
abbrev dktX0_blame_0 : List UInt8 := dkwX0_blame_0 ++ dktX0_blame_1
theorem dksX0_blame_0 : cX0_blame.data.toList.drop 0 = dktX0_blame_0 := by decide +kernel
theorem dksX0_blame_1 : cX0_blame.data.toList.drop 24 = dktX0_blame_1 := dk_seg dksX0_blame_0 24 rfl rfl
theorem dksX0_blame_2 : cX0_blame.data.toList.drop 47 = dktX0_blame_2 := dk_seg dksX0_blame_1 23 rfl rfl
theorem dX0_blame_0 : decode cX0_blame 0 = .ok (.aload_n 0, 1) := dk_42 (dk_at dksX0_blame_0 0 rfl rfl)
theorem dX0_blame_1 : decode cX0_blame 1 = .ok (.getfield 10, 3) := dk_180 0 10 (dk_at dksX0_blame_0 1 rfl rfl)
theorem dX0_blame_4 : decode cX0_blame 4 = .ok (.invokevirtual 161, 3) := dk_182 0 161 (dk_at dksX0_blame_0 4 rfl rfl)
theorem dX0_blame_7 : decode cX0_blame 7 = .ok (.ifCond .ne 6, 3) := dk_154 0 6 (dk_at dksX0_blame_0 7 rfl rfl)
theorem dX0_blame_10 : decode cX0_blame 10 = .ok (.bipush (-2), 2) := dk_16 254 (dk_at dksX0_blame_0 10 rfl rfl)
theorem dX0_blame_12 : decode cX0_blame 12 = .ok (.ireturn, 1) := dk_172 (dk_at dksX0_blame_0 12 rfl rfl)
theorem dX0_blame_13 : decode cX0_blame 13 = .ok (.aload_n 0, 1) := dk_42 (dk_at dksX0_blame_0 13 rfl rfl)
theorem dX0_blame_14 : decode cX0_blame 14 = .ok (.iconst (-1), 1) := dk_2 (dk_at dksX0_blame_0 14 rfl rfl)
theorem dX0_blame_15 : decode cX0_blame 15 = .ok (.invokevirtual 476, 3) := dk_182 1 220 (dk_at dksX0_blame_0 15 rfl rfl)
theorem dX0_blame_18 : decode cX0_blame 18 = .ok (.istore_n 1, 1) := dk_60 (dk_at dksX0_blame_0 18 rfl rfl)
theorem dX0_blame_19 : decode cX0_blame 19 = .ok (.iconst (-1), 1) := dk_2 (dk_at dksX0_blame_0 19 rfl rfl)
theorem dX0_blame_20 : decode cX0_blame 20 = .ok (.istore_n 2, 1) := dk_61 (dk_at dksX0_blame_0 20 rfl rfl)
theorem dX0_blame_21 : decode cX0_blame 21 = .ok (.iconst 0, 1) := dk_3 (dk_at dksX0_blame_0 21 rfl rfl)
theorem dX0_blame_22 : decode cX0_blame 22 = .ok (.istore_n 3, 1) := dk_62 (dk_at dksX0_blame_0 22 rfl rfl)
theorem dX0_blame_23 : decode cX0_blame 23 = .ok (.iload_n 3, 1) := dk_29 (dk_at dksX0_blame_0 23 rfl rfl)
theorem dX0_blame_24 : decode cX0_blame 24 = .ok (.aload_n 0, 1) := dk_42 (dk_at dksX0_blame_1 0 rfl rfl)
theorem dX0_blame_25 : decode cX0_blame 25 = .ok (.getfield 10, 3) := dk_180 0 10 (dk_at dksX0_blame_1 1 rfl rfl)
theorem dX0_blame_28 : decode cX0_blame 28 = .ok (.getfield 175, 3) := dk_180 0 175 (dk_at dksX0_blame_1 4 rfl rfl)
theorem dX0_blame_31 : decode cX0_blame 31 = .ok (.invokevirtual 147, 3) := dk_182 0 147 (dk_at dksX0_blame_1 7 rfl rfl)
theorem dX0_blame_34 : decode cX0_blame 34 = .ok (.if_icmp .ge 30, 3) := dk_162 0 30 (dk_at dksX0_blame_1 10 rfl rfl)
theorem dX0_blame_37 : decode cX0_blame 37 = .ok (.aload_n 0, 1) := dk_42 (dk_at dksX0_blame_1 13 rfl rfl)
theorem dX0_blame_38 : decode cX0_blame 38 = .ok (.iload_n 3, 1) := dk_29 (dk_at dksX0_blame_1 14 rfl rfl)
theorem dX0_blame_39 : decode cX0_blame 39 = .ok (.invokevirtual 476, 3) := dk_182 1 220 (dk_at dksX0_blame_1 15 rfl rfl)
theorem dX0_blame_42 : decode cX0_blame 42 = .ok (.istore 4, 2) := dk_54 4 (dk_at dksX0_blame_1 18 rfl rfl)
theorem dX0_blame_44 : decode cX0_blame 44 = .ok (.iload 4, 2) := dk_21 4 (dk_at dksX0_blame_1 20 rfl rfl)
theorem dX0_blame_46 : decode cX0_blame 46 = .ok (.iload_n 1, 1) := dk_27 (dk_at dksX0_blame_1 22 rfl rfl)
theorem dX0_blame_47 : decode cX0_blame 47 = .ok (.if_icmp .lt 6, 3) := dk_161 0 6 (dk_at dksX0_blame_2 0 rfl rfl)
theorem dX0_blame_50 : decode cX0_blame 50 = .ok (.goto 8, 3) := dk_167 0 8 (dk_at dksX0_blame_2 3 rfl rfl)
theorem dX0_blame_53 : decode cX0_blame 53 = .ok (.iload_n 3, 1) := dk_29 (dk_at dksX0_blame_2 6 rfl rfl)
theorem dX0_blame_54 : decode cX0_blame 54 = .ok (.istore_n 2, 1) := dk_61 (dk_at dksX0_blame_2 7 rfl rfl)
theorem dX0_blame_55 : decode cX0_blame 55 = .ok (.iload 4, 2) := dk_21 4 (dk_at dksX0_blame_2 8 rfl rfl)
theorem dX0_blame_57 : decode cX0_blame 57 = .ok (.istore_n 1, 1) := dk_60 (dk_at dksX0_blame_2 10 rfl rfl)
theorem dX0_blame_58 : decode cX0_blame 58 = .ok (.iinc 3 1, 3) := dk_132 3 1 (dk_at dksX0_blame_2 11 rfl rfl)
theorem dX0_blame_61 : decode cX0_blame 61 = .ok (.goto (-38), 3) := dk_167 255 218 (dk_at dksX0_blame_2 14 rfl rfl)
theorem dX0_blame_64 : decode cX0_blame 64 = .ok (.iload_n 2, 1) := dk_28 (dk_at dksX0_blame_2 17 rfl rfl)
theorem dX0_blame_65 : decode cX0_blame 65 = .ok (.ireturn, 1) := dk_172 (dk_at dksX0_blame_2 18 rfl rfl)
abbrev cX0_with : ByteArray := prog_1_method_88_code
def yX0_with : MethodName := ⟨RX0, "with", "(III)I"⟩
def dkwX0_with_1 : List UInt8 := [164, 0, 19, 29, 16, 120, 163, 0, 13, 42, 27, 28, 29, 182, 2, 23, 167, 0, 5, 16, 254, 172]
abbrev dktX0_with_1 : List UInt8 := dkwX0_with_1 ++ []
def dkwX0_with_0 : List UInt8 := [42, 27, 182, 0, 168, 153, 0, 36, 28, 133, 9, 20, 2, 21, 184, 0, 116, 153, 0, 24, 29, 28]
abbrev dktX0_with_0 : List UInt8 := dkwX0_with_0 ++ dktX0_with_1
theorem dksX0_with_0 : cX0_with.data.toList.drop 0 = dktX0_with_0 := by decide +kernel
theorem dksX0_with_1 : cX0_with.data.toList.drop 22 = dktX0_with_1 := dk_seg dksX0_with_0 22 rfl rfl
theorem dX0_with_0 : decode cX0_with 0 = .ok (.aload_n 0, 1) := dk_42 (dk_at dksX0_with_0 0 rfl rfl)
theorem dX0_with_1 : decode cX0_with 1 = .ok (.iload_n 1, 1) := dk_27 (dk_at dksX0_with_0 1 rfl rfl)
theorem dX0_with_2 : decode cX0_with 2 = .ok (.invokevirtual 168, 3) := dk_182 0 168 (dk_at dksX0_with_0 2 rfl rfl)
theorem dX0_with_5 : decode cX0_with 5 = .ok (.ifCond .eq 36, 3) := dk_153 0 36 (dk_at dksX0_with_0 5 rfl rfl)
theorem dX0_with_8 : decode cX0_with 8 = .ok (.iload_n 2, 1) := dk_28 (dk_at dksX0_with_0 8 rfl rfl)
theorem dX0_with_9 : decode cX0_with 9 = .ok (.i2l, 1) := dk_133 (dk_at dksX0_with_0 9 rfl rfl)
theorem dX0_with_10 : decode cX0_with 10 = .ok (.lconst 0, 1) := dk_9 (dk_at dksX0_with_0 10 rfl rfl)
theorem dX0_with_11 : decode cX0_with 11 = .ok (.ldc2_w 533, 3) := dk_20 2 21 (dk_at dksX0_with_0 11 rfl rfl)
theorem dX0_with_14 : decode cX0_with 14 = .ok (.invokestatic 116, 3) := dk_184 0 116 (dk_at dksX0_with_0 14 rfl rfl)
theorem dX0_with_17 : decode cX0_with 17 = .ok (.ifCond .eq 24, 3) := dk_153 0 24 (dk_at dksX0_with_0 17 rfl rfl)
theorem dX0_with_20 : decode cX0_with 20 = .ok (.iload_n 3, 1) := dk_29 (dk_at dksX0_with_0 20 rfl rfl)
theorem dX0_with_21 : decode cX0_with 21 = .ok (.iload_n 2, 1) := dk_28 (dk_at dksX0_with_0 21 rfl rfl)
theorem dX0_with_22 : decode cX0_with 22 = .ok (.if_icmp .le 19, 3) := dk_164 0 19 (dk_at dksX0_with_1 0 rfl rfl)
theorem dX0_with_25 : decode cX0_with 25 = .ok (.iload_n 3, 1) := dk_29 (dk_at dksX0_with_1 3 rfl rfl)
theorem dX0_with_26 : decode cX0_with 26 = .ok (.bipush 120, 2) := dk_16 120 (dk_at dksX0_with_1 4 rfl rfl)
theorem dX0_with_28 : decode cX0_with 28 = .ok (.if_icmp .gt 13, 3) := dk_163 0 13 (dk_at dksX0_with_1 6 rfl rfl)
theorem dX0_with_31 : decode cX0_with 31 = .ok (.aload_n 0, 1) := dk_42 (dk_at dksX0_with_1 9 rfl rfl)
theorem dX0_with_32 : decode cX0_with 32 = .ok (.iload_n 1, 1) := dk_27 (dk_at dksX0_with_1 10 rfl rfl)
theorem dX0_with_33 : decode cX0_with 33 = .ok (.iload_n 2, 1) := dk_28 (dk_at dksX0_with_1 11 rfl rfl)
theorem dX0_with_34 : decode cX0_with 34 = .ok (.iload_n 3, 1) := dk_29 (dk_at dksX0_with_1 12 rfl rfl)
theorem dX0_with_35 : decode cX0_with 35 = .ok (.invokevirtual 535, 3) := dk_182 2 23 (dk_at dksX0_with_1 13 rfl rfl)
theorem dX0_with_38 : decode cX0_with 38 = .ok (.goto 5, 3) := dk_167 0 5 (dk_at dksX0_with_1 16 rfl rfl)
theorem dX0_with_41 : decode cX0_with 41 = .ok (.bipush (-2), 2) := dk_16 254 (dk_at dksX0_with_1 19 rfl rfl)
theorem dX0_with_43 : decode cX0_with 43 = .ok (.ireturn, 1) := dk_172 (dk_at dksX0_with_1 21 rfl rfl)
abbrev cX0_allWith : ByteArray := prog_1_method_87_code
def yX0_allWith : MethodName := ⟨RX0, "allWith", "(III)I"⟩
def dkwX0_allWith_4 : List UInt8 := [184, 2, 15, 25, 7, 191]
abbrev dktX0_allWith_4 : List UInt8 := dkwX0_allWith_4 ++ []
def dkwX0_allWith_3 : List UInt8 := [58, 7, 25, 4, 3, 42, 180, 0, 87, 3, 8, 184, 2, 15, 25, 5, 3, 42, 180, 0, 90, 3, 8]
abbrev dktX0_allWith_3 : List UInt8 := dkwX0_allWith_3 ++ dktX0_allWith_4
def dkwX0_allWith_2 : List UInt8 := [42, 180, 0, 87, 3, 8, 184, 2, 15, 25, 5, 3, 42, 180, 0, 90, 3, 8, 184, 2, 15, 21, 6, 172]
abbrev dktX0_allWith_2 : List UInt8 := dkwX0_allWith_2 ++ dktX0_allWith_3
def dkwX0_allWith_1 : List UInt8 := [42, 180, 0, 87, 27, 28, 79, 42, 180, 0, 90, 27, 29, 79, 42, 2, 182, 1, 220, 54, 6, 25, 4, 3]
abbrev dktX0_allWith_1 : List UInt8 := dkwX0_allWith_1 ++ dktX0_allWith_2
def dkwX0_allWith_0 : List UInt8 := [42, 180, 0, 87, 182, 2, 10, 192, 2, 11, 58, 4, 42, 180, 0, 90, 182, 2, 10, 192, 2, 11, 58, 5]
abbrev dktX0_allWith_0 : List UInt8 := dkwX0_allWith_0 ++ dktX0_allWith_1
theorem dksX0_allWith_0 : cX0_allWith.data.toList.drop 0 = dktX0_allWith_0 := by decide +kernel
theorem dksX0_allWith_1 : cX0_allWith.data.toList.drop 24 = dktX0_allWith_1 := dk_seg dksX0_allWith_0 24 rfl rfl
theorem dksX0_allWith_2 : cX0_allWith.data.toList.drop 48 = dktX0_allWith_2 := dk_seg dksX0_allWith_1 24 rfl rfl
theorem dksX0_allWith_3 : cX0_allWith.data.toList.drop 72 = dktX0_allWith_3 := dk_seg dksX0_allWith_2 24 rfl rfl
theorem dksX0_allWith_4 : cX0_allWith.data.toList.drop 95 = dktX0_allWith_4 := dk_seg dksX0_allWith_3 23 rfl rfl
theorem dX0_allWith_0 : decode cX0_allWith 0 = .ok (.aload_n 0, 1) := dk_42 (dk_at dksX0_allWith_0 0 rfl rfl)
theorem dX0_allWith_1 : decode cX0_allWith 1 = .ok (.getfield 87, 3) := dk_180 0 87 (dk_at dksX0_allWith_0 1 rfl rfl)
theorem dX0_allWith_4 : decode cX0_allWith 4 = .ok (.invokevirtual 522, 3) := dk_182 2 10 (dk_at dksX0_allWith_0 4 rfl rfl)
theorem dX0_allWith_7 : decode cX0_allWith 7 = .ok (.checkcast 523, 3) := dk_192 2 11 (dk_at dksX0_allWith_0 7 rfl rfl)
theorem dX0_allWith_10 : decode cX0_allWith 10 = .ok (.astore 4, 2) := dk_58 4 (dk_at dksX0_allWith_0 10 rfl rfl)
theorem dX0_allWith_12 : decode cX0_allWith 12 = .ok (.aload_n 0, 1) := dk_42 (dk_at dksX0_allWith_0 12 rfl rfl)
theorem dX0_allWith_13 : decode cX0_allWith 13 = .ok (.getfield 90, 3) := dk_180 0 90 (dk_at dksX0_allWith_0 13 rfl rfl)
theorem dX0_allWith_16 : decode cX0_allWith 16 = .ok (.invokevirtual 522, 3) := dk_182 2 10 (dk_at dksX0_allWith_0 16 rfl rfl)
theorem dX0_allWith_19 : decode cX0_allWith 19 = .ok (.checkcast 523, 3) := dk_192 2 11 (dk_at dksX0_allWith_0 19 rfl rfl)
theorem dX0_allWith_22 : decode cX0_allWith 22 = .ok (.astore 5, 2) := dk_58 5 (dk_at dksX0_allWith_0 22 rfl rfl)
theorem dX0_allWith_24 : decode cX0_allWith 24 = .ok (.aload_n 0, 1) := dk_42 (dk_at dksX0_allWith_1 0 rfl rfl)
theorem dX0_allWith_25 : decode cX0_allWith 25 = .ok (.getfield 87, 3) := dk_180 0 87 (dk_at dksX0_allWith_1 1 rfl rfl)
theorem dX0_allWith_28 : decode cX0_allWith 28 = .ok (.iload_n 1, 1) := dk_27 (dk_at dksX0_allWith_1 4 rfl rfl)
theorem dX0_allWith_29 : decode cX0_allWith 29 = .ok (.iload_n 2, 1) := dk_28 (dk_at dksX0_allWith_1 5 rfl rfl)
theorem dX0_allWith_30 : decode cX0_allWith 30 = .ok (.iastore, 1) := dk_79 (dk_at dksX0_allWith_1 6 rfl rfl)
theorem dX0_allWith_31 : decode cX0_allWith 31 = .ok (.aload_n 0, 1) := dk_42 (dk_at dksX0_allWith_1 7 rfl rfl)
theorem dX0_allWith_32 : decode cX0_allWith 32 = .ok (.getfield 90, 3) := dk_180 0 90 (dk_at dksX0_allWith_1 8 rfl rfl)
theorem dX0_allWith_35 : decode cX0_allWith 35 = .ok (.iload_n 1, 1) := dk_27 (dk_at dksX0_allWith_1 11 rfl rfl)
theorem dX0_allWith_36 : decode cX0_allWith 36 = .ok (.iload_n 3, 1) := dk_29 (dk_at dksX0_allWith_1 12 rfl rfl)
theorem dX0_allWith_37 : decode cX0_allWith 37 = .ok (.iastore, 1) := dk_79 (dk_at dksX0_allWith_1 13 rfl rfl)
theorem dX0_allWith_38 : decode cX0_allWith 38 = .ok (.aload_n 0, 1) := dk_42 (dk_at dksX0_allWith_1 14 rfl rfl)
theorem dX0_allWith_39 : decode cX0_allWith 39 = .ok (.iconst (-1), 1) := dk_2 (dk_at dksX0_allWith_1 15 rfl rfl)
theorem dX0_allWith_40 : decode cX0_allWith 40 = .ok (.invokevirtual 476, 3) := dk_182 1 220 (dk_at dksX0_allWith_1 16 rfl rfl)
theorem dX0_allWith_43 : decode cX0_allWith 43 = .ok (.istore 6, 2) := dk_54 6 (dk_at dksX0_allWith_1 19 rfl rfl)
theorem dX0_allWith_45 : decode cX0_allWith 45 = .ok (.aload 4, 2) := dk_25 4 (dk_at dksX0_allWith_1 21 rfl rfl)
theorem dX0_allWith_47 : decode cX0_allWith 47 = .ok (.iconst 0, 1) := dk_3 (dk_at dksX0_allWith_1 23 rfl rfl)
theorem dX0_allWith_48 : decode cX0_allWith 48 = .ok (.aload_n 0, 1) := dk_42 (dk_at dksX0_allWith_2 0 rfl rfl)
theorem dX0_allWith_49 : decode cX0_allWith 49 = .ok (.getfield 87, 3) := dk_180 0 87 (dk_at dksX0_allWith_2 1 rfl rfl)
theorem dX0_allWith_52 : decode cX0_allWith 52 = .ok (.iconst 0, 1) := dk_3 (dk_at dksX0_allWith_2 4 rfl rfl)
theorem dX0_allWith_53 : decode cX0_allWith 53 = .ok (.iconst 5, 1) := dk_8 (dk_at dksX0_allWith_2 5 rfl rfl)
theorem dX0_allWith_54 : decode cX0_allWith 54 = .ok (.invokestatic 527, 3) := dk_184 2 15 (dk_at dksX0_allWith_2 6 rfl rfl)
theorem dX0_allWith_57 : decode cX0_allWith 57 = .ok (.aload 5, 2) := dk_25 5 (dk_at dksX0_allWith_2 9 rfl rfl)
theorem dX0_allWith_59 : decode cX0_allWith 59 = .ok (.iconst 0, 1) := dk_3 (dk_at dksX0_allWith_2 11 rfl rfl)
theorem dX0_allWith_60 : decode cX0_allWith 60 = .ok (.aload_n 0, 1) := dk_42 (dk_at dksX0_allWith_2 12 rfl rfl)
theorem dX0_allWith_61 : decode cX0_allWith 61 = .ok (.getfield 90, 3) := dk_180 0 90 (dk_at dksX0_allWith_2 13 rfl rfl)
theorem dX0_allWith_64 : decode cX0_allWith 64 = .ok (.iconst 0, 1) := dk_3 (dk_at dksX0_allWith_2 16 rfl rfl)
theorem dX0_allWith_65 : decode cX0_allWith 65 = .ok (.iconst 5, 1) := dk_8 (dk_at dksX0_allWith_2 17 rfl rfl)
theorem dX0_allWith_66 : decode cX0_allWith 66 = .ok (.invokestatic 527, 3) := dk_184 2 15 (dk_at dksX0_allWith_2 18 rfl rfl)
theorem dX0_allWith_69 : decode cX0_allWith 69 = .ok (.iload 6, 2) := dk_21 6 (dk_at dksX0_allWith_2 21 rfl rfl)
theorem dX0_allWith_71 : decode cX0_allWith 71 = .ok (.ireturn, 1) := dk_172 (dk_at dksX0_allWith_2 23 rfl rfl)
theorem dX0_allWith_72 : decode cX0_allWith 72 = .ok (.astore 7, 2) := dk_58 7 (dk_at dksX0_allWith_3 0 rfl rfl)
theorem dX0_allWith_74 : decode cX0_allWith 74 = .ok (.aload 4, 2) := dk_25 4 (dk_at dksX0_allWith_3 2 rfl rfl)
theorem dX0_allWith_76 : decode cX0_allWith 76 = .ok (.iconst 0, 1) := dk_3 (dk_at dksX0_allWith_3 4 rfl rfl)
theorem dX0_allWith_77 : decode cX0_allWith 77 = .ok (.aload_n 0, 1) := dk_42 (dk_at dksX0_allWith_3 5 rfl rfl)
theorem dX0_allWith_78 : decode cX0_allWith 78 = .ok (.getfield 87, 3) := dk_180 0 87 (dk_at dksX0_allWith_3 6 rfl rfl)
theorem dX0_allWith_81 : decode cX0_allWith 81 = .ok (.iconst 0, 1) := dk_3 (dk_at dksX0_allWith_3 9 rfl rfl)
theorem dX0_allWith_82 : decode cX0_allWith 82 = .ok (.iconst 5, 1) := dk_8 (dk_at dksX0_allWith_3 10 rfl rfl)
theorem dX0_allWith_83 : decode cX0_allWith 83 = .ok (.invokestatic 527, 3) := dk_184 2 15 (dk_at dksX0_allWith_3 11 rfl rfl)
theorem dX0_allWith_86 : decode cX0_allWith 86 = .ok (.aload 5, 2) := dk_25 5 (dk_at dksX0_allWith_3 14 rfl rfl)
theorem dX0_allWith_88 : decode cX0_allWith 88 = .ok (.iconst 0, 1) := dk_3 (dk_at dksX0_allWith_3 16 rfl rfl)
theorem dX0_allWith_89 : decode cX0_allWith 89 = .ok (.aload_n 0, 1) := dk_42 (dk_at dksX0_allWith_3 17 rfl rfl)
theorem dX0_allWith_90 : decode cX0_allWith 90 = .ok (.getfield 90, 3) := dk_180 0 90 (dk_at dksX0_allWith_3 18 rfl rfl)
theorem dX0_allWith_93 : decode cX0_allWith 93 = .ok (.iconst 0, 1) := dk_3 (dk_at dksX0_allWith_3 21 rfl rfl)
theorem dX0_allWith_94 : decode cX0_allWith 94 = .ok (.iconst 5, 1) := dk_8 (dk_at dksX0_allWith_3 22 rfl rfl)
theorem dX0_allWith_95 : decode cX0_allWith 95 = .ok (.invokestatic 527, 3) := dk_184 2 15 (dk_at dksX0_allWith_4 0 rfl rfl)
theorem dX0_allWith_98 : decode cX0_allWith 98 = .ok (.aload 7, 2) := dk_25 7 (dk_at dksX0_allWith_4 3 rfl rfl)
theorem dX0_allWith_100 : decode cX0_allWith 100 = .ok (.athrow, 1) := dk_191 (dk_at dksX0_allWith_4 5 rfl rfl)
abbrev cX0_tight : ByteArray := prog_1_method_89_code
def yX0_tight : MethodName := ⟨RX0, "tight", "(I)I"⟩
def dkwX0_tight_2 : List UInt8 := [29, 172]
abbrev dktX0_tight_2 : List UInt8 := dkwX0_tight_2 ++ []
def dkwX0_tight_1 : List UInt8 := [96, 62, 42, 27, 42, 180, 0, 87, 27, 46, 29, 182, 2, 23, 28, 164, 0, 9, 132, 3, 1, 167, 255, 237]
abbrev dktX0_tight_1 : List UInt8 := dkwX0_tight_1 ++ dktX0_tight_2
def dkwX0_tight_0 : List UInt8 := [42, 27, 182, 0, 168, 154, 0, 6, 16, 254, 172, 42, 2, 182, 1, 220, 61, 42, 180, 0, 87, 27, 46, 4]
abbrev dktX0_tight_0 : List UInt8 := dkwX0_tight_0 ++ dktX0_tight_1
theorem dksX0_tight_0 : cX0_tight.data.toList.drop 0 = dktX0_tight_0 := by decide +kernel
theorem dksX0_tight_1 : cX0_tight.data.toList.drop 24 = dktX0_tight_1 := dk_seg dksX0_tight_0 24 rfl rfl
theorem dksX0_tight_2 : cX0_tight.data.toList.drop 48 = dktX0_tight_2 := dk_seg dksX0_tight_1 24 rfl rfl
theorem dX0_tight_0 : decode cX0_tight 0 = .ok (.aload_n 0, 1) := dk_42 (dk_at dksX0_tight_0 0 rfl rfl)
theorem dX0_tight_1 : decode cX0_tight 1 = .ok (.iload_n 1, 1) := dk_27 (dk_at dksX0_tight_0 1 rfl rfl)
theorem dX0_tight_2 : decode cX0_tight 2 = .ok (.invokevirtual 168, 3) := dk_182 0 168 (dk_at dksX0_tight_0 2 rfl rfl)
theorem dX0_tight_5 : decode cX0_tight 5 = .ok (.ifCond .ne 6, 3) := dk_154 0 6 (dk_at dksX0_tight_0 5 rfl rfl)
theorem dX0_tight_8 : decode cX0_tight 8 = .ok (.bipush (-2), 2) := dk_16 254 (dk_at dksX0_tight_0 8 rfl rfl)
theorem dX0_tight_10 : decode cX0_tight 10 = .ok (.ireturn, 1) := dk_172 (dk_at dksX0_tight_0 10 rfl rfl)
theorem dX0_tight_11 : decode cX0_tight 11 = .ok (.aload_n 0, 1) := dk_42 (dk_at dksX0_tight_0 11 rfl rfl)
theorem dX0_tight_12 : decode cX0_tight 12 = .ok (.iconst (-1), 1) := dk_2 (dk_at dksX0_tight_0 12 rfl rfl)
theorem dX0_tight_13 : decode cX0_tight 13 = .ok (.invokevirtual 476, 3) := dk_182 1 220 (dk_at dksX0_tight_0 13 rfl rfl)
theorem dX0_tight_16 : decode cX0_tight 16 = .ok (.istore_n 2, 1) := dk_61 (dk_at dksX0_tight_0 16 rfl rfl)
theorem dX0_tight_17 : decode cX0_tight 17 = .ok (.aload_n 0, 1) := dk_42 (dk_at dksX0_tight_0 17 rfl rfl)
theorem dX0_tight_18 : decode cX0_tight 18 = .ok (.getfield 87, 3) := dk_180 0 87 (dk_at dksX0_tight_0 18 rfl rfl)
theorem dX0_tight_21 : decode cX0_tight 21 = .ok (.iload_n 1, 1) := dk_27 (dk_at dksX0_tight_0 21 rfl rfl)
theorem dX0_tight_22 : decode cX0_tight 22 = .ok (.iaload, 1) := dk_46 (dk_at dksX0_tight_0 22 rfl rfl)
theorem dX0_tight_23 : decode cX0_tight 23 = .ok (.iconst 1, 1) := dk_4 (dk_at dksX0_tight_0 23 rfl rfl)
theorem dX0_tight_24 : decode cX0_tight 24 = .ok (.iadd, 1) := dk_96 (dk_at dksX0_tight_1 0 rfl rfl)
theorem dX0_tight_25 : decode cX0_tight 25 = .ok (.istore_n 3, 1) := dk_62 (dk_at dksX0_tight_1 1 rfl rfl)
theorem dX0_tight_26 : decode cX0_tight 26 = .ok (.aload_n 0, 1) := dk_42 (dk_at dksX0_tight_1 2 rfl rfl)
theorem dX0_tight_27 : decode cX0_tight 27 = .ok (.iload_n 1, 1) := dk_27 (dk_at dksX0_tight_1 3 rfl rfl)
theorem dX0_tight_28 : decode cX0_tight 28 = .ok (.aload_n 0, 1) := dk_42 (dk_at dksX0_tight_1 4 rfl rfl)
theorem dX0_tight_29 : decode cX0_tight 29 = .ok (.getfield 87, 3) := dk_180 0 87 (dk_at dksX0_tight_1 5 rfl rfl)
theorem dX0_tight_32 : decode cX0_tight 32 = .ok (.iload_n 1, 1) := dk_27 (dk_at dksX0_tight_1 8 rfl rfl)
theorem dX0_tight_33 : decode cX0_tight 33 = .ok (.iaload, 1) := dk_46 (dk_at dksX0_tight_1 9 rfl rfl)
theorem dX0_tight_34 : decode cX0_tight 34 = .ok (.iload_n 3, 1) := dk_29 (dk_at dksX0_tight_1 10 rfl rfl)
theorem dX0_tight_35 : decode cX0_tight 35 = .ok (.invokevirtual 535, 3) := dk_182 2 23 (dk_at dksX0_tight_1 11 rfl rfl)
theorem dX0_tight_38 : decode cX0_tight 38 = .ok (.iload_n 2, 1) := dk_28 (dk_at dksX0_tight_1 14 rfl rfl)
theorem dX0_tight_39 : decode cX0_tight 39 = .ok (.if_icmp .le 9, 3) := dk_164 0 9 (dk_at dksX0_tight_1 15 rfl rfl)
theorem dX0_tight_42 : decode cX0_tight 42 = .ok (.iinc 3 1, 3) := dk_132 3 1 (dk_at dksX0_tight_1 18 rfl rfl)
theorem dX0_tight_45 : decode cX0_tight 45 = .ok (.goto (-19), 3) := dk_167 255 237 (dk_at dksX0_tight_1 21 rfl rfl)
theorem dX0_tight_48 : decode cX0_tight 48 = .ok (.iload_n 3, 1) := dk_29 (dk_at dksX0_tight_2 0 rfl rfl)
theorem dX0_tight_49 : decode cX0_tight 49 = .ok (.ireturn, 1) := dk_172 (dk_at dksX0_tight_2 1 rfl rfl)
abbrev cX0_loose : ByteArray := prog_1_method_90_code
def yX0_loose : MethodName := ⟨RX0, "loose", "(I)I"⟩
def dkwX0_loose_2 : List UInt8 := [132, 3, 255, 167, 255, 237, 29, 172]
abbrev dktX0_loose_2 : List UInt8 := dkwX0_loose_2 ++ []
def dkwX0_loose_1 : List UInt8 := [46, 4, 100, 184, 1, 183, 62, 42, 27, 29, 42, 180, 0, 90, 27, 46, 182, 2, 23, 28, 164, 0, 9]
abbrev dktX0_loose_1 : List UInt8 := dkwX0_loose_1 ++ dktX0_loose_2
def dkwX0_loose_0 : List UInt8 := [42, 27, 182, 0, 168, 154, 0, 6, 16, 254, 172, 42, 2, 182, 1, 220, 61, 16, 99, 42, 180, 0, 90, 27]
abbrev dktX0_loose_0 : List UInt8 := dkwX0_loose_0 ++ dktX0_loose_1
theorem dksX0_loose_0 : cX0_loose.data.toList.drop 0 = dktX0_loose_0 := by decide +kernel
theorem dksX0_loose_1 : cX0_loose.data.toList.drop 24 = dktX0_loose_1 := dk_seg dksX0_loose_0 24 rfl rfl
theorem dksX0_loose_2 : cX0_loose.data.toList.drop 47 = dktX0_loose_2 := dk_seg dksX0_loose_1 23 rfl rfl
theorem dX0_loose_0 : decode cX0_loose 0 = .ok (.aload_n 0, 1) := dk_42 (dk_at dksX0_loose_0 0 rfl rfl)
theorem dX0_loose_1 : decode cX0_loose 1 = .ok (.iload_n 1, 1) := dk_27 (dk_at dksX0_loose_0 1 rfl rfl)
theorem dX0_loose_2 : decode cX0_loose 2 = .ok (.invokevirtual 168, 3) := dk_182 0 168 (dk_at dksX0_loose_0 2 rfl rfl)
theorem dX0_loose_5 : decode cX0_loose 5 = .ok (.ifCond .ne 6, 3) := dk_154 0 6 (dk_at dksX0_loose_0 5 rfl rfl)
theorem dX0_loose_8 : decode cX0_loose 8 = .ok (.bipush (-2), 2) := dk_16 254 (dk_at dksX0_loose_0 8 rfl rfl)
theorem dX0_loose_10 : decode cX0_loose 10 = .ok (.ireturn, 1) := dk_172 (dk_at dksX0_loose_0 10 rfl rfl)
theorem dX0_loose_11 : decode cX0_loose 11 = .ok (.aload_n 0, 1) := dk_42 (dk_at dksX0_loose_0 11 rfl rfl)
theorem dX0_loose_12 : decode cX0_loose 12 = .ok (.iconst (-1), 1) := dk_2 (dk_at dksX0_loose_0 12 rfl rfl)
theorem dX0_loose_13 : decode cX0_loose 13 = .ok (.invokevirtual 476, 3) := dk_182 1 220 (dk_at dksX0_loose_0 13 rfl rfl)
theorem dX0_loose_16 : decode cX0_loose 16 = .ok (.istore_n 2, 1) := dk_61 (dk_at dksX0_loose_0 16 rfl rfl)
theorem dX0_loose_17 : decode cX0_loose 17 = .ok (.bipush 99, 2) := dk_16 99 (dk_at dksX0_loose_0 17 rfl rfl)
theorem dX0_loose_19 : decode cX0_loose 19 = .ok (.aload_n 0, 1) := dk_42 (dk_at dksX0_loose_0 19 rfl rfl)
theorem dX0_loose_20 : decode cX0_loose 20 = .ok (.getfield 90, 3) := dk_180 0 90 (dk_at dksX0_loose_0 20 rfl rfl)
theorem dX0_loose_23 : decode cX0_loose 23 = .ok (.iload_n 1, 1) := dk_27 (dk_at dksX0_loose_0 23 rfl rfl)
theorem dX0_loose_24 : decode cX0_loose 24 = .ok (.iaload, 1) := dk_46 (dk_at dksX0_loose_1 0 rfl rfl)
theorem dX0_loose_25 : decode cX0_loose 25 = .ok (.iconst 1, 1) := dk_4 (dk_at dksX0_loose_1 1 rfl rfl)
theorem dX0_loose_26 : decode cX0_loose 26 = .ok (.isub, 1) := dk_100 (dk_at dksX0_loose_1 2 rfl rfl)
theorem dX0_loose_27 : decode cX0_loose 27 = .ok (.invokestatic 439, 3) := dk_184 1 183 (dk_at dksX0_loose_1 3 rfl rfl)
theorem dX0_loose_30 : decode cX0_loose 30 = .ok (.istore_n 3, 1) := dk_62 (dk_at dksX0_loose_1 6 rfl rfl)
theorem dX0_loose_31 : decode cX0_loose 31 = .ok (.aload_n 0, 1) := dk_42 (dk_at dksX0_loose_1 7 rfl rfl)
theorem dX0_loose_32 : decode cX0_loose 32 = .ok (.iload_n 1, 1) := dk_27 (dk_at dksX0_loose_1 8 rfl rfl)
theorem dX0_loose_33 : decode cX0_loose 33 = .ok (.iload_n 3, 1) := dk_29 (dk_at dksX0_loose_1 9 rfl rfl)
theorem dX0_loose_34 : decode cX0_loose 34 = .ok (.aload_n 0, 1) := dk_42 (dk_at dksX0_loose_1 10 rfl rfl)
theorem dX0_loose_35 : decode cX0_loose 35 = .ok (.getfield 90, 3) := dk_180 0 90 (dk_at dksX0_loose_1 11 rfl rfl)
theorem dX0_loose_38 : decode cX0_loose 38 = .ok (.iload_n 1, 1) := dk_27 (dk_at dksX0_loose_1 14 rfl rfl)
theorem dX0_loose_39 : decode cX0_loose 39 = .ok (.iaload, 1) := dk_46 (dk_at dksX0_loose_1 15 rfl rfl)
theorem dX0_loose_40 : decode cX0_loose 40 = .ok (.invokevirtual 535, 3) := dk_182 2 23 (dk_at dksX0_loose_1 16 rfl rfl)
theorem dX0_loose_43 : decode cX0_loose 43 = .ok (.iload_n 2, 1) := dk_28 (dk_at dksX0_loose_1 19 rfl rfl)
theorem dX0_loose_44 : decode cX0_loose 44 = .ok (.if_icmp .le 9, 3) := dk_164 0 9 (dk_at dksX0_loose_1 20 rfl rfl)
theorem dX0_loose_47 : decode cX0_loose 47 = .ok (.iinc 3 (-1), 3) := dk_132 3 255 (dk_at dksX0_loose_2 0 rfl rfl)
theorem dX0_loose_50 : decode cX0_loose 50 = .ok (.goto (-19), 3) := dk_167 255 237 (dk_at dksX0_loose_2 3 rfl rfl)
theorem dX0_loose_53 : decode cX0_loose 53 = .ok (.iload_n 3, 1) := dk_29 (dk_at dksX0_loose_2 6 rfl rfl)
theorem dX0_loose_54 : decode cX0_loose 54 = .ok (.ireturn, 1) := dk_172 (dk_at dksX0_loose_2 7 rfl rfl)
abbrev cX0_longest : ByteArray := prog_1_method_94_code
def yX0_longest : MethodName := ⟨RX0, "longest", "(II)I"⟩
def dkwX0_longest_0 : List UInt8 := [42, 27, 28, 182, 2, 50, 153, 0, 10, 42, 180, 2, 39, 167, 0, 5, 16, 254, 172]
abbrev dktX0_longest_0 : List UInt8 := dkwX0_longest_0 ++ []
theorem dksX0_longest_0 : cX0_longest.data.toList.drop 0 = dktX0_longest_0 := by decide +kernel
theorem dX0_longest_0 : decode cX0_longest 0 = .ok (.aload_n 0, 1) := dk_42 (dk_at dksX0_longest_0 0 rfl rfl)
theorem dX0_longest_1 : decode cX0_longest 1 = .ok (.iload_n 1, 1) := dk_27 (dk_at dksX0_longest_0 1 rfl rfl)
theorem dX0_longest_2 : decode cX0_longest 2 = .ok (.iload_n 2, 1) := dk_28 (dk_at dksX0_longest_0 2 rfl rfl)
theorem dX0_longest_3 : decode cX0_longest 3 = .ok (.invokevirtual 562, 3) := dk_182 2 50 (dk_at dksX0_longest_0 3 rfl rfl)
theorem dX0_longest_6 : decode cX0_longest 6 = .ok (.ifCond .eq 10, 3) := dk_153 0 10 (dk_at dksX0_longest_0 6 rfl rfl)
theorem dX0_longest_9 : decode cX0_longest 9 = .ok (.aload_n 0, 1) := dk_42 (dk_at dksX0_longest_0 9 rfl rfl)
theorem dX0_longest_10 : decode cX0_longest 10 = .ok (.getfield 551, 3) := dk_180 2 39 (dk_at dksX0_longest_0 10 rfl rfl)
theorem dX0_longest_13 : decode cX0_longest 13 = .ok (.goto 5, 3) := dk_167 0 5 (dk_at dksX0_longest_0 13 rfl rfl)
theorem dX0_longest_16 : decode cX0_longest 16 = .ok (.bipush (-2), 2) := dk_16 254 (dk_at dksX0_longest_0 16 rfl rfl)
theorem dX0_longest_18 : decode cX0_longest 18 = .ok (.ireturn, 1) := dk_172 (dk_at dksX0_longest_0 18 rfl rfl)
abbrev cX0_triesAll : ByteArray := prog_1_method_93_code
def yX0_triesAll : MethodName := ⟨RX0, "triesAll", "(II)Z"⟩
def dkwX0_triesAll_1 : List UInt8 := [181, 2, 39, 42, 3, 181, 2, 42, 42, 27, 28, 182, 2, 47, 4, 172]
abbrev dktX0_triesAll_1 : List UInt8 := dkwX0_triesAll_1 ++ []
def dkwX0_triesAll_0 : List UInt8 := [42, 27, 182, 0, 168, 153, 0, 15, 28, 133, 9, 20, 2, 45, 184, 0, 116, 154, 0, 5, 3, 172, 42, 2]
abbrev dktX0_triesAll_0 : List UInt8 := dkwX0_triesAll_0 ++ dktX0_triesAll_1
theorem dksX0_triesAll_0 : cX0_triesAll.data.toList.drop 0 = dktX0_triesAll_0 := by decide +kernel
theorem dksX0_triesAll_1 : cX0_triesAll.data.toList.drop 24 = dktX0_triesAll_1 := dk_seg dksX0_triesAll_0 24 rfl rfl
theorem dX0_triesAll_0 : decode cX0_triesAll 0 = .ok (.aload_n 0, 1) := dk_42 (dk_at dksX0_triesAll_0 0 rfl rfl)
theorem dX0_triesAll_1 : decode cX0_triesAll 1 = .ok (.iload_n 1, 1) := dk_27 (dk_at dksX0_triesAll_0 1 rfl rfl)
theorem dX0_triesAll_2 : decode cX0_triesAll 2 = .ok (.invokevirtual 168, 3) := dk_182 0 168 (dk_at dksX0_triesAll_0 2 rfl rfl)
theorem dX0_triesAll_5 : decode cX0_triesAll 5 = .ok (.ifCond .eq 15, 3) := dk_153 0 15 (dk_at dksX0_triesAll_0 5 rfl rfl)
theorem dX0_triesAll_8 : decode cX0_triesAll 8 = .ok (.iload_n 2, 1) := dk_28 (dk_at dksX0_triesAll_0 8 rfl rfl)
theorem dX0_triesAll_9 : decode cX0_triesAll 9 = .ok (.i2l, 1) := dk_133 (dk_at dksX0_triesAll_0 9 rfl rfl)
theorem dX0_triesAll_10 : decode cX0_triesAll 10 = .ok (.lconst 0, 1) := dk_9 (dk_at dksX0_triesAll_0 10 rfl rfl)
theorem dX0_triesAll_11 : decode cX0_triesAll 11 = .ok (.ldc2_w 557, 3) := dk_20 2 45 (dk_at dksX0_triesAll_0 11 rfl rfl)
theorem dX0_triesAll_14 : decode cX0_triesAll 14 = .ok (.invokestatic 116, 3) := dk_184 0 116 (dk_at dksX0_triesAll_0 14 rfl rfl)
theorem dX0_triesAll_17 : decode cX0_triesAll 17 = .ok (.ifCond .ne 5, 3) := dk_154 0 5 (dk_at dksX0_triesAll_0 17 rfl rfl)
theorem dX0_triesAll_20 : decode cX0_triesAll 20 = .ok (.iconst 0, 1) := dk_3 (dk_at dksX0_triesAll_0 20 rfl rfl)
theorem dX0_triesAll_21 : decode cX0_triesAll 21 = .ok (.ireturn, 1) := dk_172 (dk_at dksX0_triesAll_0 21 rfl rfl)
theorem dX0_triesAll_22 : decode cX0_triesAll 22 = .ok (.aload_n 0, 1) := dk_42 (dk_at dksX0_triesAll_0 22 rfl rfl)
theorem dX0_triesAll_23 : decode cX0_triesAll 23 = .ok (.iconst (-1), 1) := dk_2 (dk_at dksX0_triesAll_0 23 rfl rfl)
theorem dX0_triesAll_24 : decode cX0_triesAll 24 = .ok (.putfield 551, 3) := dk_181 2 39 (dk_at dksX0_triesAll_1 0 rfl rfl)
theorem dX0_triesAll_27 : decode cX0_triesAll 27 = .ok (.aload_n 0, 1) := dk_42 (dk_at dksX0_triesAll_1 3 rfl rfl)
theorem dX0_triesAll_28 : decode cX0_triesAll 28 = .ok (.iconst 0, 1) := dk_3 (dk_at dksX0_triesAll_1 4 rfl rfl)
theorem dX0_triesAll_29 : decode cX0_triesAll 29 = .ok (.putfield 554, 3) := dk_181 2 42 (dk_at dksX0_triesAll_1 5 rfl rfl)
theorem dX0_triesAll_32 : decode cX0_triesAll 32 = .ok (.aload_n 0, 1) := dk_42 (dk_at dksX0_triesAll_1 8 rfl rfl)
theorem dX0_triesAll_33 : decode cX0_triesAll 33 = .ok (.iload_n 1, 1) := dk_27 (dk_at dksX0_triesAll_1 9 rfl rfl)
theorem dX0_triesAll_34 : decode cX0_triesAll 34 = .ok (.iload_n 2, 1) := dk_28 (dk_at dksX0_triesAll_1 10 rfl rfl)
theorem dX0_triesAll_35 : decode cX0_triesAll 35 = .ok (.invokevirtual 559, 3) := dk_182 2 47 (dk_at dksX0_triesAll_1 11 rfl rfl)
theorem dX0_triesAll_38 : decode cX0_triesAll 38 = .ok (.iconst 1, 1) := dk_4 (dk_at dksX0_triesAll_1 14 rfl rfl)
theorem dX0_triesAll_39 : decode cX0_triesAll 39 = .ok (.ireturn, 1) := dk_172 (dk_at dksX0_triesAll_1 15 rfl rfl)
abbrev cX0_tries : ByteArray := prog_1_method_91_code
def yX0_tries : MethodName := ⟨RX0, "tries", "(II)V"⟩
def dkwX0_tries_7 : List UInt8 := [25, 7, 191, 132, 6, 1, 167, 255, 138, 132, 5, 1, 167, 255, 123, 177]
abbrev dktX0_tries_7 : List UInt8 := dkwX0_tries_7 ++ []
def dkwX0_tries_6 : List UInt8 := [42, 180, 0, 10, 180, 0, 175, 42, 180, 0, 10, 180, 0, 175, 182, 0, 147, 4, 100, 182, 2, 36, 87]
abbrev dktX0_tries_6 : List UInt8 := dkwX0_tries_6 ++ dktX0_tries_7
def dkwX0_tries_5 : List UInt8 := [180, 0, 175, 42, 180, 0, 10, 180, 0, 175, 182, 0, 147, 4, 100, 182, 2, 36, 87, 167, 0, 31, 58, 7]
abbrev dktX0_tries_5 : List UInt8 := dkwX0_tries_5 ++ dktX0_tries_6
def dkwX0_tries_4 : List UInt8 := [42, 42, 180, 0, 10, 180, 0, 175, 182, 0, 147, 4, 100, 182, 2, 3, 182, 2, 33, 42, 180, 0, 10]
abbrev dktX0_tries_4 : List UInt8 := dkwX0_tries_4 ++ dktX0_tries_5
def dkwX0_tries_3 : List UInt8 := [28, 27, 21, 5, 28, 7, 160, 0, 7, 2, 167, 0, 5, 21, 6, 4, 183, 2, 26, 182, 2, 29, 87, 42]
abbrev dktX0_tries_3 : List UInt8 := dkwX0_tries_3 ++ dktX0_tries_4
def dkwX0_tries_2 : List UInt8 := [162, 0, 133, 3, 54, 6, 21, 6, 21, 4, 162, 0, 117, 42, 180, 0, 10, 180, 0, 175, 187, 0, 218, 89]
abbrev dktX0_tries_2 : List UInt8 := dkwX0_tries_2 ++ dktX0_tries_3
def dkwX0_tries_1 : List UInt8 := [160, 0, 7, 4, 167, 0, 11, 42, 27, 182, 0, 178, 180, 0, 200, 54, 4, 3, 54, 5, 21, 5, 29]
abbrev dktX0_tries_1 : List UInt8 := dkwX0_tries_1 ++ dktX0_tries_2
def dkwX0_tries_0 : List UInt8 := [16, 51, 42, 27, 42, 180, 0, 10, 180, 0, 165, 182, 1, 199, 180, 1, 208, 184, 1, 183, 62, 28, 7]
abbrev dktX0_tries_0 : List UInt8 := dkwX0_tries_0 ++ dktX0_tries_1
theorem dksX0_tries_0 : cX0_tries.data.toList.drop 0 = dktX0_tries_0 := by decide +kernel
theorem dksX0_tries_1 : cX0_tries.data.toList.drop 23 = dktX0_tries_1 := dk_seg dksX0_tries_0 23 rfl rfl
theorem dksX0_tries_2 : cX0_tries.data.toList.drop 46 = dktX0_tries_2 := dk_seg dksX0_tries_1 23 rfl rfl
theorem dksX0_tries_3 : cX0_tries.data.toList.drop 70 = dktX0_tries_3 := dk_seg dksX0_tries_2 24 rfl rfl
theorem dksX0_tries_4 : cX0_tries.data.toList.drop 94 = dktX0_tries_4 := dk_seg dksX0_tries_3 24 rfl rfl
theorem dksX0_tries_5 : cX0_tries.data.toList.drop 117 = dktX0_tries_5 := dk_seg dksX0_tries_4 23 rfl rfl
theorem dksX0_tries_6 : cX0_tries.data.toList.drop 141 = dktX0_tries_6 := dk_seg dksX0_tries_5 24 rfl rfl
theorem dksX0_tries_7 : cX0_tries.data.toList.drop 164 = dktX0_tries_7 := dk_seg dksX0_tries_6 23 rfl rfl
theorem dX0_tries_0 : decode cX0_tries 0 = .ok (.bipush 51, 2) := dk_16 51 (dk_at dksX0_tries_0 0 rfl rfl)
theorem dX0_tries_2 : decode cX0_tries 2 = .ok (.aload_n 0, 1) := dk_42 (dk_at dksX0_tries_0 2 rfl rfl)
theorem dX0_tries_3 : decode cX0_tries 3 = .ok (.iload_n 1, 1) := dk_27 (dk_at dksX0_tries_0 3 rfl rfl)
theorem dX0_tries_4 : decode cX0_tries 4 = .ok (.aload_n 0, 1) := dk_42 (dk_at dksX0_tries_0 4 rfl rfl)
theorem dX0_tries_5 : decode cX0_tries 5 = .ok (.getfield 10, 3) := dk_180 0 10 (dk_at dksX0_tries_0 5 rfl rfl)
theorem dX0_tries_8 : decode cX0_tries 8 = .ok (.getfield 165, 3) := dk_180 0 165 (dk_at dksX0_tries_0 8 rfl rfl)
theorem dX0_tries_11 : decode cX0_tries 11 = .ok (.invokevirtual 455, 3) := dk_182 1 199 (dk_at dksX0_tries_0 11 rfl rfl)
theorem dX0_tries_14 : decode cX0_tries 14 = .ok (.getfield 464, 3) := dk_180 1 208 (dk_at dksX0_tries_0 14 rfl rfl)
theorem dX0_tries_17 : decode cX0_tries 17 = .ok (.invokestatic 439, 3) := dk_184 1 183 (dk_at dksX0_tries_0 17 rfl rfl)
theorem dX0_tries_20 : decode cX0_tries 20 = .ok (.istore_n 3, 1) := dk_62 (dk_at dksX0_tries_0 20 rfl rfl)
theorem dX0_tries_21 : decode cX0_tries 21 = .ok (.iload_n 2, 1) := dk_28 (dk_at dksX0_tries_0 21 rfl rfl)
theorem dX0_tries_22 : decode cX0_tries 22 = .ok (.iconst 4, 1) := dk_7 (dk_at dksX0_tries_0 22 rfl rfl)
theorem dX0_tries_23 : decode cX0_tries 23 = .ok (.if_icmp .ne 7, 3) := dk_160 0 7 (dk_at dksX0_tries_1 0 rfl rfl)
theorem dX0_tries_26 : decode cX0_tries 26 = .ok (.iconst 1, 1) := dk_4 (dk_at dksX0_tries_1 3 rfl rfl)
theorem dX0_tries_27 : decode cX0_tries 27 = .ok (.goto 11, 3) := dk_167 0 11 (dk_at dksX0_tries_1 4 rfl rfl)
theorem dX0_tries_30 : decode cX0_tries 30 = .ok (.aload_n 0, 1) := dk_42 (dk_at dksX0_tries_1 7 rfl rfl)
theorem dX0_tries_31 : decode cX0_tries 31 = .ok (.iload_n 1, 1) := dk_27 (dk_at dksX0_tries_1 8 rfl rfl)
theorem dX0_tries_32 : decode cX0_tries 32 = .ok (.invokevirtual 178, 3) := dk_182 0 178 (dk_at dksX0_tries_1 9 rfl rfl)
theorem dX0_tries_35 : decode cX0_tries 35 = .ok (.getfield 200, 3) := dk_180 0 200 (dk_at dksX0_tries_1 12 rfl rfl)
theorem dX0_tries_38 : decode cX0_tries 38 = .ok (.istore 4, 2) := dk_54 4 (dk_at dksX0_tries_1 15 rfl rfl)
theorem dX0_tries_40 : decode cX0_tries 40 = .ok (.iconst 0, 1) := dk_3 (dk_at dksX0_tries_1 17 rfl rfl)
theorem dX0_tries_41 : decode cX0_tries 41 = .ok (.istore 5, 2) := dk_54 5 (dk_at dksX0_tries_1 18 rfl rfl)
theorem dX0_tries_43 : decode cX0_tries 43 = .ok (.iload 5, 2) := dk_21 5 (dk_at dksX0_tries_1 20 rfl rfl)
theorem dX0_tries_45 : decode cX0_tries 45 = .ok (.iload_n 3, 1) := dk_29 (dk_at dksX0_tries_1 22 rfl rfl)
theorem dX0_tries_46 : decode cX0_tries 46 = .ok (.if_icmp .ge 133, 3) := dk_162 0 133 (dk_at dksX0_tries_2 0 rfl rfl)
theorem dX0_tries_49 : decode cX0_tries 49 = .ok (.iconst 0, 1) := dk_3 (dk_at dksX0_tries_2 3 rfl rfl)
theorem dX0_tries_50 : decode cX0_tries 50 = .ok (.istore 6, 2) := dk_54 6 (dk_at dksX0_tries_2 4 rfl rfl)
theorem dX0_tries_52 : decode cX0_tries 52 = .ok (.iload 6, 2) := dk_21 6 (dk_at dksX0_tries_2 6 rfl rfl)
theorem dX0_tries_54 : decode cX0_tries 54 = .ok (.iload 4, 2) := dk_21 4 (dk_at dksX0_tries_2 8 rfl rfl)
theorem dX0_tries_56 : decode cX0_tries 56 = .ok (.if_icmp .ge 117, 3) := dk_162 0 117 (dk_at dksX0_tries_2 10 rfl rfl)
theorem dX0_tries_59 : decode cX0_tries 59 = .ok (.aload_n 0, 1) := dk_42 (dk_at dksX0_tries_2 13 rfl rfl)
theorem dX0_tries_60 : decode cX0_tries 60 = .ok (.getfield 10, 3) := dk_180 0 10 (dk_at dksX0_tries_2 14 rfl rfl)
theorem dX0_tries_63 : decode cX0_tries 63 = .ok (.getfield 175, 3) := dk_180 0 175 (dk_at dksX0_tries_2 17 rfl rfl)
theorem dX0_tries_66 : decode cX0_tries 66 = .ok (.new 218, 3) := dk_187 0 218 (dk_at dksX0_tries_2 20 rfl rfl)
theorem dX0_tries_69 : decode cX0_tries 69 = .ok (.dup, 1) := dk_89 (dk_at dksX0_tries_2 23 rfl rfl)
theorem dX0_tries_70 : decode cX0_tries 70 = .ok (.iload_n 2, 1) := dk_28 (dk_at dksX0_tries_3 0 rfl rfl)
theorem dX0_tries_71 : decode cX0_tries 71 = .ok (.iload_n 1, 1) := dk_27 (dk_at dksX0_tries_3 1 rfl rfl)
theorem dX0_tries_72 : decode cX0_tries 72 = .ok (.iload 5, 2) := dk_21 5 (dk_at dksX0_tries_3 2 rfl rfl)
theorem dX0_tries_74 : decode cX0_tries 74 = .ok (.iload_n 2, 1) := dk_28 (dk_at dksX0_tries_3 4 rfl rfl)
theorem dX0_tries_75 : decode cX0_tries 75 = .ok (.iconst 4, 1) := dk_7 (dk_at dksX0_tries_3 5 rfl rfl)
theorem dX0_tries_76 : decode cX0_tries 76 = .ok (.if_icmp .ne 7, 3) := dk_160 0 7 (dk_at dksX0_tries_3 6 rfl rfl)
theorem dX0_tries_79 : decode cX0_tries 79 = .ok (.iconst (-1), 1) := dk_2 (dk_at dksX0_tries_3 9 rfl rfl)
theorem dX0_tries_80 : decode cX0_tries 80 = .ok (.goto 5, 3) := dk_167 0 5 (dk_at dksX0_tries_3 10 rfl rfl)
theorem dX0_tries_83 : decode cX0_tries 83 = .ok (.iload 6, 2) := dk_21 6 (dk_at dksX0_tries_3 13 rfl rfl)
theorem dX0_tries_85 : decode cX0_tries 85 = .ok (.iconst 1, 1) := dk_4 (dk_at dksX0_tries_3 15 rfl rfl)
theorem dX0_tries_86 : decode cX0_tries 86 = .ok (.invokespecial 538, 3) := dk_183 2 26 (dk_at dksX0_tries_3 16 rfl rfl)
theorem dX0_tries_89 : decode cX0_tries 89 = .ok (.invokevirtual 541, 3) := dk_182 2 29 (dk_at dksX0_tries_3 19 rfl rfl)
theorem dX0_tries_92 : decode cX0_tries 92 = .ok (.pop, 1) := dk_87 (dk_at dksX0_tries_3 22 rfl rfl)
theorem dX0_tries_93 : decode cX0_tries 93 = .ok (.aload_n 0, 1) := dk_42 (dk_at dksX0_tries_3 23 rfl rfl)
theorem dX0_tries_94 : decode cX0_tries 94 = .ok (.aload_n 0, 1) := dk_42 (dk_at dksX0_tries_4 0 rfl rfl)
theorem dX0_tries_95 : decode cX0_tries 95 = .ok (.aload_n 0, 1) := dk_42 (dk_at dksX0_tries_4 1 rfl rfl)
theorem dX0_tries_96 : decode cX0_tries 96 = .ok (.getfield 10, 3) := dk_180 0 10 (dk_at dksX0_tries_4 2 rfl rfl)
theorem dX0_tries_99 : decode cX0_tries 99 = .ok (.getfield 175, 3) := dk_180 0 175 (dk_at dksX0_tries_4 5 rfl rfl)
theorem dX0_tries_102 : decode cX0_tries 102 = .ok (.invokevirtual 147, 3) := dk_182 0 147 (dk_at dksX0_tries_4 8 rfl rfl)
theorem dX0_tries_105 : decode cX0_tries 105 = .ok (.iconst 1, 1) := dk_4 (dk_at dksX0_tries_4 11 rfl rfl)
theorem dX0_tries_106 : decode cX0_tries 106 = .ok (.isub, 1) := dk_100 (dk_at dksX0_tries_4 12 rfl rfl)
theorem dX0_tries_107 : decode cX0_tries 107 = .ok (.invokevirtual 515, 3) := dk_182 2 3 (dk_at dksX0_tries_4 13 rfl rfl)
theorem dX0_tries_110 : decode cX0_tries 110 = .ok (.invokevirtual 545, 3) := dk_182 2 33 (dk_at dksX0_tries_4 16 rfl rfl)
theorem dX0_tries_113 : decode cX0_tries 113 = .ok (.aload_n 0, 1) := dk_42 (dk_at dksX0_tries_4 19 rfl rfl)
theorem dX0_tries_114 : decode cX0_tries 114 = .ok (.getfield 10, 3) := dk_180 0 10 (dk_at dksX0_tries_4 20 rfl rfl)
theorem dX0_tries_117 : decode cX0_tries 117 = .ok (.getfield 175, 3) := dk_180 0 175 (dk_at dksX0_tries_5 0 rfl rfl)
theorem dX0_tries_120 : decode cX0_tries 120 = .ok (.aload_n 0, 1) := dk_42 (dk_at dksX0_tries_5 3 rfl rfl)
theorem dX0_tries_121 : decode cX0_tries 121 = .ok (.getfield 10, 3) := dk_180 0 10 (dk_at dksX0_tries_5 4 rfl rfl)
theorem dX0_tries_124 : decode cX0_tries 124 = .ok (.getfield 175, 3) := dk_180 0 175 (dk_at dksX0_tries_5 7 rfl rfl)
theorem dX0_tries_127 : decode cX0_tries 127 = .ok (.invokevirtual 147, 3) := dk_182 0 147 (dk_at dksX0_tries_5 10 rfl rfl)
theorem dX0_tries_130 : decode cX0_tries 130 = .ok (.iconst 1, 1) := dk_4 (dk_at dksX0_tries_5 13 rfl rfl)
theorem dX0_tries_131 : decode cX0_tries 131 = .ok (.isub, 1) := dk_100 (dk_at dksX0_tries_5 14 rfl rfl)
theorem dX0_tries_132 : decode cX0_tries 132 = .ok (.invokevirtual 548, 3) := dk_182 2 36 (dk_at dksX0_tries_5 15 rfl rfl)
theorem dX0_tries_135 : decode cX0_tries 135 = .ok (.pop, 1) := dk_87 (dk_at dksX0_tries_5 18 rfl rfl)
theorem dX0_tries_136 : decode cX0_tries 136 = .ok (.goto 31, 3) := dk_167 0 31 (dk_at dksX0_tries_5 19 rfl rfl)
theorem dX0_tries_139 : decode cX0_tries 139 = .ok (.astore 7, 2) := dk_58 7 (dk_at dksX0_tries_5 22 rfl rfl)
theorem dX0_tries_141 : decode cX0_tries 141 = .ok (.aload_n 0, 1) := dk_42 (dk_at dksX0_tries_6 0 rfl rfl)
theorem dX0_tries_142 : decode cX0_tries 142 = .ok (.getfield 10, 3) := dk_180 0 10 (dk_at dksX0_tries_6 1 rfl rfl)
theorem dX0_tries_145 : decode cX0_tries 145 = .ok (.getfield 175, 3) := dk_180 0 175 (dk_at dksX0_tries_6 4 rfl rfl)
theorem dX0_tries_148 : decode cX0_tries 148 = .ok (.aload_n 0, 1) := dk_42 (dk_at dksX0_tries_6 7 rfl rfl)
theorem dX0_tries_149 : decode cX0_tries 149 = .ok (.getfield 10, 3) := dk_180 0 10 (dk_at dksX0_tries_6 8 rfl rfl)
theorem dX0_tries_152 : decode cX0_tries 152 = .ok (.getfield 175, 3) := dk_180 0 175 (dk_at dksX0_tries_6 11 rfl rfl)
theorem dX0_tries_155 : decode cX0_tries 155 = .ok (.invokevirtual 147, 3) := dk_182 0 147 (dk_at dksX0_tries_6 14 rfl rfl)
theorem dX0_tries_158 : decode cX0_tries 158 = .ok (.iconst 1, 1) := dk_4 (dk_at dksX0_tries_6 17 rfl rfl)
theorem dX0_tries_159 : decode cX0_tries 159 = .ok (.isub, 1) := dk_100 (dk_at dksX0_tries_6 18 rfl rfl)
theorem dX0_tries_160 : decode cX0_tries 160 = .ok (.invokevirtual 548, 3) := dk_182 2 36 (dk_at dksX0_tries_6 19 rfl rfl)
theorem dX0_tries_163 : decode cX0_tries 163 = .ok (.pop, 1) := dk_87 (dk_at dksX0_tries_6 22 rfl rfl)
theorem dX0_tries_164 : decode cX0_tries 164 = .ok (.aload 7, 2) := dk_25 7 (dk_at dksX0_tries_7 0 rfl rfl)
theorem dX0_tries_166 : decode cX0_tries 166 = .ok (.athrow, 1) := dk_191 (dk_at dksX0_tries_7 2 rfl rfl)
theorem dX0_tries_167 : decode cX0_tries 167 = .ok (.iinc 6 1, 3) := dk_132 6 1 (dk_at dksX0_tries_7 3 rfl rfl)
theorem dX0_tries_170 : decode cX0_tries 170 = .ok (.goto (-118), 3) := dk_167 255 138 (dk_at dksX0_tries_7 6 rfl rfl)
theorem dX0_tries_173 : decode cX0_tries 173 = .ok (.iinc 5 1, 3) := dk_132 5 1 (dk_at dksX0_tries_7 9 rfl rfl)
theorem dX0_tries_176 : decode cX0_tries 176 = .ok (.goto (-133), 3) := dk_167 255 123 (dk_at dksX0_tries_7 12 rfl rfl)
theorem dX0_tries_179 : decode cX0_tries 179 = .ok (.return_, 1) := dk_177 (dk_at dksX0_tries_7 15 rfl rfl)
abbrev cX0_marks : ByteArray := prog_1_method_92_code
def yX0_marks : MethodName := ⟨RX0, "marks", "(I)V"⟩
def dkwX0_marks_1 : List UInt8 := [167, 0, 4, 3, 96, 181, 2, 42, 177]
abbrev dktX0_marks_1 : List UInt8 := dkwX0_marks_1 ++ []
def dkwX0_marks_0 : List UInt8 := [42, 42, 180, 2, 39, 27, 184, 1, 14, 181, 2, 39, 42, 89, 180, 2, 42, 27, 2, 160, 0, 7, 4]
abbrev dktX0_marks_0 : List UInt8 := dkwX0_marks_0 ++ dktX0_marks_1
theorem dksX0_marks_0 : cX0_marks.data.toList.drop 0 = dktX0_marks_0 := by decide +kernel
theorem dksX0_marks_1 : cX0_marks.data.toList.drop 23 = dktX0_marks_1 := dk_seg dksX0_marks_0 23 rfl rfl
theorem dX0_marks_0 : decode cX0_marks 0 = .ok (.aload_n 0, 1) := dk_42 (dk_at dksX0_marks_0 0 rfl rfl)
theorem dX0_marks_1 : decode cX0_marks 1 = .ok (.aload_n 0, 1) := dk_42 (dk_at dksX0_marks_0 1 rfl rfl)
theorem dX0_marks_2 : decode cX0_marks 2 = .ok (.getfield 551, 3) := dk_180 2 39 (dk_at dksX0_marks_0 2 rfl rfl)
theorem dX0_marks_5 : decode cX0_marks 5 = .ok (.iload_n 1, 1) := dk_27 (dk_at dksX0_marks_0 5 rfl rfl)
theorem dX0_marks_6 : decode cX0_marks 6 = .ok (.invokestatic 270, 3) := dk_184 1 14 (dk_at dksX0_marks_0 6 rfl rfl)
theorem dX0_marks_9 : decode cX0_marks 9 = .ok (.putfield 551, 3) := dk_181 2 39 (dk_at dksX0_marks_0 9 rfl rfl)
theorem dX0_marks_12 : decode cX0_marks 12 = .ok (.aload_n 0, 1) := dk_42 (dk_at dksX0_marks_0 12 rfl rfl)
theorem dX0_marks_13 : decode cX0_marks 13 = .ok (.dup, 1) := dk_89 (dk_at dksX0_marks_0 13 rfl rfl)
theorem dX0_marks_14 : decode cX0_marks 14 = .ok (.getfield 554, 3) := dk_180 2 42 (dk_at dksX0_marks_0 14 rfl rfl)
theorem dX0_marks_17 : decode cX0_marks 17 = .ok (.iload_n 1, 1) := dk_27 (dk_at dksX0_marks_0 17 rfl rfl)
theorem dX0_marks_18 : decode cX0_marks 18 = .ok (.iconst (-1), 1) := dk_2 (dk_at dksX0_marks_0 18 rfl rfl)
theorem dX0_marks_19 : decode cX0_marks 19 = .ok (.if_icmp .ne 7, 3) := dk_160 0 7 (dk_at dksX0_marks_0 19 rfl rfl)
theorem dX0_marks_22 : decode cX0_marks 22 = .ok (.iconst 1, 1) := dk_4 (dk_at dksX0_marks_0 22 rfl rfl)
theorem dX0_marks_23 : decode cX0_marks 23 = .ok (.goto 4, 3) := dk_167 0 4 (dk_at dksX0_marks_1 0 rfl rfl)
theorem dX0_marks_26 : decode cX0_marks 26 = .ok (.iconst 0, 1) := dk_3 (dk_at dksX0_marks_1 3 rfl rfl)
theorem dX0_marks_27 : decode cX0_marks 27 = .ok (.iadd, 1) := dk_96 (dk_at dksX0_marks_1 4 rfl rfl)
theorem dX0_marks_28 : decode cX0_marks 28 = .ok (.putfield 554, 3) := dk_181 2 42 (dk_at dksX0_marks_1 5 rfl rfl)
theorem dX0_marks_31 : decode cX0_marks 31 = .ok (.return_, 1) := dk_177 (dk_at dksX0_marks_1 8 rfl rfl)
abbrev cX0_silent : ByteArray := prog_1_method_95_code
def yX0_silent : MethodName := ⟨RX0, "silent", "(II)I"⟩
def dkwX0_silent_0 : List UInt8 := [42, 27, 28, 182, 2, 50, 153, 0, 10, 42, 180, 2, 42, 167, 0, 5, 16, 254, 172]
abbrev dktX0_silent_0 : List UInt8 := dkwX0_silent_0 ++ []
theorem dksX0_silent_0 : cX0_silent.data.toList.drop 0 = dktX0_silent_0 := by decide +kernel
theorem dX0_silent_0 : decode cX0_silent 0 = .ok (.aload_n 0, 1) := dk_42 (dk_at dksX0_silent_0 0 rfl rfl)
theorem dX0_silent_1 : decode cX0_silent 1 = .ok (.iload_n 1, 1) := dk_27 (dk_at dksX0_silent_0 1 rfl rfl)
theorem dX0_silent_2 : decode cX0_silent 2 = .ok (.iload_n 2, 1) := dk_28 (dk_at dksX0_silent_0 2 rfl rfl)
theorem dX0_silent_3 : decode cX0_silent 3 = .ok (.invokevirtual 562, 3) := dk_182 2 50 (dk_at dksX0_silent_0 3 rfl rfl)
theorem dX0_silent_6 : decode cX0_silent 6 = .ok (.ifCond .eq 10, 3) := dk_153 0 10 (dk_at dksX0_silent_0 6 rfl rfl)
theorem dX0_silent_9 : decode cX0_silent 9 = .ok (.aload_n 0, 1) := dk_42 (dk_at dksX0_silent_0 9 rfl rfl)
theorem dX0_silent_10 : decode cX0_silent 10 = .ok (.getfield 554, 3) := dk_180 2 42 (dk_at dksX0_silent_0 10 rfl rfl)
theorem dX0_silent_13 : decode cX0_silent 13 = .ok (.goto 5, 3) := dk_167 0 5 (dk_at dksX0_silent_0 13 rfl rfl)
theorem dX0_silent_16 : decode cX0_silent 16 = .ok (.bipush (-2), 2) := dk_16 254 (dk_at dksX0_silent_0 16 rfl rfl)
theorem dX0_silent_18 : decode cX0_silent 18 = .ok (.ireturn, 1) := dk_172 (dk_at dksX0_silent_0 18 rfl rfl)
abbrev cX0_inject : ByteArray := prog_1_method_97_code
def yX0_inject : MethodName := ⟨RX0, "inject", "(IIIII)I"⟩
def dkwX0_inject_3 : List UInt8 := [160, 0, 7, 2, 167, 0, 5, 21, 5, 183, 2, 26, 182, 2, 29, 87, 42, 2, 182, 1, 220, 172]
abbrev dktX0_inject_3 : List UInt8 := dkwX0_inject_3 ++ []
def dkwX0_inject_2 : List UInt8 := [180, 0, 175, 187, 0, 218, 89, 27, 28, 29, 27, 7, 162, 0, 8, 21, 4, 167, 0, 4, 2, 27, 8]
abbrev dktX0_inject_2 : List UInt8 := dkwX0_inject_2 ++ dktX0_inject_3
def dkwX0_inject_1 : List UInt8 := [182, 0, 147, 42, 180, 0, 10, 180, 2, 61, 100, 16, 10, 160, 0, 6, 16, 251, 172, 42, 180, 0, 10]
abbrev dktX0_inject_1 : List UInt8 := dkwX0_inject_1 ++ dktX0_inject_2
def dkwX0_inject_0 : List UInt8 := [42, 27, 28, 29, 21, 4, 21, 5, 182, 2, 57, 154, 0, 6, 16, 254, 172, 42, 180, 0, 10, 180, 0, 175]
abbrev dktX0_inject_0 : List UInt8 := dkwX0_inject_0 ++ dktX0_inject_1
theorem dksX0_inject_0 : cX0_inject.data.toList.drop 0 = dktX0_inject_0 := by decide +kernel
theorem dksX0_inject_1 : cX0_inject.data.toList.drop 24 = dktX0_inject_1 := dk_seg dksX0_inject_0 24 rfl rfl
theorem dksX0_inject_2 : cX0_inject.data.toList.drop 47 = dktX0_inject_2 := dk_seg dksX0_inject_1 23 rfl rfl
theorem dksX0_inject_3 : cX0_inject.data.toList.drop 70 = dktX0_inject_3 := dk_seg dksX0_inject_2 23 rfl rfl
theorem dX0_inject_0 : decode cX0_inject 0 = .ok (.aload_n 0, 1) := dk_42 (dk_at dksX0_inject_0 0 rfl rfl)
theorem dX0_inject_1 : decode cX0_inject 1 = .ok (.iload_n 1, 1) := dk_27 (dk_at dksX0_inject_0 1 rfl rfl)
theorem dX0_inject_2 : decode cX0_inject 2 = .ok (.iload_n 2, 1) := dk_28 (dk_at dksX0_inject_0 2 rfl rfl)
theorem dX0_inject_3 : decode cX0_inject 3 = .ok (.iload_n 3, 1) := dk_29 (dk_at dksX0_inject_0 3 rfl rfl)
theorem dX0_inject_4 : decode cX0_inject 4 = .ok (.iload 4, 2) := dk_21 4 (dk_at dksX0_inject_0 4 rfl rfl)
theorem dX0_inject_6 : decode cX0_inject 6 = .ok (.iload 5, 2) := dk_21 5 (dk_at dksX0_inject_0 6 rfl rfl)
theorem dX0_inject_8 : decode cX0_inject 8 = .ok (.invokevirtual 569, 3) := dk_182 2 57 (dk_at dksX0_inject_0 8 rfl rfl)
theorem dX0_inject_11 : decode cX0_inject 11 = .ok (.ifCond .ne 6, 3) := dk_154 0 6 (dk_at dksX0_inject_0 11 rfl rfl)
theorem dX0_inject_14 : decode cX0_inject 14 = .ok (.bipush (-2), 2) := dk_16 254 (dk_at dksX0_inject_0 14 rfl rfl)
theorem dX0_inject_16 : decode cX0_inject 16 = .ok (.ireturn, 1) := dk_172 (dk_at dksX0_inject_0 16 rfl rfl)
theorem dX0_inject_17 : decode cX0_inject 17 = .ok (.aload_n 0, 1) := dk_42 (dk_at dksX0_inject_0 17 rfl rfl)
theorem dX0_inject_18 : decode cX0_inject 18 = .ok (.getfield 10, 3) := dk_180 0 10 (dk_at dksX0_inject_0 18 rfl rfl)
theorem dX0_inject_21 : decode cX0_inject 21 = .ok (.getfield 175, 3) := dk_180 0 175 (dk_at dksX0_inject_0 21 rfl rfl)
theorem dX0_inject_24 : decode cX0_inject 24 = .ok (.invokevirtual 147, 3) := dk_182 0 147 (dk_at dksX0_inject_1 0 rfl rfl)
theorem dX0_inject_27 : decode cX0_inject 27 = .ok (.aload_n 0, 1) := dk_42 (dk_at dksX0_inject_1 3 rfl rfl)
theorem dX0_inject_28 : decode cX0_inject 28 = .ok (.getfield 10, 3) := dk_180 0 10 (dk_at dksX0_inject_1 4 rfl rfl)
theorem dX0_inject_31 : decode cX0_inject 31 = .ok (.getfield 573, 3) := dk_180 2 61 (dk_at dksX0_inject_1 7 rfl rfl)
theorem dX0_inject_34 : decode cX0_inject 34 = .ok (.isub, 1) := dk_100 (dk_at dksX0_inject_1 10 rfl rfl)
theorem dX0_inject_35 : decode cX0_inject 35 = .ok (.bipush 10, 2) := dk_16 10 (dk_at dksX0_inject_1 11 rfl rfl)
theorem dX0_inject_37 : decode cX0_inject 37 = .ok (.if_icmp .ne 6, 3) := dk_160 0 6 (dk_at dksX0_inject_1 13 rfl rfl)
theorem dX0_inject_40 : decode cX0_inject 40 = .ok (.bipush (-5), 2) := dk_16 251 (dk_at dksX0_inject_1 16 rfl rfl)
theorem dX0_inject_42 : decode cX0_inject 42 = .ok (.ireturn, 1) := dk_172 (dk_at dksX0_inject_1 18 rfl rfl)
theorem dX0_inject_43 : decode cX0_inject 43 = .ok (.aload_n 0, 1) := dk_42 (dk_at dksX0_inject_1 19 rfl rfl)
theorem dX0_inject_44 : decode cX0_inject 44 = .ok (.getfield 10, 3) := dk_180 0 10 (dk_at dksX0_inject_1 20 rfl rfl)
theorem dX0_inject_47 : decode cX0_inject 47 = .ok (.getfield 175, 3) := dk_180 0 175 (dk_at dksX0_inject_2 0 rfl rfl)
theorem dX0_inject_50 : decode cX0_inject 50 = .ok (.new 218, 3) := dk_187 0 218 (dk_at dksX0_inject_2 3 rfl rfl)
theorem dX0_inject_53 : decode cX0_inject 53 = .ok (.dup, 1) := dk_89 (dk_at dksX0_inject_2 6 rfl rfl)
theorem dX0_inject_54 : decode cX0_inject 54 = .ok (.iload_n 1, 1) := dk_27 (dk_at dksX0_inject_2 7 rfl rfl)
theorem dX0_inject_55 : decode cX0_inject 55 = .ok (.iload_n 2, 1) := dk_28 (dk_at dksX0_inject_2 8 rfl rfl)
theorem dX0_inject_56 : decode cX0_inject 56 = .ok (.iload_n 3, 1) := dk_29 (dk_at dksX0_inject_2 9 rfl rfl)
theorem dX0_inject_57 : decode cX0_inject 57 = .ok (.iload_n 1, 1) := dk_27 (dk_at dksX0_inject_2 10 rfl rfl)
theorem dX0_inject_58 : decode cX0_inject 58 = .ok (.iconst 4, 1) := dk_7 (dk_at dksX0_inject_2 11 rfl rfl)
theorem dX0_inject_59 : decode cX0_inject 59 = .ok (.if_icmp .ge 8, 3) := dk_162 0 8 (dk_at dksX0_inject_2 12 rfl rfl)
theorem dX0_inject_62 : decode cX0_inject 62 = .ok (.iload 4, 2) := dk_21 4 (dk_at dksX0_inject_2 15 rfl rfl)
theorem dX0_inject_64 : decode cX0_inject 64 = .ok (.goto 4, 3) := dk_167 0 4 (dk_at dksX0_inject_2 17 rfl rfl)
theorem dX0_inject_67 : decode cX0_inject 67 = .ok (.iconst (-1), 1) := dk_2 (dk_at dksX0_inject_2 20 rfl rfl)
theorem dX0_inject_68 : decode cX0_inject 68 = .ok (.iload_n 1, 1) := dk_27 (dk_at dksX0_inject_2 21 rfl rfl)
theorem dX0_inject_69 : decode cX0_inject 69 = .ok (.iconst 5, 1) := dk_8 (dk_at dksX0_inject_2 22 rfl rfl)
theorem dX0_inject_70 : decode cX0_inject 70 = .ok (.if_icmp .ne 7, 3) := dk_160 0 7 (dk_at dksX0_inject_3 0 rfl rfl)
theorem dX0_inject_73 : decode cX0_inject 73 = .ok (.iconst (-1), 1) := dk_2 (dk_at dksX0_inject_3 3 rfl rfl)
theorem dX0_inject_74 : decode cX0_inject 74 = .ok (.goto 5, 3) := dk_167 0 5 (dk_at dksX0_inject_3 4 rfl rfl)
theorem dX0_inject_77 : decode cX0_inject 77 = .ok (.iload 5, 2) := dk_21 5 (dk_at dksX0_inject_3 7 rfl rfl)
theorem dX0_inject_79 : decode cX0_inject 79 = .ok (.invokespecial 538, 3) := dk_183 2 26 (dk_at dksX0_inject_3 9 rfl rfl)
theorem dX0_inject_82 : decode cX0_inject 82 = .ok (.invokevirtual 541, 3) := dk_182 2 29 (dk_at dksX0_inject_3 12 rfl rfl)
theorem dX0_inject_85 : decode cX0_inject 85 = .ok (.pop, 1) := dk_87 (dk_at dksX0_inject_3 15 rfl rfl)
theorem dX0_inject_86 : decode cX0_inject 86 = .ok (.aload_n 0, 1) := dk_42 (dk_at dksX0_inject_3 16 rfl rfl)
theorem dX0_inject_87 : decode cX0_inject 87 = .ok (.iconst (-1), 1) := dk_2 (dk_at dksX0_inject_3 17 rfl rfl)
theorem dX0_inject_88 : decode cX0_inject 88 = .ok (.invokevirtual 476, 3) := dk_182 1 220 (dk_at dksX0_inject_3 18 rfl rfl)
theorem dX0_inject_91 : decode cX0_inject 91 = .ok (.ireturn, 1) := dk_172 (dk_at dksX0_inject_3 21 rfl rfl)
abbrev cX0_isInject : ByteArray := prog_1_method_96_code
def yX0_isInject : MethodName := ⟨RX0, "isInject", "(IIIII)Z"⟩
def dkwX0_isInject_5 : List UInt8 := [167, 0, 21, 21, 4, 133, 9, 42, 28, 182, 0, 178, 180, 0, 200, 4, 100, 133, 184, 0, 116, 172]
abbrev dktX0_isInject_5 : List UInt8 := dkwX0_isInject_5 ++ []
def dkwX0_isInject_4 : List UInt8 := [184, 0, 116, 154, 0, 5, 3, 172, 27, 7, 160, 0, 16, 21, 4, 154, 0, 7, 4, 167, 0, 25, 3]
abbrev dktX0_isInject_4 : List UInt8 := dkwX0_isInject_4 ++ dktX0_isInject_5
def dkwX0_isInject_3 : List UInt8 := [153, 0, 28, 29, 133, 9, 20, 1, 31, 184, 0, 116, 153, 0, 16, 21, 5, 133, 10, 20, 2, 55]
abbrev dktX0_isInject_3 : List UInt8 := dkwX0_isInject_3 ++ dktX0_isInject_4
def dkwX0_isInject_2 : List UInt8 := [167, 0, 4, 3, 172, 27, 133, 9, 20, 2, 45, 184, 0, 116, 153, 0, 36, 42, 28, 182, 0, 168]
abbrev dktX0_isInject_2 : List UInt8 := dkwX0_isInject_2 ++ dktX0_isInject_3
def dkwX0_isInject_1 : List UInt8 := [29, 133, 9, 20, 2, 53, 184, 0, 116, 153, 0, 17, 21, 4, 154, 0, 12, 21, 5, 154, 0, 7, 4]
abbrev dktX0_isInject_1 : List UInt8 := dkwX0_isInject_1 ++ dktX0_isInject_2
def dkwX0_isInject_0 : List UInt8 := [27, 8, 160, 0, 50, 28, 133, 9, 42, 180, 0, 10, 180, 0, 209, 4, 100, 133, 184, 0, 116, 153, 0, 29]
abbrev dktX0_isInject_0 : List UInt8 := dkwX0_isInject_0 ++ dktX0_isInject_1
theorem dksX0_isInject_0 : cX0_isInject.data.toList.drop 0 = dktX0_isInject_0 := by decide +kernel
theorem dksX0_isInject_1 : cX0_isInject.data.toList.drop 24 = dktX0_isInject_1 := dk_seg dksX0_isInject_0 24 rfl rfl
theorem dksX0_isInject_2 : cX0_isInject.data.toList.drop 47 = dktX0_isInject_2 := dk_seg dksX0_isInject_1 23 rfl rfl
theorem dksX0_isInject_3 : cX0_isInject.data.toList.drop 69 = dktX0_isInject_3 := dk_seg dksX0_isInject_2 22 rfl rfl
theorem dksX0_isInject_4 : cX0_isInject.data.toList.drop 91 = dktX0_isInject_4 := dk_seg dksX0_isInject_3 22 rfl rfl
theorem dksX0_isInject_5 : cX0_isInject.data.toList.drop 114 = dktX0_isInject_5 := dk_seg dksX0_isInject_4 23 rfl rfl
theorem dX0_isInject_0 : decode cX0_isInject 0 = .ok (.iload_n 1, 1) := dk_27 (dk_at dksX0_isInject_0 0 rfl rfl)
theorem dX0_isInject_1 : decode cX0_isInject 1 = .ok (.iconst 5, 1) := dk_8 (dk_at dksX0_isInject_0 1 rfl rfl)
theorem dX0_isInject_2 : decode cX0_isInject 2 = .ok (.if_icmp .ne 50, 3) := dk_160 0 50 (dk_at dksX0_isInject_0 2 rfl rfl)
theorem dX0_isInject_5 : decode cX0_isInject 5 = .ok (.iload_n 2, 1) := dk_28 (dk_at dksX0_isInject_0 5 rfl rfl)
theorem dX0_isInject_6 : decode cX0_isInject 6 = .ok (.i2l, 1) := dk_133 (dk_at dksX0_isInject_0 6 rfl rfl)
theorem dX0_isInject_7 : decode cX0_isInject 7 = .ok (.lconst 0, 1) := dk_9 (dk_at dksX0_isInject_0 7 rfl rfl)
theorem dX0_isInject_8 : decode cX0_isInject 8 = .ok (.aload_n 0, 1) := dk_42 (dk_at dksX0_isInject_0 8 rfl rfl)
theorem dX0_isInject_9 : decode cX0_isInject 9 = .ok (.getfield 10, 3) := dk_180 0 10 (dk_at dksX0_isInject_0 9 rfl rfl)
theorem dX0_isInject_12 : decode cX0_isInject 12 = .ok (.getfield 209, 3) := dk_180 0 209 (dk_at dksX0_isInject_0 12 rfl rfl)
theorem dX0_isInject_15 : decode cX0_isInject 15 = .ok (.iconst 1, 1) := dk_4 (dk_at dksX0_isInject_0 15 rfl rfl)
theorem dX0_isInject_16 : decode cX0_isInject 16 = .ok (.isub, 1) := dk_100 (dk_at dksX0_isInject_0 16 rfl rfl)
theorem dX0_isInject_17 : decode cX0_isInject 17 = .ok (.i2l, 1) := dk_133 (dk_at dksX0_isInject_0 17 rfl rfl)
theorem dX0_isInject_18 : decode cX0_isInject 18 = .ok (.invokestatic 116, 3) := dk_184 0 116 (dk_at dksX0_isInject_0 18 rfl rfl)
theorem dX0_isInject_21 : decode cX0_isInject 21 = .ok (.ifCond .eq 29, 3) := dk_153 0 29 (dk_at dksX0_isInject_0 21 rfl rfl)
theorem dX0_isInject_24 : decode cX0_isInject 24 = .ok (.iload_n 3, 1) := dk_29 (dk_at dksX0_isInject_1 0 rfl rfl)
theorem dX0_isInject_25 : decode cX0_isInject 25 = .ok (.i2l, 1) := dk_133 (dk_at dksX0_isInject_1 1 rfl rfl)
theorem dX0_isInject_26 : decode cX0_isInject 26 = .ok (.lconst 0, 1) := dk_9 (dk_at dksX0_isInject_1 2 rfl rfl)
theorem dX0_isInject_27 : decode cX0_isInject 27 = .ok (.ldc2_w 565, 3) := dk_20 2 53 (dk_at dksX0_isInject_1 3 rfl rfl)
theorem dX0_isInject_30 : decode cX0_isInject 30 = .ok (.invokestatic 116, 3) := dk_184 0 116 (dk_at dksX0_isInject_1 6 rfl rfl)
theorem dX0_isInject_33 : decode cX0_isInject 33 = .ok (.ifCond .eq 17, 3) := dk_153 0 17 (dk_at dksX0_isInject_1 9 rfl rfl)
theorem dX0_isInject_36 : decode cX0_isInject 36 = .ok (.iload 4, 2) := dk_21 4 (dk_at dksX0_isInject_1 12 rfl rfl)
theorem dX0_isInject_38 : decode cX0_isInject 38 = .ok (.ifCond .ne 12, 3) := dk_154 0 12 (dk_at dksX0_isInject_1 14 rfl rfl)
theorem dX0_isInject_41 : decode cX0_isInject 41 = .ok (.iload 5, 2) := dk_21 5 (dk_at dksX0_isInject_1 17 rfl rfl)
theorem dX0_isInject_43 : decode cX0_isInject 43 = .ok (.ifCond .ne 7, 3) := dk_154 0 7 (dk_at dksX0_isInject_1 19 rfl rfl)
theorem dX0_isInject_46 : decode cX0_isInject 46 = .ok (.iconst 1, 1) := dk_4 (dk_at dksX0_isInject_1 22 rfl rfl)
theorem dX0_isInject_47 : decode cX0_isInject 47 = .ok (.goto 4, 3) := dk_167 0 4 (dk_at dksX0_isInject_2 0 rfl rfl)
theorem dX0_isInject_50 : decode cX0_isInject 50 = .ok (.iconst 0, 1) := dk_3 (dk_at dksX0_isInject_2 3 rfl rfl)
theorem dX0_isInject_51 : decode cX0_isInject 51 = .ok (.ireturn, 1) := dk_172 (dk_at dksX0_isInject_2 4 rfl rfl)
theorem dX0_isInject_52 : decode cX0_isInject 52 = .ok (.iload_n 1, 1) := dk_27 (dk_at dksX0_isInject_2 5 rfl rfl)
theorem dX0_isInject_53 : decode cX0_isInject 53 = .ok (.i2l, 1) := dk_133 (dk_at dksX0_isInject_2 6 rfl rfl)
theorem dX0_isInject_54 : decode cX0_isInject 54 = .ok (.lconst 0, 1) := dk_9 (dk_at dksX0_isInject_2 7 rfl rfl)
theorem dX0_isInject_55 : decode cX0_isInject 55 = .ok (.ldc2_w 557, 3) := dk_20 2 45 (dk_at dksX0_isInject_2 8 rfl rfl)
theorem dX0_isInject_58 : decode cX0_isInject 58 = .ok (.invokestatic 116, 3) := dk_184 0 116 (dk_at dksX0_isInject_2 11 rfl rfl)
theorem dX0_isInject_61 : decode cX0_isInject 61 = .ok (.ifCond .eq 36, 3) := dk_153 0 36 (dk_at dksX0_isInject_2 14 rfl rfl)
theorem dX0_isInject_64 : decode cX0_isInject 64 = .ok (.aload_n 0, 1) := dk_42 (dk_at dksX0_isInject_2 17 rfl rfl)
theorem dX0_isInject_65 : decode cX0_isInject 65 = .ok (.iload_n 2, 1) := dk_28 (dk_at dksX0_isInject_2 18 rfl rfl)
theorem dX0_isInject_66 : decode cX0_isInject 66 = .ok (.invokevirtual 168, 3) := dk_182 0 168 (dk_at dksX0_isInject_2 19 rfl rfl)
theorem dX0_isInject_69 : decode cX0_isInject 69 = .ok (.ifCond .eq 28, 3) := dk_153 0 28 (dk_at dksX0_isInject_3 0 rfl rfl)
theorem dX0_isInject_72 : decode cX0_isInject 72 = .ok (.iload_n 3, 1) := dk_29 (dk_at dksX0_isInject_3 3 rfl rfl)
theorem dX0_isInject_73 : decode cX0_isInject 73 = .ok (.i2l, 1) := dk_133 (dk_at dksX0_isInject_3 4 rfl rfl)
theorem dX0_isInject_74 : decode cX0_isInject 74 = .ok (.lconst 0, 1) := dk_9 (dk_at dksX0_isInject_3 5 rfl rfl)
theorem dX0_isInject_75 : decode cX0_isInject 75 = .ok (.ldc2_w 287, 3) := dk_20 1 31 (dk_at dksX0_isInject_3 6 rfl rfl)
theorem dX0_isInject_78 : decode cX0_isInject 78 = .ok (.invokestatic 116, 3) := dk_184 0 116 (dk_at dksX0_isInject_3 9 rfl rfl)
theorem dX0_isInject_81 : decode cX0_isInject 81 = .ok (.ifCond .eq 16, 3) := dk_153 0 16 (dk_at dksX0_isInject_3 12 rfl rfl)
theorem dX0_isInject_84 : decode cX0_isInject 84 = .ok (.iload 5, 2) := dk_21 5 (dk_at dksX0_isInject_3 15 rfl rfl)
theorem dX0_isInject_86 : decode cX0_isInject 86 = .ok (.i2l, 1) := dk_133 (dk_at dksX0_isInject_3 17 rfl rfl)
theorem dX0_isInject_87 : decode cX0_isInject 87 = .ok (.lconst 1, 1) := dk_10 (dk_at dksX0_isInject_3 18 rfl rfl)
theorem dX0_isInject_88 : decode cX0_isInject 88 = .ok (.ldc2_w 567, 3) := dk_20 2 55 (dk_at dksX0_isInject_3 19 rfl rfl)
theorem dX0_isInject_91 : decode cX0_isInject 91 = .ok (.invokestatic 116, 3) := dk_184 0 116 (dk_at dksX0_isInject_4 0 rfl rfl)
theorem dX0_isInject_94 : decode cX0_isInject 94 = .ok (.ifCond .ne 5, 3) := dk_154 0 5 (dk_at dksX0_isInject_4 3 rfl rfl)
theorem dX0_isInject_97 : decode cX0_isInject 97 = .ok (.iconst 0, 1) := dk_3 (dk_at dksX0_isInject_4 6 rfl rfl)
theorem dX0_isInject_98 : decode cX0_isInject 98 = .ok (.ireturn, 1) := dk_172 (dk_at dksX0_isInject_4 7 rfl rfl)
theorem dX0_isInject_99 : decode cX0_isInject 99 = .ok (.iload_n 1, 1) := dk_27 (dk_at dksX0_isInject_4 8 rfl rfl)
theorem dX0_isInject_100 : decode cX0_isInject 100 = .ok (.iconst 4, 1) := dk_7 (dk_at dksX0_isInject_4 9 rfl rfl)
theorem dX0_isInject_101 : decode cX0_isInject 101 = .ok (.if_icmp .ne 16, 3) := dk_160 0 16 (dk_at dksX0_isInject_4 10 rfl rfl)
theorem dX0_isInject_104 : decode cX0_isInject 104 = .ok (.iload 4, 2) := dk_21 4 (dk_at dksX0_isInject_4 13 rfl rfl)
theorem dX0_isInject_106 : decode cX0_isInject 106 = .ok (.ifCond .ne 7, 3) := dk_154 0 7 (dk_at dksX0_isInject_4 15 rfl rfl)
theorem dX0_isInject_109 : decode cX0_isInject 109 = .ok (.iconst 1, 1) := dk_4 (dk_at dksX0_isInject_4 18 rfl rfl)
theorem dX0_isInject_110 : decode cX0_isInject 110 = .ok (.goto 25, 3) := dk_167 0 25 (dk_at dksX0_isInject_4 19 rfl rfl)
theorem dX0_isInject_113 : decode cX0_isInject 113 = .ok (.iconst 0, 1) := dk_3 (dk_at dksX0_isInject_4 22 rfl rfl)
theorem dX0_isInject_114 : decode cX0_isInject 114 = .ok (.goto 21, 3) := dk_167 0 21 (dk_at dksX0_isInject_5 0 rfl rfl)
theorem dX0_isInject_117 : decode cX0_isInject 117 = .ok (.iload 4, 2) := dk_21 4 (dk_at dksX0_isInject_5 3 rfl rfl)
theorem dX0_isInject_119 : decode cX0_isInject 119 = .ok (.i2l, 1) := dk_133 (dk_at dksX0_isInject_5 5 rfl rfl)
theorem dX0_isInject_120 : decode cX0_isInject 120 = .ok (.lconst 0, 1) := dk_9 (dk_at dksX0_isInject_5 6 rfl rfl)
theorem dX0_isInject_121 : decode cX0_isInject 121 = .ok (.aload_n 0, 1) := dk_42 (dk_at dksX0_isInject_5 7 rfl rfl)
theorem dX0_isInject_122 : decode cX0_isInject 122 = .ok (.iload_n 2, 1) := dk_28 (dk_at dksX0_isInject_5 8 rfl rfl)
theorem dX0_isInject_123 : decode cX0_isInject 123 = .ok (.invokevirtual 178, 3) := dk_182 0 178 (dk_at dksX0_isInject_5 9 rfl rfl)
theorem dX0_isInject_126 : decode cX0_isInject 126 = .ok (.getfield 200, 3) := dk_180 0 200 (dk_at dksX0_isInject_5 12 rfl rfl)
theorem dX0_isInject_129 : decode cX0_isInject 129 = .ok (.iconst 1, 1) := dk_4 (dk_at dksX0_isInject_5 15 rfl rfl)
theorem dX0_isInject_130 : decode cX0_isInject 130 = .ok (.isub, 1) := dk_100 (dk_at dksX0_isInject_5 16 rfl rfl)
theorem dX0_isInject_131 : decode cX0_isInject 131 = .ok (.i2l, 1) := dk_133 (dk_at dksX0_isInject_5 17 rfl rfl)
theorem dX0_isInject_132 : decode cX0_isInject 132 = .ok (.invokestatic 116, 3) := dk_184 0 116 (dk_at dksX0_isInject_5 18 rfl rfl)
theorem dX0_isInject_135 : decode cX0_isInject 135 = .ok (.ireturn, 1) := dk_172 (dk_at dksX0_isInject_5 21 rfl rfl)
abbrev cX0_undo : ByteArray := prog_1_method_98_code
def yX0_undo : MethodName := ⟨RX0, "undo", "()I"⟩
def dkwX0_undo_2 : List UInt8 := [180, 0, 10, 180, 0, 175, 182, 0, 147, 4, 100, 182, 2, 36, 87, 27, 4, 100, 172]
abbrev dktX0_undo_2 : List UInt8 := dkwX0_undo_2 ++ []
def dkwX0_undo_1 : List UInt8 := [180, 0, 10, 180, 2, 61, 100, 60, 27, 154, 0, 6, 16, 251, 172, 42, 180, 0, 10, 180, 0, 175, 42]
abbrev dktX0_undo_1 : List UInt8 := dkwX0_undo_1 ++ dktX0_undo_2
def dkwX0_undo_0 : List UInt8 := [42, 180, 0, 10, 182, 0, 161, 154, 0, 6, 16, 254, 172, 42, 180, 0, 10, 180, 0, 175, 182, 0, 147, 42]
abbrev dktX0_undo_0 : List UInt8 := dkwX0_undo_0 ++ dktX0_undo_1
theorem dksX0_undo_0 : cX0_undo.data.toList.drop 0 = dktX0_undo_0 := by decide +kernel
theorem dksX0_undo_1 : cX0_undo.data.toList.drop 24 = dktX0_undo_1 := dk_seg dksX0_undo_0 24 rfl rfl
theorem dksX0_undo_2 : cX0_undo.data.toList.drop 47 = dktX0_undo_2 := dk_seg dksX0_undo_1 23 rfl rfl
theorem dX0_undo_0 : decode cX0_undo 0 = .ok (.aload_n 0, 1) := dk_42 (dk_at dksX0_undo_0 0 rfl rfl)
theorem dX0_undo_1 : decode cX0_undo 1 = .ok (.getfield 10, 3) := dk_180 0 10 (dk_at dksX0_undo_0 1 rfl rfl)
theorem dX0_undo_4 : decode cX0_undo 4 = .ok (.invokevirtual 161, 3) := dk_182 0 161 (dk_at dksX0_undo_0 4 rfl rfl)
theorem dX0_undo_7 : decode cX0_undo 7 = .ok (.ifCond .ne 6, 3) := dk_154 0 6 (dk_at dksX0_undo_0 7 rfl rfl)
theorem dX0_undo_10 : decode cX0_undo 10 = .ok (.bipush (-2), 2) := dk_16 254 (dk_at dksX0_undo_0 10 rfl rfl)
theorem dX0_undo_12 : decode cX0_undo 12 = .ok (.ireturn, 1) := dk_172 (dk_at dksX0_undo_0 12 rfl rfl)
theorem dX0_undo_13 : decode cX0_undo 13 = .ok (.aload_n 0, 1) := dk_42 (dk_at dksX0_undo_0 13 rfl rfl)
theorem dX0_undo_14 : decode cX0_undo 14 = .ok (.getfield 10, 3) := dk_180 0 10 (dk_at dksX0_undo_0 14 rfl rfl)
theorem dX0_undo_17 : decode cX0_undo 17 = .ok (.getfield 175, 3) := dk_180 0 175 (dk_at dksX0_undo_0 17 rfl rfl)
theorem dX0_undo_20 : decode cX0_undo 20 = .ok (.invokevirtual 147, 3) := dk_182 0 147 (dk_at dksX0_undo_0 20 rfl rfl)
theorem dX0_undo_23 : decode cX0_undo 23 = .ok (.aload_n 0, 1) := dk_42 (dk_at dksX0_undo_0 23 rfl rfl)
theorem dX0_undo_24 : decode cX0_undo 24 = .ok (.getfield 10, 3) := dk_180 0 10 (dk_at dksX0_undo_1 0 rfl rfl)
theorem dX0_undo_27 : decode cX0_undo 27 = .ok (.getfield 573, 3) := dk_180 2 61 (dk_at dksX0_undo_1 3 rfl rfl)
theorem dX0_undo_30 : decode cX0_undo 30 = .ok (.isub, 1) := dk_100 (dk_at dksX0_undo_1 6 rfl rfl)
theorem dX0_undo_31 : decode cX0_undo 31 = .ok (.istore_n 1, 1) := dk_60 (dk_at dksX0_undo_1 7 rfl rfl)
theorem dX0_undo_32 : decode cX0_undo 32 = .ok (.iload_n 1, 1) := dk_27 (dk_at dksX0_undo_1 8 rfl rfl)
theorem dX0_undo_33 : decode cX0_undo 33 = .ok (.ifCond .ne 6, 3) := dk_154 0 6 (dk_at dksX0_undo_1 9 rfl rfl)
theorem dX0_undo_36 : decode cX0_undo 36 = .ok (.bipush (-5), 2) := dk_16 251 (dk_at dksX0_undo_1 12 rfl rfl)
theorem dX0_undo_38 : decode cX0_undo 38 = .ok (.ireturn, 1) := dk_172 (dk_at dksX0_undo_1 14 rfl rfl)
theorem dX0_undo_39 : decode cX0_undo 39 = .ok (.aload_n 0, 1) := dk_42 (dk_at dksX0_undo_1 15 rfl rfl)
theorem dX0_undo_40 : decode cX0_undo 40 = .ok (.getfield 10, 3) := dk_180 0 10 (dk_at dksX0_undo_1 16 rfl rfl)
theorem dX0_undo_43 : decode cX0_undo 43 = .ok (.getfield 175, 3) := dk_180 0 175 (dk_at dksX0_undo_1 19 rfl rfl)
theorem dX0_undo_46 : decode cX0_undo 46 = .ok (.aload_n 0, 1) := dk_42 (dk_at dksX0_undo_1 22 rfl rfl)
theorem dX0_undo_47 : decode cX0_undo 47 = .ok (.getfield 10, 3) := dk_180 0 10 (dk_at dksX0_undo_2 0 rfl rfl)
theorem dX0_undo_50 : decode cX0_undo 50 = .ok (.getfield 175, 3) := dk_180 0 175 (dk_at dksX0_undo_2 3 rfl rfl)
theorem dX0_undo_53 : decode cX0_undo 53 = .ok (.invokevirtual 147, 3) := dk_182 0 147 (dk_at dksX0_undo_2 6 rfl rfl)
theorem dX0_undo_56 : decode cX0_undo 56 = .ok (.iconst 1, 1) := dk_4 (dk_at dksX0_undo_2 9 rfl rfl)
theorem dX0_undo_57 : decode cX0_undo 57 = .ok (.isub, 1) := dk_100 (dk_at dksX0_undo_2 10 rfl rfl)
theorem dX0_undo_58 : decode cX0_undo 58 = .ok (.invokevirtual 548, 3) := dk_182 2 36 (dk_at dksX0_undo_2 11 rfl rfl)
theorem dX0_undo_61 : decode cX0_undo 61 = .ok (.pop, 1) := dk_87 (dk_at dksX0_undo_2 14 rfl rfl)
theorem dX0_undo_62 : decode cX0_undo 62 = .ok (.iload_n 1, 1) := dk_27 (dk_at dksX0_undo_2 15 rfl rfl)
theorem dX0_undo_63 : decode cX0_undo 63 = .ok (.iconst 1, 1) := dk_4 (dk_at dksX0_undo_2 16 rfl rfl)
theorem dX0_undo_64 : decode cX0_undo 64 = .ok (.isub, 1) := dk_100 (dk_at dksX0_undo_2 17 rfl rfl)
theorem dX0_undo_65 : decode cX0_undo 65 = .ok (.ireturn, 1) := dk_172 (dk_at dksX0_undo_2 18 rfl rfl)
abbrev cX0_anew : ByteArray := prog_1_method_99_code
def yX0_anew : MethodName := ⟨RX0, "anew", "()I"⟩
def dkwX0_anew_3 : List UInt8 := [100, 182, 2, 36, 87, 167, 255, 213, 27, 172]
abbrev dktX0_anew_3 : List UInt8 := dkwX0_anew_3 ++ []
def dkwX0_anew_2 : List UInt8 := [180, 2, 61, 164, 0, 29, 42, 180, 0, 10, 180, 0, 175, 42, 180, 0, 10, 180, 0, 175, 182, 0, 147, 4]
abbrev dktX0_anew_2 : List UInt8 := dkwX0_anew_2 ++ dktX0_anew_3
def dkwX0_anew_1 : List UInt8 := [180, 0, 10, 180, 2, 61, 100, 60, 42, 180, 0, 10, 180, 0, 175, 182, 0, 147, 42, 180, 0, 10]
abbrev dktX0_anew_1 : List UInt8 := dkwX0_anew_1 ++ dktX0_anew_2
def dkwX0_anew_0 : List UInt8 := [42, 180, 0, 10, 182, 0, 161, 154, 0, 6, 16, 254, 172, 42, 180, 0, 10, 180, 0, 175, 182, 0, 147, 42]
abbrev dktX0_anew_0 : List UInt8 := dkwX0_anew_0 ++ dktX0_anew_1
theorem dksX0_anew_0 : cX0_anew.data.toList.drop 0 = dktX0_anew_0 := by decide +kernel
theorem dksX0_anew_1 : cX0_anew.data.toList.drop 24 = dktX0_anew_1 := dk_seg dksX0_anew_0 24 rfl rfl
theorem dksX0_anew_2 : cX0_anew.data.toList.drop 46 = dktX0_anew_2 := dk_seg dksX0_anew_1 22 rfl rfl
theorem dksX0_anew_3 : cX0_anew.data.toList.drop 70 = dktX0_anew_3 := dk_seg dksX0_anew_2 24 rfl rfl
theorem dX0_anew_0 : decode cX0_anew 0 = .ok (.aload_n 0, 1) := dk_42 (dk_at dksX0_anew_0 0 rfl rfl)
theorem dX0_anew_1 : decode cX0_anew 1 = .ok (.getfield 10, 3) := dk_180 0 10 (dk_at dksX0_anew_0 1 rfl rfl)
theorem dX0_anew_4 : decode cX0_anew 4 = .ok (.invokevirtual 161, 3) := dk_182 0 161 (dk_at dksX0_anew_0 4 rfl rfl)
theorem dX0_anew_7 : decode cX0_anew 7 = .ok (.ifCond .ne 6, 3) := dk_154 0 6 (dk_at dksX0_anew_0 7 rfl rfl)
theorem dX0_anew_10 : decode cX0_anew 10 = .ok (.bipush (-2), 2) := dk_16 254 (dk_at dksX0_anew_0 10 rfl rfl)
theorem dX0_anew_12 : decode cX0_anew 12 = .ok (.ireturn, 1) := dk_172 (dk_at dksX0_anew_0 12 rfl rfl)
theorem dX0_anew_13 : decode cX0_anew 13 = .ok (.aload_n 0, 1) := dk_42 (dk_at dksX0_anew_0 13 rfl rfl)
theorem dX0_anew_14 : decode cX0_anew 14 = .ok (.getfield 10, 3) := dk_180 0 10 (dk_at dksX0_anew_0 14 rfl rfl)
theorem dX0_anew_17 : decode cX0_anew 17 = .ok (.getfield 175, 3) := dk_180 0 175 (dk_at dksX0_anew_0 17 rfl rfl)
theorem dX0_anew_20 : decode cX0_anew 20 = .ok (.invokevirtual 147, 3) := dk_182 0 147 (dk_at dksX0_anew_0 20 rfl rfl)
theorem dX0_anew_23 : decode cX0_anew 23 = .ok (.aload_n 0, 1) := dk_42 (dk_at dksX0_anew_0 23 rfl rfl)
theorem dX0_anew_24 : decode cX0_anew 24 = .ok (.getfield 10, 3) := dk_180 0 10 (dk_at dksX0_anew_1 0 rfl rfl)
theorem dX0_anew_27 : decode cX0_anew 27 = .ok (.getfield 573, 3) := dk_180 2 61 (dk_at dksX0_anew_1 3 rfl rfl)
theorem dX0_anew_30 : decode cX0_anew 30 = .ok (.isub, 1) := dk_100 (dk_at dksX0_anew_1 6 rfl rfl)
theorem dX0_anew_31 : decode cX0_anew 31 = .ok (.istore_n 1, 1) := dk_60 (dk_at dksX0_anew_1 7 rfl rfl)
theorem dX0_anew_32 : decode cX0_anew 32 = .ok (.aload_n 0, 1) := dk_42 (dk_at dksX0_anew_1 8 rfl rfl)
theorem dX0_anew_33 : decode cX0_anew 33 = .ok (.getfield 10, 3) := dk_180 0 10 (dk_at dksX0_anew_1 9 rfl rfl)
theorem dX0_anew_36 : decode cX0_anew 36 = .ok (.getfield 175, 3) := dk_180 0 175 (dk_at dksX0_anew_1 12 rfl rfl)
theorem dX0_anew_39 : decode cX0_anew 39 = .ok (.invokevirtual 147, 3) := dk_182 0 147 (dk_at dksX0_anew_1 15 rfl rfl)
theorem dX0_anew_42 : decode cX0_anew 42 = .ok (.aload_n 0, 1) := dk_42 (dk_at dksX0_anew_1 18 rfl rfl)
theorem dX0_anew_43 : decode cX0_anew 43 = .ok (.getfield 10, 3) := dk_180 0 10 (dk_at dksX0_anew_1 19 rfl rfl)
theorem dX0_anew_46 : decode cX0_anew 46 = .ok (.getfield 573, 3) := dk_180 2 61 (dk_at dksX0_anew_2 0 rfl rfl)
theorem dX0_anew_49 : decode cX0_anew 49 = .ok (.if_icmp .le 29, 3) := dk_164 0 29 (dk_at dksX0_anew_2 3 rfl rfl)
theorem dX0_anew_52 : decode cX0_anew 52 = .ok (.aload_n 0, 1) := dk_42 (dk_at dksX0_anew_2 6 rfl rfl)
theorem dX0_anew_53 : decode cX0_anew 53 = .ok (.getfield 10, 3) := dk_180 0 10 (dk_at dksX0_anew_2 7 rfl rfl)
theorem dX0_anew_56 : decode cX0_anew 56 = .ok (.getfield 175, 3) := dk_180 0 175 (dk_at dksX0_anew_2 10 rfl rfl)
theorem dX0_anew_59 : decode cX0_anew 59 = .ok (.aload_n 0, 1) := dk_42 (dk_at dksX0_anew_2 13 rfl rfl)
theorem dX0_anew_60 : decode cX0_anew 60 = .ok (.getfield 10, 3) := dk_180 0 10 (dk_at dksX0_anew_2 14 rfl rfl)
theorem dX0_anew_63 : decode cX0_anew 63 = .ok (.getfield 175, 3) := dk_180 0 175 (dk_at dksX0_anew_2 17 rfl rfl)
theorem dX0_anew_66 : decode cX0_anew 66 = .ok (.invokevirtual 147, 3) := dk_182 0 147 (dk_at dksX0_anew_2 20 rfl rfl)
theorem dX0_anew_69 : decode cX0_anew 69 = .ok (.iconst 1, 1) := dk_4 (dk_at dksX0_anew_2 23 rfl rfl)
theorem dX0_anew_70 : decode cX0_anew 70 = .ok (.isub, 1) := dk_100 (dk_at dksX0_anew_3 0 rfl rfl)
theorem dX0_anew_71 : decode cX0_anew 71 = .ok (.invokevirtual 548, 3) := dk_182 2 36 (dk_at dksX0_anew_3 1 rfl rfl)
theorem dX0_anew_74 : decode cX0_anew 74 = .ok (.pop, 1) := dk_87 (dk_at dksX0_anew_3 4 rfl rfl)
theorem dX0_anew_75 : decode cX0_anew 75 = .ok (.goto (-43), 3) := dk_167 255 213 (dk_at dksX0_anew_3 5 rfl rfl)
theorem dX0_anew_78 : decode cX0_anew 78 = .ok (.iload_n 1, 1) := dk_27 (dk_at dksX0_anew_3 8 rfl rfl)
theorem dX0_anew_79 : decode cX0_anew 79 = .ok (.ireturn, 1) := dk_172 (dk_at dksX0_anew_3 9 rfl rfl)
abbrev cX0_count : ByteArray := prog_1_method_100_code
def yX0_count : MethodName := ⟨RX0, "count", "(I)I"⟩
def dkwX0_count_5 : List UInt8 := [180, 0, 132, 172, 42, 180, 0, 113, 172, 2, 172]
abbrev dktX0_count_5 : List UInt8 := dkwX0_count_5 ++ []
def dkwX0_count_4 : List UInt8 := [180, 0, 10, 180, 0, 175, 182, 0, 147, 42, 180, 0, 10, 180, 2, 61, 100, 172, 42, 180, 0, 10]
abbrev dktX0_count_4 : List UInt8 := dkwX0_count_4 ++ dktX0_count_5
def dkwX0_count_3 : List UInt8 := [42, 180, 0, 10, 180, 0, 209, 172, 42, 182, 0, 159, 172, 42, 180, 0, 10, 180, 2, 61, 172, 42]
abbrev dktX0_count_3 : List UInt8 := dkwX0_count_3 ++ dktX0_count_4
def dkwX0_count_2 : List UInt8 := [42, 180, 0, 10, 180, 0, 165, 172, 42, 180, 0, 10, 180, 1, 11, 172, 42, 180, 0, 10, 180, 1, 179, 172]
abbrev dktX0_count_2 : List UInt8 := dkwX0_count_2 ++ dktX0_count_3
def dkwX0_count_1 : List UInt8 := [170, 0, 0, 0, 0, 0, 128, 0, 0, 0, 0, 0, 0, 0, 8, 0, 0, 0, 51, 0, 0, 0, 59, 0, 0, 0, 67, 0, 0, 0, 75, 0, 0, 0, 83, 0, 0, 0, 88, 0, 0, 0, 96, 0, 0, 0, 115, 0, 0, 0, 123]
abbrev dktX0_count_1 : List UInt8 := dkwX0_count_1 ++ dktX0_count_2
def dkwX0_count_0 : List UInt8 := [27]
abbrev dktX0_count_0 : List UInt8 := dkwX0_count_0 ++ dktX0_count_1
theorem dksX0_count_0 : cX0_count.data.toList.drop 0 = dktX0_count_0 := by decide +kernel
theorem dksX0_count_1 : cX0_count.data.toList.drop 1 = dktX0_count_1 := dk_seg dksX0_count_0 1 rfl rfl
theorem dksX0_count_2 : cX0_count.data.toList.drop 52 = dktX0_count_2 := dk_seg dksX0_count_1 51 rfl rfl
theorem dksX0_count_3 : cX0_count.data.toList.drop 76 = dktX0_count_3 := dk_seg dksX0_count_2 24 rfl rfl
theorem dksX0_count_4 : cX0_count.data.toList.drop 98 = dktX0_count_4 := dk_seg dksX0_count_3 22 rfl rfl
theorem dksX0_count_5 : cX0_count.data.toList.drop 120 = dktX0_count_5 := dk_seg dksX0_count_4 22 rfl rfl
theorem dX0_count_0 : decode cX0_count 0 = .ok (.iload_n 1, 1) := dk_27 (dk_at dksX0_count_0 0 rfl rfl)
theorem dX0_count_1 : decode cX0_count 1 = .ok (.tableswitch 128 0 8 #[51, 59, 67, 75, 83, 88, 96, 115, 123], 51) := by decide +kernel
theorem dX0_count_52 : decode cX0_count 52 = .ok (.aload_n 0, 1) := dk_42 (dk_at dksX0_count_2 0 rfl rfl)
theorem dX0_count_53 : decode cX0_count 53 = .ok (.getfield 10, 3) := dk_180 0 10 (dk_at dksX0_count_2 1 rfl rfl)
theorem dX0_count_56 : decode cX0_count 56 = .ok (.getfield 165, 3) := dk_180 0 165 (dk_at dksX0_count_2 4 rfl rfl)
theorem dX0_count_59 : decode cX0_count 59 = .ok (.ireturn, 1) := dk_172 (dk_at dksX0_count_2 7 rfl rfl)
theorem dX0_count_60 : decode cX0_count 60 = .ok (.aload_n 0, 1) := dk_42 (dk_at dksX0_count_2 8 rfl rfl)
theorem dX0_count_61 : decode cX0_count 61 = .ok (.getfield 10, 3) := dk_180 0 10 (dk_at dksX0_count_2 9 rfl rfl)
theorem dX0_count_64 : decode cX0_count 64 = .ok (.getfield 267, 3) := dk_180 1 11 (dk_at dksX0_count_2 12 rfl rfl)
theorem dX0_count_67 : decode cX0_count 67 = .ok (.ireturn, 1) := dk_172 (dk_at dksX0_count_2 15 rfl rfl)
theorem dX0_count_68 : decode cX0_count 68 = .ok (.aload_n 0, 1) := dk_42 (dk_at dksX0_count_2 16 rfl rfl)
theorem dX0_count_69 : decode cX0_count 69 = .ok (.getfield 10, 3) := dk_180 0 10 (dk_at dksX0_count_2 17 rfl rfl)
theorem dX0_count_72 : decode cX0_count 72 = .ok (.getfield 435, 3) := dk_180 1 179 (dk_at dksX0_count_2 20 rfl rfl)
theorem dX0_count_75 : decode cX0_count 75 = .ok (.ireturn, 1) := dk_172 (dk_at dksX0_count_2 23 rfl rfl)
theorem dX0_count_76 : decode cX0_count 76 = .ok (.aload_n 0, 1) := dk_42 (dk_at dksX0_count_3 0 rfl rfl)
theorem dX0_count_77 : decode cX0_count 77 = .ok (.getfield 10, 3) := dk_180 0 10 (dk_at dksX0_count_3 1 rfl rfl)
theorem dX0_count_80 : decode cX0_count 80 = .ok (.getfield 209, 3) := dk_180 0 209 (dk_at dksX0_count_3 4 rfl rfl)
theorem dX0_count_83 : decode cX0_count 83 = .ok (.ireturn, 1) := dk_172 (dk_at dksX0_count_3 7 rfl rfl)
theorem dX0_count_84 : decode cX0_count 84 = .ok (.aload_n 0, 1) := dk_42 (dk_at dksX0_count_3 8 rfl rfl)
theorem dX0_count_85 : decode cX0_count 85 = .ok (.invokevirtual 159, 3) := dk_182 0 159 (dk_at dksX0_count_3 9 rfl rfl)
theorem dX0_count_88 : decode cX0_count 88 = .ok (.ireturn, 1) := dk_172 (dk_at dksX0_count_3 12 rfl rfl)
theorem dX0_count_89 : decode cX0_count 89 = .ok (.aload_n 0, 1) := dk_42 (dk_at dksX0_count_3 13 rfl rfl)
theorem dX0_count_90 : decode cX0_count 90 = .ok (.getfield 10, 3) := dk_180 0 10 (dk_at dksX0_count_3 14 rfl rfl)
theorem dX0_count_93 : decode cX0_count 93 = .ok (.getfield 573, 3) := dk_180 2 61 (dk_at dksX0_count_3 17 rfl rfl)
theorem dX0_count_96 : decode cX0_count 96 = .ok (.ireturn, 1) := dk_172 (dk_at dksX0_count_3 20 rfl rfl)
theorem dX0_count_97 : decode cX0_count 97 = .ok (.aload_n 0, 1) := dk_42 (dk_at dksX0_count_3 21 rfl rfl)
theorem dX0_count_98 : decode cX0_count 98 = .ok (.getfield 10, 3) := dk_180 0 10 (dk_at dksX0_count_4 0 rfl rfl)
theorem dX0_count_101 : decode cX0_count 101 = .ok (.getfield 175, 3) := dk_180 0 175 (dk_at dksX0_count_4 3 rfl rfl)
theorem dX0_count_104 : decode cX0_count 104 = .ok (.invokevirtual 147, 3) := dk_182 0 147 (dk_at dksX0_count_4 6 rfl rfl)
theorem dX0_count_107 : decode cX0_count 107 = .ok (.aload_n 0, 1) := dk_42 (dk_at dksX0_count_4 9 rfl rfl)
theorem dX0_count_108 : decode cX0_count 108 = .ok (.getfield 10, 3) := dk_180 0 10 (dk_at dksX0_count_4 10 rfl rfl)
theorem dX0_count_111 : decode cX0_count 111 = .ok (.getfield 573, 3) := dk_180 2 61 (dk_at dksX0_count_4 13 rfl rfl)
theorem dX0_count_114 : decode cX0_count 114 = .ok (.isub, 1) := dk_100 (dk_at dksX0_count_4 16 rfl rfl)
theorem dX0_count_115 : decode cX0_count 115 = .ok (.ireturn, 1) := dk_172 (dk_at dksX0_count_4 17 rfl rfl)
theorem dX0_count_116 : decode cX0_count 116 = .ok (.aload_n 0, 1) := dk_42 (dk_at dksX0_count_4 18 rfl rfl)
theorem dX0_count_117 : decode cX0_count 117 = .ok (.getfield 10, 3) := dk_180 0 10 (dk_at dksX0_count_4 19 rfl rfl)
theorem dX0_count_120 : decode cX0_count 120 = .ok (.getfield 132, 3) := dk_180 0 132 (dk_at dksX0_count_5 0 rfl rfl)
theorem dX0_count_123 : decode cX0_count 123 = .ok (.ireturn, 1) := dk_172 (dk_at dksX0_count_5 3 rfl rfl)
theorem dX0_count_124 : decode cX0_count 124 = .ok (.aload_n 0, 1) := dk_42 (dk_at dksX0_count_5 4 rfl rfl)
theorem dX0_count_125 : decode cX0_count 125 = .ok (.getfield 113, 3) := dk_180 0 113 (dk_at dksX0_count_5 5 rfl rfl)
theorem dX0_count_128 : decode cX0_count 128 = .ok (.ireturn, 1) := dk_172 (dk_at dksX0_count_5 8 rfl rfl)
theorem dX0_count_129 : decode cX0_count 129 = .ok (.iconst (-1), 1) := dk_2 (dk_at dksX0_count_5 9 rfl rfl)
theorem dX0_count_130 : decode cX0_count 130 = .ok (.ireturn, 1) := dk_172 (dk_at dksX0_count_5 10 rfl rfl)
abbrev cX0_image : ByteArray := prog_1_method_101_code
def yX0_image : MethodName := ⟨RX0, "image", "(I)I"⟩
def dkwX0_image_1 : List UInt8 := [182, 2, 66, 83, 3, 172]
abbrev dktX0_image_1 : List UInt8 := dkwX0_image_1 ++ []
def dkwX0_image_0 : List UInt8 := [27, 133, 9, 20, 2, 64, 184, 0, 116, 154, 0, 6, 16, 254, 172, 42, 180, 0, 16, 27, 42, 180, 0, 10]
abbrev dktX0_image_0 : List UInt8 := dkwX0_image_0 ++ dktX0_image_1
theorem dksX0_image_0 : cX0_image.data.toList.drop 0 = dktX0_image_0 := by decide +kernel
theorem dksX0_image_1 : cX0_image.data.toList.drop 24 = dktX0_image_1 := dk_seg dksX0_image_0 24 rfl rfl
theorem dX0_image_0 : decode cX0_image 0 = .ok (.iload_n 1, 1) := dk_27 (dk_at dksX0_image_0 0 rfl rfl)
theorem dX0_image_1 : decode cX0_image 1 = .ok (.i2l, 1) := dk_133 (dk_at dksX0_image_0 1 rfl rfl)
theorem dX0_image_2 : decode cX0_image 2 = .ok (.lconst 0, 1) := dk_9 (dk_at dksX0_image_0 2 rfl rfl)
theorem dX0_image_3 : decode cX0_image 3 = .ok (.ldc2_w 576, 3) := dk_20 2 64 (dk_at dksX0_image_0 3 rfl rfl)
theorem dX0_image_6 : decode cX0_image 6 = .ok (.invokestatic 116, 3) := dk_184 0 116 (dk_at dksX0_image_0 6 rfl rfl)
theorem dX0_image_9 : decode cX0_image 9 = .ok (.ifCond .ne 6, 3) := dk_154 0 6 (dk_at dksX0_image_0 9 rfl rfl)
theorem dX0_image_12 : decode cX0_image 12 = .ok (.bipush (-2), 2) := dk_16 254 (dk_at dksX0_image_0 12 rfl rfl)
theorem dX0_image_14 : decode cX0_image 14 = .ok (.ireturn, 1) := dk_172 (dk_at dksX0_image_0 14 rfl rfl)
theorem dX0_image_15 : decode cX0_image 15 = .ok (.aload_n 0, 1) := dk_42 (dk_at dksX0_image_0 15 rfl rfl)
theorem dX0_image_16 : decode cX0_image 16 = .ok (.getfield 16, 3) := dk_180 0 16 (dk_at dksX0_image_0 16 rfl rfl)
theorem dX0_image_19 : decode cX0_image 19 = .ok (.iload_n 1, 1) := dk_27 (dk_at dksX0_image_0 19 rfl rfl)
theorem dX0_image_20 : decode cX0_image 20 = .ok (.aload_n 0, 1) := dk_42 (dk_at dksX0_image_0 20 rfl rfl)
theorem dX0_image_21 : decode cX0_image 21 = .ok (.getfield 10, 3) := dk_180 0 10 (dk_at dksX0_image_0 21 rfl rfl)
theorem dX0_image_24 : decode cX0_image 24 = .ok (.invokevirtual 578, 3) := dk_182 2 66 (dk_at dksX0_image_1 0 rfl rfl)
theorem dX0_image_27 : decode cX0_image 27 = .ok (.aastore, 1) := dk_83 (dk_at dksX0_image_1 3 rfl rfl)
theorem dX0_image_28 : decode cX0_image 28 = .ok (.iconst 0, 1) := dk_3 (dk_at dksX0_image_1 4 rfl rfl)
theorem dX0_image_29 : decode cX0_image 29 = .ok (.ireturn, 1) := dk_172 (dk_at dksX0_image_1 5 rfl rfl)
abbrev cX0_back : ByteArray := prog_1_method_102_code
def yX0_back : MethodName := ⟨RX0, "back", "(I)I"⟩
def dkwX0_back_1 : List UInt8 := [16, 250, 172, 42, 42, 180, 0, 16, 27, 50, 182, 2, 66, 181, 0, 10, 42, 182, 0, 110, 3, 172]
abbrev dktX0_back_1 : List UInt8 := dkwX0_back_1 ++ []
def dkwX0_back_0 : List UInt8 := [27, 133, 9, 20, 2, 64, 184, 0, 116, 154, 0, 6, 16, 254, 172, 42, 180, 0, 16, 27, 50, 199, 0, 6]
abbrev dktX0_back_0 : List UInt8 := dkwX0_back_0 ++ dktX0_back_1
theorem dksX0_back_0 : cX0_back.data.toList.drop 0 = dktX0_back_0 := by decide +kernel
theorem dksX0_back_1 : cX0_back.data.toList.drop 24 = dktX0_back_1 := dk_seg dksX0_back_0 24 rfl rfl
theorem dX0_back_0 : decode cX0_back 0 = .ok (.iload_n 1, 1) := dk_27 (dk_at dksX0_back_0 0 rfl rfl)
theorem dX0_back_1 : decode cX0_back 1 = .ok (.i2l, 1) := dk_133 (dk_at dksX0_back_0 1 rfl rfl)
theorem dX0_back_2 : decode cX0_back 2 = .ok (.lconst 0, 1) := dk_9 (dk_at dksX0_back_0 2 rfl rfl)
theorem dX0_back_3 : decode cX0_back 3 = .ok (.ldc2_w 576, 3) := dk_20 2 64 (dk_at dksX0_back_0 3 rfl rfl)
theorem dX0_back_6 : decode cX0_back 6 = .ok (.invokestatic 116, 3) := dk_184 0 116 (dk_at dksX0_back_0 6 rfl rfl)
theorem dX0_back_9 : decode cX0_back 9 = .ok (.ifCond .ne 6, 3) := dk_154 0 6 (dk_at dksX0_back_0 9 rfl rfl)
theorem dX0_back_12 : decode cX0_back 12 = .ok (.bipush (-2), 2) := dk_16 254 (dk_at dksX0_back_0 12 rfl rfl)
theorem dX0_back_14 : decode cX0_back 14 = .ok (.ireturn, 1) := dk_172 (dk_at dksX0_back_0 14 rfl rfl)
theorem dX0_back_15 : decode cX0_back 15 = .ok (.aload_n 0, 1) := dk_42 (dk_at dksX0_back_0 15 rfl rfl)
theorem dX0_back_16 : decode cX0_back 16 = .ok (.getfield 16, 3) := dk_180 0 16 (dk_at dksX0_back_0 16 rfl rfl)
theorem dX0_back_19 : decode cX0_back 19 = .ok (.iload_n 1, 1) := dk_27 (dk_at dksX0_back_0 19 rfl rfl)
theorem dX0_back_20 : decode cX0_back 20 = .ok (.aaload, 1) := dk_50 (dk_at dksX0_back_0 20 rfl rfl)
theorem dX0_back_21 : decode cX0_back 21 = .ok (.ifnonnull 6, 3) := dk_199 0 6 (dk_at dksX0_back_0 21 rfl rfl)
theorem dX0_back_24 : decode cX0_back 24 = .ok (.bipush (-6), 2) := dk_16 250 (dk_at dksX0_back_1 0 rfl rfl)
theorem dX0_back_26 : decode cX0_back 26 = .ok (.ireturn, 1) := dk_172 (dk_at dksX0_back_1 2 rfl rfl)
theorem dX0_back_27 : decode cX0_back 27 = .ok (.aload_n 0, 1) := dk_42 (dk_at dksX0_back_1 3 rfl rfl)
theorem dX0_back_28 : decode cX0_back 28 = .ok (.aload_n 0, 1) := dk_42 (dk_at dksX0_back_1 4 rfl rfl)
theorem dX0_back_29 : decode cX0_back 29 = .ok (.getfield 16, 3) := dk_180 0 16 (dk_at dksX0_back_1 5 rfl rfl)
theorem dX0_back_32 : decode cX0_back 32 = .ok (.iload_n 1, 1) := dk_27 (dk_at dksX0_back_1 8 rfl rfl)
theorem dX0_back_33 : decode cX0_back 33 = .ok (.aaload, 1) := dk_50 (dk_at dksX0_back_1 9 rfl rfl)
theorem dX0_back_34 : decode cX0_back 34 = .ok (.invokevirtual 578, 3) := dk_182 2 66 (dk_at dksX0_back_1 10 rfl rfl)
theorem dX0_back_37 : decode cX0_back 37 = .ok (.putfield 10, 3) := dk_181 0 10 (dk_at dksX0_back_1 13 rfl rfl)
theorem dX0_back_40 : decode cX0_back 40 = .ok (.aload_n 0, 1) := dk_42 (dk_at dksX0_back_1 16 rfl rfl)
theorem dX0_back_41 : decode cX0_back 41 = .ok (.invokevirtual 110, 3) := dk_182 0 110 (dk_at dksX0_back_1 17 rfl rfl)
theorem dX0_back_44 : decode cX0_back 44 = .ok (.iconst 0, 1) := dk_3 (dk_at dksX0_back_1 20 rfl rfl)
theorem dX0_back_45 : decode cX0_back 45 = .ok (.ireturn, 1) := dk_172 (dk_at dksX0_back_1 21 rfl rfl)
theorem q137 : (Jvm.Cond.initialized "WatchStack") ∈ lw_all := lw_g (lw_at lw_m1 1 rfl) rfl
theorem q175 : (Jvm.Cond.instantiable "WatchStack" (36 : Nat)) ∈ lw_all := lw_g (lw_at lw_m1 39 rfl) rfl
theorem q177 : (Jvm.Cond.instanceMethod ({ cls := "WatchStack", name := "<init>", desc := "()V" } : Jvm.MethodName)) ∈ lw_all := lw_g (lw_at lw_m1 41 rfl) rfl
theorem q178 : (Jvm.Cond.code ({ cls := "WatchStack", name := "<init>", desc := "()V" } : Jvm.MethodName) prog_1_method_3_code (2 : Nat) (Option.none : Option Jvm.ClassFile.FieldType)) ∈ lw_all := lw_g (lw_at lw_m1 42 rfl) rfl
theorem q179 : (Jvm.Cond.methodLink "WatchStack" (1 : Nat) ({ cls := "java/lang/Object", name := "<init>", desc := "()V" } : Jvm.MethodName)) ∈ lw_all := lw_g (lw_at lw_m1 43 rfl) rfl
theorem q182 : (Jvm.Cond.classLink "WatchStack" (7 : Nat) "WatchStack$Told") ∈ lw_all := lw_g (lw_at lw_m1 46 rfl) rfl
theorem q184 : (Jvm.Cond.methodLinkNest "WatchStack" (9 : Nat) ({ cls := "WatchStack$Told", name := "<init>", desc := "()V" } : Jvm.MethodName) "WatchStack") ∈ lw_tbl := lw_at lw_m1 48 rfl
theorem q217 : (Jvm.Cond.fieldLinkNest "WatchStack" (143 : Nat) "WatchStack$Told" "tasks" "Ljava/util/ArrayList;" "WatchStack") ∈ lw_tbl := lw_at lw_m1 81 rfl
theorem q220 : (Jvm.Cond.fieldLinkNest "WatchStack" (175 : Nat) "WatchStack$Told" "injections" "Ljava/util/ArrayList;" "WatchStack") ∈ lw_tbl := lw_at lw_m1 84 rfl
theorem q224 : (Jvm.Cond.fieldLinkNest "WatchStack" (212 : Nat) "WatchStack$Told" "over" "[I" "WatchStack") ∈ lw_tbl := lw_at lw_m1 88 rfl
theorem q227 : (Jvm.Cond.fieldLinkNest "WatchStack" (165 : Nat) "WatchStack$Told" "ticks" "I" "WatchStack") ∈ lw_tbl := lw_at lw_m1 91 rfl
theorem q230 : (Jvm.Cond.fieldLinkNest "WatchStack" (267 : Nat) "WatchStack$Told" "cycle" "I" "WatchStack") ∈ lw_tbl := lw_at lw_m1 94 rfl
theorem q233 : (Jvm.Cond.fieldLinkNest "WatchStack" (435 : Nat) "WatchStack$Told" "low" "I" "WatchStack") ∈ lw_tbl := lw_at lw_m1 97 rfl
theorem q237 : (Jvm.Cond.fieldLinkNest "WatchStack" (209 : Nat) "WatchStack$Told" "watchers" "I" "WatchStack") ∈ lw_tbl := lw_at lw_m1 101 rfl
theorem q240 : (Jvm.Cond.fieldLinkNest "WatchStack" (573 : Nat) "WatchStack$Told" "told" "I" "WatchStack") ∈ lw_tbl := lw_at lw_m1 104 rfl
theorem q242 : (Jvm.Cond.fieldLinkNest "WatchStack" (132 : Nat) "WatchStack$Told" "lines" "I" "WatchStack") ∈ lw_tbl := lw_at lw_m1 106 rfl
theorem q265 : (Jvm.Cond.classLink "WatchStack" (38 : Nat) "WatchStack$Rung") ∈ lw_all := lw_g (lw_at lw_m1 129 rfl) rfl
theorem q268 : (Jvm.Cond.methodLinkNest "WatchStack" (40 : Nat) ({ cls := "WatchStack$Rung", name := "<init>", desc := "(LWatchStack;)V" } : Jvm.MethodName) "WatchStack") ∈ lw_tbl := lw_at lw_m1 132 rfl
theorem q277 : (Jvm.Cond.classLink "WatchStack" (43 : Nat) "WatchStack$GroupRung") ∈ lw_all := lw_g (lw_at lw_m1 141 rfl) rfl
theorem q279 : (Jvm.Cond.methodLinkNest "WatchStack" (45 : Nat) ({ cls := "WatchStack$GroupRung", name := "<init>", desc := "(LWatchStack;)V" } : Jvm.MethodName) "WatchStack") ∈ lw_tbl := lw_at lw_m1 143 rfl
theorem q288 : (Jvm.Cond.classLink "WatchStack" (46 : Nat) "WatchStack$WatcherRung") ∈ lw_all := lw_g (lw_at lw_m1 152 rfl) rfl
theorem q290 : (Jvm.Cond.methodLinkNest "WatchStack" (48 : Nat) ({ cls := "WatchStack$WatcherRung", name := "<init>", desc := "(LWatchStack;)V" } : Jvm.MethodName) "WatchStack") ∈ lw_tbl := lw_at lw_m1 154 rfl
theorem q300 : (Jvm.Cond.classLink "WatchStack" (49 : Nat) "WatchStack$BoardRung") ∈ lw_all := lw_g (lw_at lw_m1 164 rfl) rfl
theorem q302 : (Jvm.Cond.methodLinkNest "WatchStack" (51 : Nat) ({ cls := "WatchStack$BoardRung", name := "<init>", desc := "(LWatchStack;)V" } : Jvm.MethodName) "WatchStack") ∈ lw_tbl := lw_at lw_m1 166 rfl
theorem q313 : (Jvm.Cond.classLink "WatchStack" (56 : Nat) "WatchStack$Life") ∈ lw_all := lw_g (lw_at lw_m1 177 rfl) rfl
theorem q315 : (Jvm.Cond.classLink "WatchStack" (96 : Nat) "WatchStack$TaskNote") ∈ lw_all := lw_g (lw_at lw_m1 179 rfl) rfl
theorem q317 : (Jvm.Cond.methodLinkNest "WatchStack" (98 : Nat) ({ cls := "WatchStack$TaskNote", name := "<init>", desc := "()V" } : Jvm.MethodName) "WatchStack") ∈ lw_tbl := lw_at lw_m1 181 rfl
theorem q326 : (Jvm.Cond.classLink "WatchStack" (103 : Nat) "WatchStack$WatcherNote") ∈ lw_all := lw_g (lw_at lw_m1 190 rfl) rfl
theorem q328 : (Jvm.Cond.methodLinkNest "WatchStack" (105 : Nat) ({ cls := "WatchStack$WatcherNote", name := "<init>", desc := "()V" } : Jvm.MethodName) "WatchStack") ∈ lw_tbl := lw_at lw_m1 192 rfl
theorem q334 : (Jvm.Cond.methodLinkNest "WatchStack" (109 : Nat) ({ cls := "WatchStack$Life", name := "<init>", desc := "()V" } : Jvm.MethodName) "WatchStack") ∈ lw_tbl := lw_at lw_m1 198 rfl
theorem q339 : (Jvm.Cond.fieldLinkNest "WatchStack" (366 : Nat) "WatchStack$Life" "isGoing" "Z" "WatchStack") ∈ lw_tbl := lw_at lw_m1 203 rfl
theorem q341 : (Jvm.Cond.fieldLinkNest "WatchStack" (399 : Nat) "WatchStack$Life" "isFirst" "Z" "WatchStack") ∈ lw_tbl := lw_at lw_m1 205 rfl
theorem q343 : (Jvm.Cond.fieldLinkNest "WatchStack" (375 : Nat) "WatchStack$Life" "job" "I" "WatchStack") ∈ lw_tbl := lw_at lw_m1 207 rfl
theorem q345 : (Jvm.Cond.fieldLinkNest "WatchStack" (379 : Nat) "WatchStack$Life" "node" "I" "WatchStack") ∈ lw_tbl := lw_at lw_m1 209 rfl
theorem q347 : (Jvm.Cond.fieldLinkNest "WatchStack" (386 : Nat) "WatchStack$Life" "done" "I" "WatchStack") ∈ lw_tbl := lw_at lw_m1 211 rfl
theorem q349 : (Jvm.Cond.fieldLinkNest "WatchStack" (369 : Nat) "WatchStack$Life" "start" "I" "WatchStack") ∈ lw_tbl := lw_at lw_m1 213 rfl
theorem q351 : (Jvm.Cond.fieldLinkNest "WatchStack" (402 : Nat) "WatchStack$Life" "last" "I" "WatchStack") ∈ lw_tbl := lw_at lw_m1 215 rfl
theorem q353 : (Jvm.Cond.fieldLinkNest "WatchStack" (393 : Nat) "WatchStack$Life" "kickedAt" "I" "WatchStack") ∈ lw_tbl := lw_at lw_m1 217 rfl
theorem q355 : (Jvm.Cond.fieldLinkNest "WatchStack" (479 : Nat) "WatchStack$Life" "question" "I" "WatchStack") ∈ lw_tbl := lw_at lw_m1 219 rfl
theorem q357 : (Jvm.Cond.fieldLinkNest "WatchStack" (464 : Nat) "WatchStack$Life" "jobs" "I" "WatchStack") ∈ lw_tbl := lw_at lw_m1 221 rfl
theorem q359 : (Jvm.Cond.fieldLinkNest "WatchStack" (424 : Nat) "WatchStack$Life" "count" "I" "WatchStack") ∈ lw_tbl := lw_at lw_m1 223 rfl
theorem q361 : (Jvm.Cond.fieldLinkNest "WatchStack" (427 : Nat) "WatchStack$Life" "well" "I" "WatchStack") ∈ lw_tbl := lw_at lw_m1 225 rfl
theorem q363 : (Jvm.Cond.fieldLinkNest "WatchStack" (459 : Nat) "WatchStack$Life" "kicks" "I" "WatchStack") ∈ lw_tbl := lw_at lw_m1 227 rfl
theorem q365 : (Jvm.Cond.fieldLinkNest "WatchStack" (461 : Nat) "WatchStack$Life" "kicked" "I" "WatchStack") ∈ lw_tbl := lw_at lw_m1 229 rfl
theorem q367 : (Jvm.Cond.fieldLinkNest "WatchStack" (363 : Nat) "WatchStack$Life" "inCycle" "I" "WatchStack") ∈ lw_tbl := lw_at lw_m1 231 rfl
theorem q369 : (Jvm.Cond.fieldLinkNest "WatchStack" (482 : Nat) "WatchStack$Life" "margins" "I" "WatchStack") ∈ lw_tbl := lw_at lw_m1 233 rfl
theorem q371 : (Jvm.Cond.fieldLinkNest "WatchStack" (360 : Nat) "WatchStack$Life" "isFaulty" "Z" "WatchStack") ∈ lw_tbl := lw_at lw_m1 235 rfl
theorem q373 : (Jvm.Cond.fieldLinkNest "WatchStack" (430 : Nat) "WatchStack$Life" "health" "F" "WatchStack") ∈ lw_tbl := lw_at lw_m1 237 rfl
theorem q375 : (Jvm.Cond.fieldLinkNest "WatchStack" (485 : Nat) "WatchStack$Life" "margin" "F" "WatchStack") ∈ lw_tbl := lw_at lw_m1 239 rfl
theorem q377 : (Jvm.Cond.fieldLinkNest "WatchStack" (492 : Nat) "WatchStack$Life" "sum" "D" "WatchStack") ∈ lw_tbl := lw_at lw_m2 1 rfl
theorem q419 : (Jvm.Cond.methodLink "WatchStack" (110 : Nat) ({ cls := "WatchStack", name := "lays", desc := "()V" } : Jvm.MethodName)) ∈ lw_all := lw_g (lw_at lw_m2 43 rfl) rfl
theorem q420 : (Jvm.Cond.privateMethod ({ cls := "WatchStack", name := "lays", desc := "()V" } : Jvm.MethodName)) ∈ lw_tbl := lw_at lw_m2 44 rfl
theorem q421 : (Jvm.Cond.instanceMethod ({ cls := "WatchStack", name := "lays", desc := "()V" } : Jvm.MethodName)) ∈ lw_all := lw_g (lw_at lw_m2 45 rfl) rfl
theorem q422 : (Jvm.Cond.code ({ cls := "WatchStack", name := "lays", desc := "()V" } : Jvm.MethodName) prog_1_method_41_code (2 : Nat) (Option.none : Option Jvm.ClassFile.FieldType)) ∈ lw_all := lw_g (lw_at lw_m2 46 rfl) rfl
theorem q423 : (Jvm.Cond.methodLink "WatchStack" (159 : Nat) ({ cls := "WatchStack", name := "tasks", desc := "()I" } : Jvm.MethodName)) ∈ lw_all := lw_g (lw_at lw_m2 47 rfl) rfl
theorem q424 : (Jvm.Cond.privateMethod ({ cls := "WatchStack", name := "tasks", desc := "()I" } : Jvm.MethodName)) ∈ lw_tbl := lw_at lw_m2 48 rfl
theorem q425 : (Jvm.Cond.instanceMethod ({ cls := "WatchStack", name := "tasks", desc := "()I" } : Jvm.MethodName)) ∈ lw_all := lw_g (lw_at lw_m2 49 rfl) rfl
theorem q426 : (Jvm.Cond.code ({ cls := "WatchStack", name := "tasks", desc := "()I" } : Jvm.MethodName) prog_1_method_8_code (1 : Nat) (Option.some Jvm.ClassFile.FieldType.int)) ∈ lw_all := lw_g (lw_at lw_m2 50 rfl) rfl
theorem q427 : (Jvm.Cond.methodLink "WatchStack" (147 : Nat) ({ cls := "java/util/ArrayList", name := "size", desc := "()I" } : Jvm.MethodName)) ∈ lw_all := lw_g (lw_at lw_m2 51 rfl) rfl
theorem q431 : (Jvm.Cond.methodLink "WatchStack" (178 : Nat) ({ cls := "WatchStack", name := "taskOf", desc := "(I)LWatchStack$Task;" } : Jvm.MethodName)) ∈ lw_all := lw_g (lw_at lw_m2 55 rfl) rfl
theorem q432 : (Jvm.Cond.privateMethod ({ cls := "WatchStack", name := "taskOf", desc := "(I)LWatchStack$Task;" } : Jvm.MethodName)) ∈ lw_tbl := lw_at lw_m2 56 rfl
theorem q433 : (Jvm.Cond.instanceMethod ({ cls := "WatchStack", name := "taskOf", desc := "(I)LWatchStack$Task;" } : Jvm.MethodName)) ∈ lw_all := lw_g (lw_at lw_m2 57 rfl) rfl
theorem q434 : (Jvm.Cond.code ({ cls := "WatchStack", name := "taskOf", desc := "(I)LWatchStack$Task;" } : Jvm.MethodName) prog_1_method_9_code (2 : Nat) (Option.some (Jvm.ClassFile.FieldType.object "WatchStack$Task"))) ∈ lw_all := lw_g (lw_at lw_m2 58 rfl) rfl
theorem q435 : (Jvm.Cond.methodLink "WatchStack" (153 : Nat) ({ cls := "java/util/ArrayList", name := "get", desc := "(I)Ljava/lang/Object;" } : Jvm.MethodName)) ∈ lw_all := lw_g (lw_at lw_m2 59 rfl) rfl
theorem q449 : (Jvm.Cond.classLink "WatchStack" (157 : Nat) "WatchStack$Task") ∈ lw_all := lw_g (lw_at lw_m2 73 rfl) rfl
theorem q451 : (Jvm.Cond.fieldLink "WatchStack" (10 : Nat) "WatchStack" "now" "LWatchStack$Told;") ∈ lw_all := lw_g (lw_at lw_m2 75 rfl) rfl
theorem q452 : (Jvm.Cond.fieldLink "WatchStack" (16 : Nat) "WatchStack" "images" "[LWatchStack$Told;") ∈ lw_all := lw_g (lw_at lw_m2 76 rfl) rfl
theorem q453 : (Jvm.Cond.fieldLink "WatchStack" (20 : Nat) "WatchStack" "tape" "[B") ∈ lw_all := lw_g (lw_at lw_m2 77 rfl) rfl
theorem q454 : (Jvm.Cond.fieldLink "WatchStack" (113 : Nat) "WatchStack" "taped" "I") ∈ lw_all := lw_g (lw_at lw_m2 78 rfl) rfl
theorem q455 : (Jvm.Cond.fieldLink "WatchStack" (129 : Nat) "WatchStack" "faultKind" "I") ∈ lw_all := lw_g (lw_at lw_m2 79 rfl) rfl
theorem q456 : (Jvm.Cond.fieldLink "WatchStack" (24 : Nat) "WatchStack" "faultPlace" "I") ∈ lw_all := lw_g (lw_at lw_m2 80 rfl) rfl
theorem q457 : (Jvm.Cond.fieldLink "WatchStack" (28 : Nat) "WatchStack" "grown" "I") ∈ lw_all := lw_g (lw_at lw_m2 81 rfl) rfl
theorem q458 : (Jvm.Cond.fieldLink "WatchStack" (244 : Nat) "WatchStack" "growth" "I") ∈ lw_all := lw_g (lw_at lw_m2 82 rfl) rfl
theorem q459 : (Jvm.Cond.fieldLink "WatchStack" (31 : Nat) "WatchStack" "answers" "[I") ∈ lw_all := lw_g (lw_at lw_m2 83 rfl) rfl
theorem q460 : (Jvm.Cond.fieldLink "WatchStack" (35 : Nat) "WatchStack" "order" "[I") ∈ lw_all := lw_g (lw_at lw_m2 84 rfl) rfl
theorem q461 : (Jvm.Cond.fieldLink "WatchStack" (301 : Nat) "WatchStack" "isOrder" "Z") ∈ lw_all := lw_g (lw_at lw_m2 85 rfl) rfl
theorem q462 : (Jvm.Cond.fieldLink "WatchStack" (52 : Nat) "WatchStack" "ladder" "[LWatchStack$Rung;") ∈ lw_all := lw_g (lw_at lw_m2 86 rfl) rfl
theorem q464 : (Jvm.Cond.fieldLink "WatchStack" (58 : Nat) "WatchStack" "lives" "[LWatchStack$Life;") ∈ lw_all := lw_g (lw_at lw_m2 88 rfl) rfl
theorem q465 : (Jvm.Cond.fieldLink "WatchStack" (62 : Nat) "WatchStack" "hads" "[I") ∈ lw_all := lw_g (lw_at lw_m2 89 rfl) rfl
theorem q467 : (Jvm.Cond.fieldLink "WatchStack" (65 : Nat) "WatchStack" "woken" "[I") ∈ lw_all := lw_g (lw_at lw_m2 91 rfl) rfl
theorem q468 : (Jvm.Cond.fieldLink "WatchStack" (68 : Nat) "WatchStack" "slept" "[I") ∈ lw_all := lw_g (lw_at lw_m2 92 rfl) rfl
theorem q469 : (Jvm.Cond.fieldLink "WatchStack" (71 : Nat) "WatchStack" "looked" "[Z") ∈ lw_all := lw_g (lw_at lw_m2 93 rfl) rfl
theorem q470 : (Jvm.Cond.fieldLink "WatchStack" (75 : Nat) "WatchStack" "recordTick" "[I") ∈ lw_all := lw_g (lw_at lw_m2 94 rfl) rfl
theorem q471 : (Jvm.Cond.fieldLink "WatchStack" (78 : Nat) "WatchStack" "recordKind" "[I") ∈ lw_all := lw_g (lw_at lw_m2 95 rfl) rfl
theorem q472 : (Jvm.Cond.fieldLink "WatchStack" (81 : Nat) "WatchStack" "recordWho" "[I") ∈ lw_all := lw_g (lw_at lw_m2 96 rfl) rfl
theorem q473 : (Jvm.Cond.fieldLink "WatchStack" (84 : Nat) "WatchStack" "recordLevel" "[I") ∈ lw_all := lw_g (lw_at lw_m2 97 rfl) rfl
theorem q474 : (Jvm.Cond.fieldLink "WatchStack" (87 : Nat) "WatchStack" "opens" "[I") ∈ lw_all := lw_g (lw_at lw_m2 98 rfl) rfl
theorem q475 : (Jvm.Cond.fieldLink "WatchStack" (90 : Nat) "WatchStack" "closes" "[I") ∈ lw_all := lw_g (lw_at lw_m2 99 rfl) rfl
theorem q476 : (Jvm.Cond.fieldLink "WatchStack" (93 : Nat) "WatchStack" "setIn" "[I") ∈ lw_all := lw_g (lw_at lw_m2 100 rfl) rfl
theorem q477 : (Jvm.Cond.fieldLink "WatchStack" (320 : Nat) "WatchStack" "records" "I") ∈ lw_all := lw_g (lw_at lw_m2 101 rfl) rfl
theorem q481 : (Jvm.Cond.fieldLink "WatchStack" (332 : Nat) "WatchStack" "tick" "I") ∈ lw_all := lw_g (lw_at lw_m2 105 rfl) rfl
theorem q483 : (Jvm.Cond.fieldLink "WatchStack" (323 : Nat) "WatchStack" "boards" "I") ∈ lw_all := lw_g (lw_at lw_m2 107 rfl) rfl
theorem q485 : (Jvm.Cond.fieldLink "WatchStack" (326 : Nat) "WatchStack" "haltedAt" "I") ∈ lw_all := lw_g (lw_at lw_m2 109 rfl) rfl
theorem q486 : (Jvm.Cond.fieldLink "WatchStack" (317 : Nat) "WatchStack" "but" "I") ∈ lw_all := lw_g (lw_at lw_m2 110 rfl) rfl
theorem q487 : (Jvm.Cond.fieldLink "WatchStack" (467 : Nat) "WatchStack" "gapsOf" "I") ∈ lw_all := lw_g (lw_at lw_m2 111 rfl) rfl
theorem q488 : (Jvm.Cond.fieldLink "WatchStack" (470 : Nat) "WatchStack" "gapWanted" "I") ∈ lw_all := lw_g (lw_at lw_m2 112 rfl) rfl
theorem q489 : (Jvm.Cond.fieldLink "WatchStack" (473 : Nat) "WatchStack" "gapFound" "I") ∈ lw_all := lw_g (lw_at lw_m2 113 rfl) rfl
theorem q490 : (Jvm.Cond.fieldLink "WatchStack" (99 : Nat) "WatchStack" "ofTask" "LWatchStack$Note;") ∈ lw_all := lw_g (lw_at lw_m2 114 rfl) rfl
theorem q491 : (Jvm.Cond.fieldLink "WatchStack" (106 : Nat) "WatchStack" "ofWatcher" "LWatchStack$Note;") ∈ lw_all := lw_g (lw_at lw_m2 115 rfl) rfl
theorem q492 : (Jvm.Cond.fieldLink "WatchStack" (551 : Nat) "WatchStack" "greatest" "I") ∈ lw_all := lw_g (lw_at lw_m2 116 rfl) rfl
theorem q493 : (Jvm.Cond.fieldLink "WatchStack" (554 : Nat) "WatchStack" "uncaught" "I") ∈ lw_all := lw_g (lw_at lw_m2 117 rfl) rfl
theorem q494 : (Jvm.Cond.lays "WatchStack" "WatchStack" "now" "LWatchStack$Told;") ∈ lw_all := lw_g (lw_at lw_m2 118 rfl) rfl
theorem q495 : (Jvm.Cond.soleField "WatchStack" "now") ∈ lw_all := lw_g (lw_at lw_m2 119 rfl) rfl
theorem q496 : (Jvm.Cond.laysFinal "WatchStack" "WatchStack" "images" "[LWatchStack$Told;") ∈ lw_all := lw_g (lw_at lw_m2 120 rfl) rfl
theorem q497 : (Jvm.Cond.soleField "WatchStack" "images") ∈ lw_all := lw_g (lw_at lw_m2 121 rfl) rfl
theorem q498 : (Jvm.Cond.laysFinal "WatchStack" "WatchStack" "tape" "[B") ∈ lw_all := lw_g (lw_at lw_m2 122 rfl) rfl
theorem q499 : (Jvm.Cond.soleField "WatchStack" "tape") ∈ lw_all := lw_g (lw_at lw_m2 123 rfl) rfl
theorem q500 : (Jvm.Cond.lays "WatchStack" "WatchStack" "taped" "I") ∈ lw_all := lw_g (lw_at lw_m2 124 rfl) rfl
theorem q501 : (Jvm.Cond.soleField "WatchStack" "taped") ∈ lw_all := lw_g (lw_at lw_m2 125 rfl) rfl
theorem q502 : (Jvm.Cond.lays "WatchStack" "WatchStack" "faultKind" "I") ∈ lw_all := lw_g (lw_at lw_m2 126 rfl) rfl
theorem q503 : (Jvm.Cond.soleField "WatchStack" "faultKind") ∈ lw_all := lw_g (lw_at lw_m2 127 rfl) rfl
theorem q504 : (Jvm.Cond.lays "WatchStack" "WatchStack" "faultPlace" "I") ∈ lw_all := lw_g (lw_at lw_m2 128 rfl) rfl
theorem q505 : (Jvm.Cond.soleField "WatchStack" "faultPlace") ∈ lw_all := lw_g (lw_at lw_m2 129 rfl) rfl
theorem q506 : (Jvm.Cond.lays "WatchStack" "WatchStack" "grown" "I") ∈ lw_all := lw_g (lw_at lw_m2 130 rfl) rfl
theorem q507 : (Jvm.Cond.soleField "WatchStack" "grown") ∈ lw_all := lw_g (lw_at lw_m2 131 rfl) rfl
theorem q508 : (Jvm.Cond.lays "WatchStack" "WatchStack" "growth" "I") ∈ lw_all := lw_g (lw_at lw_m2 132 rfl) rfl
theorem q509 : (Jvm.Cond.soleField "WatchStack" "growth") ∈ lw_all := lw_g (lw_at lw_m2 133 rfl) rfl
theorem q510 : (Jvm.Cond.laysFinal "WatchStack" "WatchStack" "answers" "[I") ∈ lw_all := lw_g (lw_at lw_m2 134 rfl) rfl
theorem q511 : (Jvm.Cond.soleField "WatchStack" "answers") ∈ lw_all := lw_g (lw_at lw_m2 135 rfl) rfl
theorem q512 : (Jvm.Cond.laysFinal "WatchStack" "WatchStack" "order" "[I") ∈ lw_all := lw_g (lw_at lw_m2 136 rfl) rfl
theorem q513 : (Jvm.Cond.soleField "WatchStack" "order") ∈ lw_all := lw_g (lw_at lw_m2 137 rfl) rfl
theorem q514 : (Jvm.Cond.lays "WatchStack" "WatchStack" "isOrder" "Z") ∈ lw_all := lw_g (lw_at lw_m2 138 rfl) rfl
theorem q515 : (Jvm.Cond.soleField "WatchStack" "isOrder") ∈ lw_all := lw_g (lw_at lw_m2 139 rfl) rfl
theorem q516 : (Jvm.Cond.laysFinal "WatchStack" "WatchStack" "ladder" "[LWatchStack$Rung;") ∈ lw_all := lw_g (lw_at lw_m2 140 rfl) rfl
theorem q517 : (Jvm.Cond.soleField "WatchStack" "ladder") ∈ lw_all := lw_g (lw_at lw_m2 141 rfl) rfl
theorem q518 : (Jvm.Cond.laysFinal "WatchStack" "WatchStack" "lives" "[LWatchStack$Life;") ∈ lw_all := lw_g (lw_at lw_m2 142 rfl) rfl
theorem q519 : (Jvm.Cond.soleField "WatchStack" "lives") ∈ lw_all := lw_g (lw_at lw_m2 143 rfl) rfl
theorem q520 : (Jvm.Cond.laysFinal "WatchStack" "WatchStack" "hads" "[I") ∈ lw_all := lw_g (lw_at lw_m2 144 rfl) rfl
theorem q521 : (Jvm.Cond.soleField "WatchStack" "hads") ∈ lw_all := lw_g (lw_at lw_m2 145 rfl) rfl
theorem q522 : (Jvm.Cond.laysFinal "WatchStack" "WatchStack" "woken" "[I") ∈ lw_all := lw_g (lw_at lw_m2 146 rfl) rfl
theorem q523 : (Jvm.Cond.soleField "WatchStack" "woken") ∈ lw_all := lw_g (lw_at lw_m2 147 rfl) rfl
theorem q524 : (Jvm.Cond.laysFinal "WatchStack" "WatchStack" "slept" "[I") ∈ lw_all := lw_g (lw_at lw_m2 148 rfl) rfl
theorem q525 : (Jvm.Cond.soleField "WatchStack" "slept") ∈ lw_all := lw_g (lw_at lw_m2 149 rfl) rfl
theorem q526 : (Jvm.Cond.laysFinal "WatchStack" "WatchStack" "looked" "[Z") ∈ lw_all := lw_g (lw_at lw_m2 150 rfl) rfl
theorem q527 : (Jvm.Cond.soleField "WatchStack" "looked") ∈ lw_all := lw_g (lw_at lw_m2 151 rfl) rfl
theorem q528 : (Jvm.Cond.laysFinal "WatchStack" "WatchStack" "recordTick" "[I") ∈ lw_all := lw_g (lw_at lw_m2 152 rfl) rfl
theorem q529 : (Jvm.Cond.soleField "WatchStack" "recordTick") ∈ lw_all := lw_g (lw_at lw_m2 153 rfl) rfl
theorem q530 : (Jvm.Cond.laysFinal "WatchStack" "WatchStack" "recordKind" "[I") ∈ lw_all := lw_g (lw_at lw_m2 154 rfl) rfl
theorem q531 : (Jvm.Cond.soleField "WatchStack" "recordKind") ∈ lw_all := lw_g (lw_at lw_m2 155 rfl) rfl
theorem q532 : (Jvm.Cond.laysFinal "WatchStack" "WatchStack" "recordWho" "[I") ∈ lw_all := lw_g (lw_at lw_m2 156 rfl) rfl
theorem q533 : (Jvm.Cond.soleField "WatchStack" "recordWho") ∈ lw_all := lw_g (lw_at lw_m2 157 rfl) rfl
theorem q534 : (Jvm.Cond.laysFinal "WatchStack" "WatchStack" "recordLevel" "[I") ∈ lw_all := lw_g (lw_at lw_m2 158 rfl) rfl
theorem q535 : (Jvm.Cond.soleField "WatchStack" "recordLevel") ∈ lw_all := lw_g (lw_at lw_m2 159 rfl) rfl
theorem q536 : (Jvm.Cond.laysFinal "WatchStack" "WatchStack" "opens" "[I") ∈ lw_all := lw_g (lw_at lw_m2 160 rfl) rfl
theorem q537 : (Jvm.Cond.soleField "WatchStack" "opens") ∈ lw_all := lw_g (lw_at lw_m2 161 rfl) rfl
theorem q538 : (Jvm.Cond.laysFinal "WatchStack" "WatchStack" "closes" "[I") ∈ lw_all := lw_g (lw_at lw_m2 162 rfl) rfl
theorem q539 : (Jvm.Cond.soleField "WatchStack" "closes") ∈ lw_all := lw_g (lw_at lw_m2 163 rfl) rfl
theorem q540 : (Jvm.Cond.laysFinal "WatchStack" "WatchStack" "setIn" "[I") ∈ lw_all := lw_g (lw_at lw_m2 164 rfl) rfl
theorem q541 : (Jvm.Cond.soleField "WatchStack" "setIn") ∈ lw_all := lw_g (lw_at lw_m2 165 rfl) rfl
theorem q542 : (Jvm.Cond.lays "WatchStack" "WatchStack" "records" "I") ∈ lw_all := lw_g (lw_at lw_m2 166 rfl) rfl
theorem q543 : (Jvm.Cond.soleField "WatchStack" "records") ∈ lw_all := lw_g (lw_at lw_m2 167 rfl) rfl
theorem q544 : (Jvm.Cond.lays "WatchStack" "WatchStack" "tick" "I") ∈ lw_all := lw_g (lw_at lw_m2 168 rfl) rfl
theorem q545 : (Jvm.Cond.soleField "WatchStack" "tick") ∈ lw_all := lw_g (lw_at lw_m2 169 rfl) rfl
theorem q546 : (Jvm.Cond.lays "WatchStack" "WatchStack" "boards" "I") ∈ lw_all := lw_g (lw_at lw_m2 170 rfl) rfl
theorem q547 : (Jvm.Cond.soleField "WatchStack" "boards") ∈ lw_all := lw_g (lw_at lw_m2 171 rfl) rfl
theorem q548 : (Jvm.Cond.lays "WatchStack" "WatchStack" "haltedAt" "I") ∈ lw_all := lw_g (lw_at lw_m2 172 rfl) rfl
theorem q549 : (Jvm.Cond.soleField "WatchStack" "haltedAt") ∈ lw_all := lw_g (lw_at lw_m2 173 rfl) rfl
theorem q550 : (Jvm.Cond.lays "WatchStack" "WatchStack" "but" "I") ∈ lw_all := lw_g (lw_at lw_m2 174 rfl) rfl
theorem q551 : (Jvm.Cond.soleField "WatchStack" "but") ∈ lw_all := lw_g (lw_at lw_m2 175 rfl) rfl
theorem q552 : (Jvm.Cond.lays "WatchStack" "WatchStack" "gapsOf" "I") ∈ lw_all := lw_g (lw_at lw_m2 176 rfl) rfl
theorem q553 : (Jvm.Cond.soleField "WatchStack" "gapsOf") ∈ lw_all := lw_g (lw_at lw_m2 177 rfl) rfl
theorem q554 : (Jvm.Cond.lays "WatchStack" "WatchStack" "gapWanted" "I") ∈ lw_all := lw_g (lw_at lw_m2 178 rfl) rfl
theorem q555 : (Jvm.Cond.soleField "WatchStack" "gapWanted") ∈ lw_all := lw_g (lw_at lw_m2 179 rfl) rfl
theorem q556 : (Jvm.Cond.lays "WatchStack" "WatchStack" "gapFound" "I") ∈ lw_all := lw_g (lw_at lw_m2 180 rfl) rfl
theorem q557 : (Jvm.Cond.soleField "WatchStack" "gapFound") ∈ lw_all := lw_g (lw_at lw_m2 181 rfl) rfl
theorem q558 : (Jvm.Cond.laysFinal "WatchStack" "WatchStack" "ofTask" "LWatchStack$Note;") ∈ lw_all := lw_g (lw_at lw_m2 182 rfl) rfl
theorem q559 : (Jvm.Cond.soleField "WatchStack" "ofTask") ∈ lw_all := lw_g (lw_at lw_m2 183 rfl) rfl
theorem q560 : (Jvm.Cond.laysFinal "WatchStack" "WatchStack" "ofWatcher" "LWatchStack$Note;") ∈ lw_all := lw_g (lw_at lw_m2 184 rfl) rfl
theorem q561 : (Jvm.Cond.soleField "WatchStack" "ofWatcher") ∈ lw_all := lw_g (lw_at lw_m2 185 rfl) rfl
theorem q562 : (Jvm.Cond.lays "WatchStack" "WatchStack" "greatest" "I") ∈ lw_all := lw_g (lw_at lw_m2 186 rfl) rfl
theorem q563 : (Jvm.Cond.soleField "WatchStack" "greatest") ∈ lw_all := lw_g (lw_at lw_m2 187 rfl) rfl
theorem q564 : (Jvm.Cond.lays "WatchStack" "WatchStack" "uncaught" "I") ∈ lw_all := lw_g (lw_at lw_m2 188 rfl) rfl
theorem q565 : (Jvm.Cond.soleField "WatchStack" "uncaught") ∈ lw_all := lw_g (lw_at lw_m2 189 rfl) rfl
theorem q566 : (Jvm.Cond.superclass "WatchStack" "java/lang/Object") ∈ lw_all := lw_g (lw_at lw_m2 190 rfl) rfl
theorem q568 : (Jvm.Cond.instanceMethod ({ cls := "WatchStack", name := "feed", desc := "(IIIII)I" } : Jvm.MethodName)) ∈ lw_all := lw_g (lw_at lw_m2 192 rfl) rfl
theorem q569 : (Jvm.Cond.selects "WatchStack" ({ cls := "WatchStack", name := "feed", desc := "(IIIII)I" } : Jvm.MethodName) ({ cls := "WatchStack", name := "feed", desc := "(IIIII)I" } : Jvm.MethodName)) ∈ lw_all := lw_g (lw_at lw_m2 193 rfl) rfl
theorem q570 : (Jvm.Cond.code ({ cls := "WatchStack", name := "feed", desc := "(IIIII)I" } : Jvm.MethodName) prog_1_method_4_code (8 : Nat) (Option.some Jvm.ClassFile.FieldType.int)) ∈ lw_all := lw_g (lw_at lw_m2 194 rfl) rfl
theorem q572 : (Jvm.Cond.instanceMethod ({ cls := "WatchStack", name := "end", desc := "(I)I" } : Jvm.MethodName)) ∈ lw_all := lw_g (lw_at lw_m2 196 rfl) rfl
theorem q573 : (Jvm.Cond.selects "WatchStack" ({ cls := "WatchStack", name := "end", desc := "(I)I" } : Jvm.MethodName) ({ cls := "WatchStack", name := "end", desc := "(I)I" } : Jvm.MethodName)) ∈ lw_all := lw_g (lw_at lw_m2 197 rfl) rfl
theorem q574 : (Jvm.Cond.code ({ cls := "WatchStack", name := "end", desc := "(I)I" } : Jvm.MethodName) prog_1_method_5_code (2 : Nat) (Option.some Jvm.ClassFile.FieldType.int)) ∈ lw_all := lw_g (lw_at lw_m2 198 rfl) rfl
theorem q575 : (Jvm.Cond.methodLink "WatchStack" (116 : Nat) ({ cls := "WatchStack", name := "in", desc := "(JJJ)Z" } : Jvm.MethodName)) ∈ lw_all := lw_g (lw_at lw_m2 199 rfl) rfl
theorem q576 : (Jvm.Cond.static ({ cls := "WatchStack", name := "in", desc := "(JJJ)Z" } : Jvm.MethodName)) ∈ lw_all := lw_g (lw_at lw_m2 200 rfl) rfl
theorem q577 : (Jvm.Cond.code ({ cls := "WatchStack", name := "in", desc := "(JJJ)Z" } : Jvm.MethodName) prog_1_method_1_code (6 : Nat) (Option.some Jvm.ClassFile.FieldType.boolean)) ∈ lw_all := lw_g (lw_at lw_m2 201 rfl) rfl
theorem q579 : (Jvm.Cond.instanceMethod ({ cls := "WatchStack", name := "board", desc := "()I" } : Jvm.MethodName)) ∈ lw_all := lw_g (lw_at lw_m2 203 rfl) rfl
theorem q580 : (Jvm.Cond.selects "WatchStack" ({ cls := "WatchStack", name := "board", desc := "()I" } : Jvm.MethodName) ({ cls := "WatchStack", name := "board", desc := "()I" } : Jvm.MethodName)) ∈ lw_all := lw_g (lw_at lw_m2 204 rfl) rfl
theorem q581 : (Jvm.Cond.codeWith ({ cls := "WatchStack", name := "board", desc := "()I" } : Jvm.MethodName) prog_1_method_6_code (4 : Nat) (Option.some Jvm.ClassFile.FieldType.int) [((0 : Nat), (46 : Nat), (53 : Nat), (135 : Nat)), ((0 : Nat), (46 : Nat), (80 : Nat), (0 : Nat)), ((53 : Nat), (73 : Nat), (80 : Nat), (0 : Nat))]) ∈ lw_all := lw_g (lw_at lw_m2 205 rfl) rfl
theorem q582 : (Jvm.Cond.classLink "WatchStack" (135 : Nat) "WatchStack$Fault") ∈ lw_all := lw_g (lw_at lw_m2 206 rfl) rfl
theorem q583 : (Jvm.Cond.classLink "WatchStack" (120 : Nat) "WatchStack$Reader") ∈ lw_all := lw_g (lw_at lw_m2 207 rfl) rfl
theorem q585 : (Jvm.Cond.methodLink "WatchStack" (122 : Nat) ({ cls := "WatchStack$Reader", name := "<init>", desc := "([BI)V" } : Jvm.MethodName)) ∈ lw_all := lw_g (lw_at lw_m2 209 rfl) rfl
theorem q637 : (Jvm.Cond.methodLink "WatchStack" (125 : Nat) ({ cls := "WatchStack$Reader", name := "reads", desc := "()LWatchStack$Told;" } : Jvm.MethodName)) ∈ lw_all := lw_g (lw_at lw_m3 21 rfl) rfl
theorem q762 : (Jvm.Cond.fieldLinkNest "WatchStack" (137 : Nat) "WatchStack$Fault" "kind" "I" "WatchStack") ∈ lw_tbl := lw_at lw_m3 146 rfl
theorem q764 : (Jvm.Cond.fieldLinkNest "WatchStack" (140 : Nat) "WatchStack$Fault" "place" "I" "WatchStack") ∈ lw_tbl := lw_at lw_m3 148 rfl
theorem q819 : (Jvm.Cond.fieldLinkNest "WatchStack" (182 : Nat) "WatchStack$Task" "watcher" "I" "WatchStack") ∈ lw_tbl := lw_at lw_m3 203 rfl
theorem q822 : (Jvm.Cond.fieldLinkNest "WatchStack" (185 : Nat) "WatchStack$Task" "period" "I" "WatchStack") ∈ lw_tbl := lw_at lw_m3 206 rfl
theorem q824 : (Jvm.Cond.fieldLinkNest "WatchStack" (188 : Nat) "WatchStack$Task" "open" "I" "WatchStack") ∈ lw_tbl := lw_at lw_m3 208 rfl
theorem q826 : (Jvm.Cond.fieldLinkNest "WatchStack" (191 : Nat) "WatchStack$Task" "close" "I" "WatchStack") ∈ lw_tbl := lw_at lw_m3 210 rfl
theorem q828 : (Jvm.Cond.fieldLinkNest "WatchStack" (194 : Nat) "WatchStack$Task" "least" "I" "WatchStack") ∈ lw_tbl := lw_at lw_m3 212 rfl
theorem q830 : (Jvm.Cond.fieldLinkNest "WatchStack" (197 : Nat) "WatchStack$Task" "most" "I" "WatchStack") ∈ lw_tbl := lw_at lw_m3 214 rfl
theorem q832 : (Jvm.Cond.fieldLinkNest "WatchStack" (203 : Nat) "WatchStack$Task" "units" "[I" "WatchStack") ∈ lw_tbl := lw_at lw_m3 216 rfl
theorem q834 : (Jvm.Cond.fieldLinkNest "WatchStack" (206 : Nat) "WatchStack$Task" "behind" "[I" "WatchStack") ∈ lw_tbl := lw_at lw_m3 218 rfl
theorem q837 : (Jvm.Cond.fieldLinkNest "WatchStack" (200 : Nat) "WatchStack$Task" "nodes" "I" "WatchStack") ∈ lw_tbl := lw_at lw_m3 221 rfl
theorem q891 : (Jvm.Cond.selects "WatchStack" ({ cls := "java/lang/Object", name := "getClass", desc := "()Ljava/lang/Class;" } : Jvm.MethodName) ({ cls := "java/lang/Object", name := "getClass", desc := "()Ljava/lang/Class;" } : Jvm.MethodName)) ∈ lw_all := lw_g (lw_at lw_m4 35 rfl) rfl
theorem q932 : (Jvm.Cond.static ({ cls := "WatchStack", name := "isOn", desc := "(II)Z" } : Jvm.MethodName)) ∈ lw_all := lw_g (lw_at lw_m4 76 rfl) rfl
theorem q933 : (Jvm.Cond.code ({ cls := "WatchStack", name := "isOn", desc := "(II)Z" } : Jvm.MethodName) prog_1_method_2_code (2 : Nat) (Option.some Jvm.ClassFile.FieldType.boolean)) ∈ lw_all := lw_g (lw_at lw_m4 77 rfl) rfl
theorem q955 : (Jvm.Cond.fieldLinkNest "WatchStack" (220 : Nat) "WatchStack$Injection" "kind" "I" "WatchStack") ∈ lw_tbl := lw_at lw_m4 99 rfl
theorem q957 : (Jvm.Cond.fieldLinkNest "WatchStack" (221 : Nat) "WatchStack$Injection" "who" "I" "WatchStack") ∈ lw_tbl := lw_at lw_m4 101 rfl
theorem q959 : (Jvm.Cond.fieldLinkNest "WatchStack" (224 : Nat) "WatchStack$Injection" "job" "I" "WatchStack") ∈ lw_tbl := lw_at lw_m4 103 rfl
theorem q961 : (Jvm.Cond.fieldLinkNest "WatchStack" (227 : Nat) "WatchStack$Injection" "node" "I" "WatchStack") ∈ lw_tbl := lw_at lw_m4 105 rfl
theorem q963 : (Jvm.Cond.fieldLinkNest "WatchStack" (230 : Nat) "WatchStack$Injection" "times" "I" "WatchStack") ∈ lw_tbl := lw_at lw_m4 107 rfl
theorem q978 : (Jvm.Cond.instanceMethod ({ cls := "WatchStack", name := "fault", desc := "(I)I" } : Jvm.MethodName)) ∈ lw_all := lw_g (lw_at lw_m4 122 rfl) rfl
theorem q979 : (Jvm.Cond.selects "WatchStack" ({ cls := "WatchStack", name := "fault", desc := "(I)I" } : Jvm.MethodName) ({ cls := "WatchStack", name := "fault", desc := "(I)I" } : Jvm.MethodName)) ∈ lw_all := lw_g (lw_at lw_m4 123 rfl) rfl
theorem q980 : (Jvm.Cond.code ({ cls := "WatchStack", name := "fault", desc := "(I)I" } : Jvm.MethodName) prog_1_method_7_code (2 : Nat) (Option.some Jvm.ClassFile.FieldType.int)) ∈ lw_all := lw_g (lw_at lw_m4 124 rfl) rfl
theorem q982 : (Jvm.Cond.instanceMethod ({ cls := "WatchStack", name := "task", desc := "(II)I" } : Jvm.MethodName)) ∈ lw_all := lw_g (lw_at lw_m4 126 rfl) rfl
theorem q983 : (Jvm.Cond.selects "WatchStack" ({ cls := "WatchStack", name := "task", desc := "(II)I" } : Jvm.MethodName) ({ cls := "WatchStack", name := "task", desc := "(II)I" } : Jvm.MethodName)) ∈ lw_all := lw_g (lw_at lw_m4 127 rfl) rfl
theorem q984 : (Jvm.Cond.code ({ cls := "WatchStack", name := "task", desc := "(II)I" } : Jvm.MethodName) prog_1_method_14_code (4 : Nat) (Option.some Jvm.ClassFile.FieldType.int)) ∈ lw_all := lw_g (lw_at lw_m4 128 rfl) rfl
theorem q985 : (Jvm.Cond.methodLink "WatchStack" (168 : Nat) ({ cls := "WatchStack", name := "isTask", desc := "(I)Z" } : Jvm.MethodName)) ∈ lw_all := lw_g (lw_at lw_m4 129 rfl) rfl
theorem q986 : (Jvm.Cond.privateMethod ({ cls := "WatchStack", name := "isTask", desc := "(I)Z" } : Jvm.MethodName)) ∈ lw_tbl := lw_at lw_m4 130 rfl
theorem q987 : (Jvm.Cond.instanceMethod ({ cls := "WatchStack", name := "isTask", desc := "(I)Z" } : Jvm.MethodName)) ∈ lw_all := lw_g (lw_at lw_m4 131 rfl) rfl
theorem q988 : (Jvm.Cond.code ({ cls := "WatchStack", name := "isTask", desc := "(I)Z" } : Jvm.MethodName) prog_1_method_10_code (2 : Nat) (Option.some Jvm.ClassFile.FieldType.boolean)) ∈ lw_all := lw_g (lw_at lw_m4 132 rfl) rfl
theorem q990 : (Jvm.Cond.instanceMethod ({ cls := "WatchStack", name := "node", desc := "(III)I" } : Jvm.MethodName)) ∈ lw_all := lw_g (lw_at lw_m4 134 rfl) rfl
theorem q991 : (Jvm.Cond.selects "WatchStack" ({ cls := "WatchStack", name := "node", desc := "(III)I" } : Jvm.MethodName) ({ cls := "WatchStack", name := "node", desc := "(III)I" } : Jvm.MethodName)) ∈ lw_all := lw_g (lw_at lw_m4 135 rfl) rfl
theorem q992 : (Jvm.Cond.code ({ cls := "WatchStack", name := "node", desc := "(III)I" } : Jvm.MethodName) prog_1_method_15_code (4 : Nat) (Option.some Jvm.ClassFile.FieldType.int)) ∈ lw_all := lw_g (lw_at lw_m4 136 rfl) rfl
theorem q994 : (Jvm.Cond.instanceMethod ({ cls := "WatchStack", name := "watcher", desc := "(I)I" } : Jvm.MethodName)) ∈ lw_all := lw_g (lw_at lw_m4 138 rfl) rfl
theorem q995 : (Jvm.Cond.selects "WatchStack" ({ cls := "WatchStack", name := "watcher", desc := "(I)I" } : Jvm.MethodName) ({ cls := "WatchStack", name := "watcher", desc := "(I)I" } : Jvm.MethodName)) ∈ lw_all := lw_g (lw_at lw_m4 139 rfl) rfl
theorem q996 : (Jvm.Cond.code ({ cls := "WatchStack", name := "watcher", desc := "(I)I" } : Jvm.MethodName) prog_1_method_16_code (2 : Nat) (Option.some Jvm.ClassFile.FieldType.int)) ∈ lw_all := lw_g (lw_at lw_m4 140 rfl) rfl
theorem q998 : (Jvm.Cond.instanceMethod ({ cls := "WatchStack", name := "injection", desc := "(II)I" } : Jvm.MethodName)) ∈ lw_all := lw_g (lw_at lw_m4 142 rfl) rfl
theorem q999 : (Jvm.Cond.selects "WatchStack" ({ cls := "WatchStack", name := "injection", desc := "(II)I" } : Jvm.MethodName) ({ cls := "WatchStack", name := "injection", desc := "(II)I" } : Jvm.MethodName)) ∈ lw_all := lw_g (lw_at lw_m4 143 rfl) rfl
theorem q1000 : (Jvm.Cond.code ({ cls := "WatchStack", name := "injection", desc := "(II)I" } : Jvm.MethodName) prog_1_method_17_code (4 : Nat) (Option.some Jvm.ClassFile.FieldType.int)) ∈ lw_all := lw_g (lw_at lw_m4 144 rfl) rfl
theorem q1001 : (Jvm.Cond.methodLink "WatchStack" (215 : Nat) ({ cls := "WatchStack", name := "isInjection", desc := "(I)Z" } : Jvm.MethodName)) ∈ lw_all := lw_g (lw_at lw_m4 145 rfl) rfl
theorem q1002 : (Jvm.Cond.privateMethod ({ cls := "WatchStack", name := "isInjection", desc := "(I)Z" } : Jvm.MethodName)) ∈ lw_tbl := lw_at lw_m4 146 rfl
theorem q1003 : (Jvm.Cond.instanceMethod ({ cls := "WatchStack", name := "isInjection", desc := "(I)Z" } : Jvm.MethodName)) ∈ lw_all := lw_g (lw_at lw_m4 147 rfl) rfl
theorem q1004 : (Jvm.Cond.code ({ cls := "WatchStack", name := "isInjection", desc := "(I)Z" } : Jvm.MethodName) prog_1_method_13_code (2 : Nat) (Option.some Jvm.ClassFile.FieldType.boolean)) ∈ lw_all := lw_g (lw_at lw_m4 148 rfl) rfl
theorem q1005 : (Jvm.Cond.classLink "WatchStack" (218 : Nat) "WatchStack$Injection") ∈ lw_all := lw_g (lw_at lw_m4 149 rfl) rfl
theorem q1007 : (Jvm.Cond.instanceMethod ({ cls := "WatchStack", name := "cost", desc := "(II)I" } : Jvm.MethodName)) ∈ lw_all := lw_g (lw_at lw_m4 151 rfl) rfl
theorem q1008 : (Jvm.Cond.selects "WatchStack" ({ cls := "WatchStack", name := "cost", desc := "(II)I" } : Jvm.MethodName) ({ cls := "WatchStack", name := "cost", desc := "(II)I" } : Jvm.MethodName)) ∈ lw_all := lw_g (lw_at lw_m4 152 rfl) rfl
theorem q1009 : (Jvm.Cond.code ({ cls := "WatchStack", name := "cost", desc := "(II)I" } : Jvm.MethodName) prog_1_method_18_code (3 : Nat) (Option.some Jvm.ClassFile.FieldType.int)) ∈ lw_all := lw_g (lw_at lw_m4 153 rfl) rfl
theorem q1010 : (Jvm.Cond.methodLink "WatchStack" (233 : Nat) ({ cls := "WatchStack$Task", name := "cost", desc := "(IZ)I" } : Jvm.MethodName)) ∈ lw_all := lw_g (lw_at lw_m4 154 rfl) rfl
theorem q1017 : (Jvm.Cond.instanceMethod ({ cls := "WatchStack", name := "ways", desc := "(I)I" } : Jvm.MethodName)) ∈ lw_all := lw_g (lw_at lw_m4 161 rfl) rfl
theorem q1018 : (Jvm.Cond.selects "WatchStack" ({ cls := "WatchStack", name := "ways", desc := "(I)I" } : Jvm.MethodName) ({ cls := "WatchStack", name := "ways", desc := "(I)I" } : Jvm.MethodName)) ∈ lw_all := lw_g (lw_at lw_m4 162 rfl) rfl
theorem q1019 : (Jvm.Cond.code ({ cls := "WatchStack", name := "ways", desc := "(I)I" } : Jvm.MethodName) prog_1_method_19_code (2 : Nat) (Option.some Jvm.ClassFile.FieldType.int)) ∈ lw_all := lw_g (lw_at lw_m4 163 rfl) rfl
theorem q1020 : (Jvm.Cond.methodLink "WatchStack" (237 : Nat) ({ cls := "WatchStack$Task", name := "ways", desc := "(I)I" } : Jvm.MethodName)) ∈ lw_all := lw_g (lw_at lw_m4 164 rfl) rfl
theorem q1026 : (Jvm.Cond.instanceMethod ({ cls := "WatchStack", name := "response", desc := "(I)I" } : Jvm.MethodName)) ∈ lw_all := lw_g (lw_at lw_m4 170 rfl) rfl
theorem q1027 : (Jvm.Cond.selects "WatchStack" ({ cls := "WatchStack", name := "response", desc := "(I)I" } : Jvm.MethodName) ({ cls := "WatchStack", name := "response", desc := "(I)I" } : Jvm.MethodName)) ∈ lw_all := lw_g (lw_at lw_m4 171 rfl) rfl
theorem q1028 : (Jvm.Cond.code ({ cls := "WatchStack", name := "response", desc := "(I)I" } : Jvm.MethodName) prog_1_method_24_code (2 : Nat) (Option.some Jvm.ClassFile.FieldType.int)) ∈ lw_all := lw_g (lw_at lw_m4 172 rfl) rfl
theorem q1029 : (Jvm.Cond.methodLink "WatchStack" (258 : Nat) ({ cls := "WatchStack", name := "lesser", desc := "(I)I" } : Jvm.MethodName)) ∈ lw_all := lw_g (lw_at lw_m4 173 rfl) rfl
theorem q1030 : (Jvm.Cond.static ({ cls := "WatchStack", name := "lesser", desc := "(I)I" } : Jvm.MethodName)) ∈ lw_all := lw_g (lw_at lw_m4 174 rfl) rfl
theorem q1031 : (Jvm.Cond.code ({ cls := "WatchStack", name := "lesser", desc := "(I)I" } : Jvm.MethodName) prog_1_method_23_code (1 : Nat) (Option.some Jvm.ClassFile.FieldType.int)) ∈ lw_all := lw_g (lw_at lw_m4 175 rfl) rfl
theorem q1032 : (Jvm.Cond.methodLink "WatchStack" (261 : Nat) ({ cls := "WatchStack", name := "responseOf", desc := "(II)I" } : Jvm.MethodName)) ∈ lw_all := lw_g (lw_at lw_m4 176 rfl) rfl
theorem q1033 : (Jvm.Cond.privateMethod ({ cls := "WatchStack", name := "responseOf", desc := "(II)I" } : Jvm.MethodName)) ∈ lw_tbl := lw_at lw_m4 177 rfl
theorem q1034 : (Jvm.Cond.instanceMethod ({ cls := "WatchStack", name := "responseOf", desc := "(II)I" } : Jvm.MethodName)) ∈ lw_all := lw_g (lw_at lw_m4 178 rfl) rfl
theorem q1035 : (Jvm.Cond.code ({ cls := "WatchStack", name := "responseOf", desc := "(II)I" } : Jvm.MethodName) prog_1_method_22_code (7 : Nat) (Option.some Jvm.ClassFile.FieldType.int)) ∈ lw_all := lw_g (lw_at lw_m4 179 rfl) rfl
theorem q1036 : (Jvm.Cond.methodLink "WatchStack" (247 : Nat) ({ cls := "WatchStack", name := "longer", desc := "(I)I" } : Jvm.MethodName)) ∈ lw_all := lw_g (lw_at lw_m4 180 rfl) rfl
theorem q1037 : (Jvm.Cond.privateMethod ({ cls := "WatchStack", name := "longer", desc := "(I)I" } : Jvm.MethodName)) ∈ lw_tbl := lw_at lw_m4 181 rfl
theorem q1038 : (Jvm.Cond.instanceMethod ({ cls := "WatchStack", name := "longer", desc := "(I)I" } : Jvm.MethodName)) ∈ lw_all := lw_g (lw_at lw_m4 182 rfl) rfl
theorem q1039 : (Jvm.Cond.code ({ cls := "WatchStack", name := "longer", desc := "(I)I" } : Jvm.MethodName) prog_1_method_21_code (2 : Nat) (Option.some Jvm.ClassFile.FieldType.int)) ∈ lw_all := lw_g (lw_at lw_m4 183 rfl) rfl
theorem q1040 : (Jvm.Cond.methodLink "WatchStack" (241 : Nat) ({ cls := "WatchStack$Task", name := "longest", desc := "()I" } : Jvm.MethodName)) ∈ lw_all := lw_g (lw_at lw_m4 184 rfl) rfl
theorem q1044 : (Jvm.Cond.methodLink "WatchStack" (250 : Nat) ({ cls := "WatchStack", name := "isOn", desc := "(II)Z" } : Jvm.MethodName)) ∈ lw_all := lw_g (lw_at lw_m4 188 rfl) rfl
theorem q1045 : (Jvm.Cond.methodLink "WatchStack" (254 : Nat) ({ cls := "WatchStack", name := "up", desc := "(II)I" } : Jvm.MethodName)) ∈ lw_all := lw_g (lw_at lw_m4 189 rfl) rfl
theorem q1046 : (Jvm.Cond.static ({ cls := "WatchStack", name := "up", desc := "(II)I" } : Jvm.MethodName)) ∈ lw_all := lw_g (lw_at lw_m4 190 rfl) rfl
theorem q1047 : (Jvm.Cond.code ({ cls := "WatchStack", name := "up", desc := "(II)I" } : Jvm.MethodName) prog_1_method_20_code (2 : Nat) (Option.some Jvm.ClassFile.FieldType.int)) ∈ lw_all := lw_g (lw_at lw_m4 191 rfl) rfl
theorem q1049 : (Jvm.Cond.instanceMethod ({ cls := "WatchStack", name := "least", desc := "(II)I" } : Jvm.MethodName)) ∈ lw_all := lw_g (lw_at lw_m4 193 rfl) rfl
theorem q1050 : (Jvm.Cond.selects "WatchStack" ({ cls := "WatchStack", name := "least", desc := "(II)I" } : Jvm.MethodName) ({ cls := "WatchStack", name := "least", desc := "(II)I" } : Jvm.MethodName)) ∈ lw_all := lw_g (lw_at lw_m4 194 rfl) rfl
theorem q1051 : (Jvm.Cond.code ({ cls := "WatchStack", name := "least", desc := "(II)I" } : Jvm.MethodName) prog_1_method_26_code (4 : Nat) (Option.some Jvm.ClassFile.FieldType.int)) ∈ lw_all := lw_g (lw_at lw_m4 195 rfl) rfl
theorem q1052 : (Jvm.Cond.constantLong "WatchStack" (275 : Nat) (3 : Int64)) ∈ lw_all := lw_g (lw_at lw_m4 196 rfl) rfl
theorem q1053 : (Jvm.Cond.methodLink "WatchStack" (277 : Nat) ({ cls := "WatchStack", name := "leastOf", desc := "(III)I" } : Jvm.MethodName)) ∈ lw_all := lw_g (lw_at lw_m4 197 rfl) rfl
theorem q1054 : (Jvm.Cond.privateMethod ({ cls := "WatchStack", name := "leastOf", desc := "(III)I" } : Jvm.MethodName)) ∈ lw_tbl := lw_at lw_m4 198 rfl
theorem q1055 : (Jvm.Cond.instanceMethod ({ cls := "WatchStack", name := "leastOf", desc := "(III)I" } : Jvm.MethodName)) ∈ lw_all := lw_g (lw_at lw_m4 199 rfl) rfl
theorem q1056 : (Jvm.Cond.code ({ cls := "WatchStack", name := "leastOf", desc := "(III)I" } : Jvm.MethodName) prog_1_method_25_code (6 : Nat) (Option.some Jvm.ClassFile.FieldType.int)) ∈ lw_all := lw_g (lw_at lw_m4 200 rfl) rfl
theorem q1057 : (Jvm.Cond.methodLink "WatchStack" (264 : Nat) ({ cls := "WatchStack$Task", name := "shortest", desc := "()I" } : Jvm.MethodName)) ∈ lw_all := lw_g (lw_at lw_m4 201 rfl) rfl
theorem q1061 : (Jvm.Cond.methodLink "WatchStack" (270 : Nat) ({ cls := "java/lang/Math", name := "max", desc := "(II)I" } : Jvm.MethodName)) ∈ lw_all := lw_g (lw_at lw_m4 205 rfl) rfl
theorem q1063 : (Jvm.Cond.instanceMethod ({ cls := "WatchStack", name := "room", desc := "(I)I" } : Jvm.MethodName)) ∈ lw_all := lw_g (lw_at lw_m4 207 rfl) rfl
theorem q1064 : (Jvm.Cond.selects "WatchStack" ({ cls := "WatchStack", name := "room", desc := "(I)I" } : Jvm.MethodName) ({ cls := "WatchStack", name := "room", desc := "(I)I" } : Jvm.MethodName)) ∈ lw_all := lw_g (lw_at lw_m4 208 rfl) rfl
theorem q1065 : (Jvm.Cond.codeWith ({ cls := "WatchStack", name := "room", desc := "(I)I" } : Jvm.MethodName) prog_1_method_29_code (5 : Nat) (Option.some Jvm.ClassFile.FieldType.int) [((16 : Nat), (49 : Nat), (78 : Nat), (0 : Nat)), ((56 : Nat), (71 : Nat), (78 : Nat), (0 : Nat)), ((78 : Nat), (80 : Nat), (78 : Nat), (0 : Nat))]) ∈ lw_all := lw_g (lw_at lw_m4 209 rfl) rfl
theorem q1066 : (Jvm.Cond.methodLink "WatchStack" (284 : Nat) ({ cls := "WatchStack", name := "lawfulNow", desc := "()I" } : Jvm.MethodName)) ∈ lw_all := lw_g (lw_at lw_m4 210 rfl) rfl
theorem q1067 : (Jvm.Cond.privateMethod ({ cls := "WatchStack", name := "lawfulNow", desc := "()I" } : Jvm.MethodName)) ∈ lw_tbl := lw_at lw_m4 211 rfl
theorem q1068 : (Jvm.Cond.instanceMethod ({ cls := "WatchStack", name := "lawfulNow", desc := "()I" } : Jvm.MethodName)) ∈ lw_all := lw_g (lw_at lw_m4 212 rfl) rfl
theorem q1069 : (Jvm.Cond.code ({ cls := "WatchStack", name := "lawfulNow", desc := "()I" } : Jvm.MethodName) prog_1_method_28_code (3 : Nat) (Option.some Jvm.ClassFile.FieldType.int)) ∈ lw_all := lw_g (lw_at lw_m4 213 rfl) rfl
theorem q1070 : (Jvm.Cond.methodLink "WatchStack" (281 : Nat) ({ cls := "WatchStack", name := "isLawful", desc := "(II)Z" } : Jvm.MethodName)) ∈ lw_all := lw_g (lw_at lw_m4 214 rfl) rfl
theorem q1071 : (Jvm.Cond.privateMethod ({ cls := "WatchStack", name := "isLawful", desc := "(II)Z" } : Jvm.MethodName)) ∈ lw_tbl := lw_at lw_m4 215 rfl
theorem q1072 : (Jvm.Cond.instanceMethod ({ cls := "WatchStack", name := "isLawful", desc := "(II)Z" } : Jvm.MethodName)) ∈ lw_all := lw_g (lw_at lw_m4 216 rfl) rfl
theorem q1073 : (Jvm.Cond.code ({ cls := "WatchStack", name := "isLawful", desc := "(II)Z" } : Jvm.MethodName) prog_1_method_27_code (5 : Nat) (Option.some Jvm.ClassFile.FieldType.boolean)) ∈ lw_all := lw_g (lw_at lw_m4 217 rfl) rfl
theorem q1075 : (Jvm.Cond.instanceMethod ({ cls := "WatchStack", name := "answer", desc := "(III)I" } : Jvm.MethodName)) ∈ lw_all := lw_g (lw_at lw_m4 219 rfl) rfl
theorem q1076 : (Jvm.Cond.selects "WatchStack" ({ cls := "WatchStack", name := "answer", desc := "(III)I" } : Jvm.MethodName) ({ cls := "WatchStack", name := "answer", desc := "(III)I" } : Jvm.MethodName)) ∈ lw_all := lw_g (lw_at lw_m4 220 rfl) rfl
theorem q1077 : (Jvm.Cond.code ({ cls := "WatchStack", name := "answer", desc := "(III)I" } : Jvm.MethodName) prog_1_method_31_code (6 : Nat) (Option.some Jvm.ClassFile.FieldType.int)) ∈ lw_all := lw_g (lw_at lw_m4 221 rfl) rfl
theorem q1078 : (Jvm.Cond.constantLong "WatchStack" (287 : Nat) (50 : Int64)) ∈ lw_all := lw_g (lw_at lw_m4 222 rfl) rfl
theorem q1079 : (Jvm.Cond.constantLong "WatchStack" (289 : Nat) (63 : Int64)) ∈ lw_all := lw_g (lw_at lw_m4 223 rfl) rfl
theorem q1080 : (Jvm.Cond.methodLink "WatchStack" (291 : Nat) ({ cls := "WatchStack", name := "follows", desc := "(II)I" } : Jvm.MethodName)) ∈ lw_all := lw_g (lw_at lw_m4 224 rfl) rfl
theorem q1081 : (Jvm.Cond.static ({ cls := "WatchStack", name := "follows", desc := "(II)I" } : Jvm.MethodName)) ∈ lw_all := lw_g (lw_at lw_m4 225 rfl) rfl
theorem q1082 : (Jvm.Cond.code ({ cls := "WatchStack", name := "follows", desc := "(II)I" } : Jvm.MethodName) prog_1_method_30_code (2 : Nat) (Option.some Jvm.ClassFile.FieldType.int)) ∈ lw_all := lw_g (lw_at lw_m4 226 rfl) rfl
theorem q1083 : (Jvm.Cond.methodLink "WatchStack" (294 : Nat) ({ cls := "WatchStack$Task", name := "next", desc := "(II)I" } : Jvm.MethodName)) ∈ lw_all := lw_g (lw_at lw_m4 227 rfl) rfl
theorem q1094 : (Jvm.Cond.instanceMethod ({ cls := "WatchStack", name := "alike", desc := "(II)I" } : Jvm.MethodName)) ∈ lw_all := lw_g (lw_at lw_m4 238 rfl) rfl
theorem q1095 : (Jvm.Cond.selects "WatchStack" ({ cls := "WatchStack", name := "alike", desc := "(II)I" } : Jvm.MethodName) ({ cls := "WatchStack", name := "alike", desc := "(II)I" } : Jvm.MethodName)) ∈ lw_all := lw_g (lw_at lw_m4 239 rfl) rfl
theorem q1096 : (Jvm.Cond.code ({ cls := "WatchStack", name := "alike", desc := "(II)I" } : Jvm.MethodName) prog_1_method_33_code (5 : Nat) (Option.some Jvm.ClassFile.FieldType.int)) ∈ lw_all := lw_g (lw_at lw_m5 0 rfl) rfl
theorem q1097 : (Jvm.Cond.methodLink "WatchStack" (297 : Nat) ({ cls := "WatchStack", name := "answersFrom", desc := "(LWatchStack$Task;II)V" } : Jvm.MethodName)) ∈ lw_all := lw_g (lw_at lw_m5 1 rfl) rfl
theorem q1098 : (Jvm.Cond.privateMethod ({ cls := "WatchStack", name := "answersFrom", desc := "(LWatchStack$Task;II)V" } : Jvm.MethodName)) ∈ lw_tbl := lw_at lw_m5 2 rfl
theorem q1099 : (Jvm.Cond.instanceMethod ({ cls := "WatchStack", name := "answersFrom", desc := "(LWatchStack$Task;II)V" } : Jvm.MethodName)) ∈ lw_all := lw_g (lw_at lw_m5 3 rfl) rfl
theorem q1100 : (Jvm.Cond.code ({ cls := "WatchStack", name := "answersFrom", desc := "(LWatchStack$Task;II)V" } : Jvm.MethodName) prog_1_method_32_code (6 : Nat) (Option.none : Option Jvm.ClassFile.FieldType)) ∈ lw_all := lw_g (lw_at lw_m5 4 rfl) rfl
theorem q1102 : (Jvm.Cond.instanceMethod ({ cls := "WatchStack", name := "orders", desc := "()I" } : Jvm.MethodName)) ∈ lw_all := lw_g (lw_at lw_m5 6 rfl) rfl
theorem q1103 : (Jvm.Cond.selects "WatchStack" ({ cls := "WatchStack", name := "orders", desc := "()I" } : Jvm.MethodName) ({ cls := "WatchStack", name := "orders", desc := "()I" } : Jvm.MethodName)) ∈ lw_all := lw_g (lw_at lw_m5 7 rfl) rfl
theorem q1104 : (Jvm.Cond.code ({ cls := "WatchStack", name := "orders", desc := "()I" } : Jvm.MethodName) prog_1_method_36_code (1 : Nat) (Option.some Jvm.ClassFile.FieldType.int)) ∈ lw_all := lw_g (lw_at lw_m5 8 rfl) rfl
theorem q1105 : (Jvm.Cond.methodLink "WatchStack" (161 : Nat) ({ cls := "WatchStack$Told", name := "is", desc := "()Z" } : Jvm.MethodName)) ∈ lw_all := lw_g (lw_at lw_m5 9 rfl) rfl
theorem q1109 : (Jvm.Cond.methodLink "WatchStack" (308 : Nat) ({ cls := "WatchStack", name := "ordersAll", desc := "()I" } : Jvm.MethodName)) ∈ lw_all := lw_g (lw_at lw_m5 13 rfl) rfl
theorem q1110 : (Jvm.Cond.privateMethod ({ cls := "WatchStack", name := "ordersAll", desc := "()I" } : Jvm.MethodName)) ∈ lw_tbl := lw_at lw_m5 14 rfl
theorem q1111 : (Jvm.Cond.instanceMethod ({ cls := "WatchStack", name := "ordersAll", desc := "()I" } : Jvm.MethodName)) ∈ lw_all := lw_g (lw_at lw_m5 15 rfl) rfl
theorem q1112 : (Jvm.Cond.code ({ cls := "WatchStack", name := "ordersAll", desc := "()I" } : Jvm.MethodName) prog_1_method_35_code (1 : Nat) (Option.some Jvm.ClassFile.FieldType.int)) ∈ lw_all := lw_g (lw_at lw_m5 16 rfl) rfl
theorem q1113 : (Jvm.Cond.methodLink "WatchStack" (305 : Nat) ({ cls := "WatchStack", name := "ordersFrom", desc := "(II)I" } : Jvm.MethodName)) ∈ lw_all := lw_g (lw_at lw_m5 17 rfl) rfl
theorem q1114 : (Jvm.Cond.privateMethod ({ cls := "WatchStack", name := "ordersFrom", desc := "(II)I" } : Jvm.MethodName)) ∈ lw_tbl := lw_at lw_m5 18 rfl
theorem q1115 : (Jvm.Cond.instanceMethod ({ cls := "WatchStack", name := "ordersFrom", desc := "(II)I" } : Jvm.MethodName)) ∈ lw_all := lw_g (lw_at lw_m5 19 rfl) rfl
theorem q1116 : (Jvm.Cond.code ({ cls := "WatchStack", name := "ordersFrom", desc := "(II)I" } : Jvm.MethodName) prog_1_method_34_code (5 : Nat) (Option.some Jvm.ClassFile.FieldType.int)) ∈ lw_all := lw_g (lw_at lw_m5 20 rfl) rfl
theorem q1118 : (Jvm.Cond.instanceMethod ({ cls := "WatchStack", name := "order", desc := "(I)I" } : Jvm.MethodName)) ∈ lw_all := lw_g (lw_at lw_m5 22 rfl) rfl
theorem q1119 : (Jvm.Cond.selects "WatchStack" ({ cls := "WatchStack", name := "order", desc := "(I)I" } : Jvm.MethodName) ({ cls := "WatchStack", name := "order", desc := "(I)I" } : Jvm.MethodName)) ∈ lw_all := lw_g (lw_at lw_m5 23 rfl) rfl
theorem q1120 : (Jvm.Cond.code ({ cls := "WatchStack", name := "order", desc := "(I)I" } : Jvm.MethodName) prog_1_method_37_code (2 : Nat) (Option.some Jvm.ClassFile.FieldType.int)) ∈ lw_all := lw_g (lw_at lw_m5 24 rfl) rfl
theorem q1122 : (Jvm.Cond.instanceMethod ({ cls := "WatchStack", name := "path", desc := "(III)I" } : Jvm.MethodName)) ∈ lw_all := lw_g (lw_at lw_m5 26 rfl) rfl
theorem q1123 : (Jvm.Cond.selects "WatchStack" ({ cls := "WatchStack", name := "path", desc := "(III)I" } : Jvm.MethodName) ({ cls := "WatchStack", name := "path", desc := "(III)I" } : Jvm.MethodName)) ∈ lw_all := lw_g (lw_at lw_m5 27 rfl) rfl
theorem q1124 : (Jvm.Cond.code ({ cls := "WatchStack", name := "path", desc := "(III)I" } : Jvm.MethodName) prog_1_method_38_code (6 : Nat) (Option.some Jvm.ClassFile.FieldType.int)) ∈ lw_all := lw_g (lw_at lw_m5 28 rfl) rfl
theorem q1126 : (Jvm.Cond.instanceMethod ({ cls := "WatchStack", name := "lawful", desc := "()I" } : Jvm.MethodName)) ∈ lw_all := lw_g (lw_at lw_m5 30 rfl) rfl
theorem q1127 : (Jvm.Cond.selects "WatchStack" ({ cls := "WatchStack", name := "lawful", desc := "()I" } : Jvm.MethodName) ({ cls := "WatchStack", name := "lawful", desc := "()I" } : Jvm.MethodName)) ∈ lw_all := lw_g (lw_at lw_m5 31 rfl) rfl
theorem q1128 : (Jvm.Cond.code ({ cls := "WatchStack", name := "lawful", desc := "()I" } : Jvm.MethodName) prog_1_method_39_code (1 : Nat) (Option.some Jvm.ClassFile.FieldType.int)) ∈ lw_all := lw_g (lw_at lw_m5 32 rfl) rfl
theorem q1130 : (Jvm.Cond.instanceMethod ({ cls := "WatchStack", name := "load", desc := "()I" } : Jvm.MethodName)) ∈ lw_all := lw_g (lw_at lw_m5 34 rfl) rfl
theorem q1131 : (Jvm.Cond.selects "WatchStack" ({ cls := "WatchStack", name := "load", desc := "()I" } : Jvm.MethodName) ({ cls := "WatchStack", name := "load", desc := "()I" } : Jvm.MethodName)) ∈ lw_all := lw_g (lw_at lw_m5 35 rfl) rfl
theorem q1132 : (Jvm.Cond.code ({ cls := "WatchStack", name := "load", desc := "()I" } : Jvm.MethodName) prog_1_method_40_code (3 : Nat) (Option.some Jvm.ClassFile.FieldType.int)) ∈ lw_all := lw_g (lw_at lw_m5 36 rfl) rfl
theorem q1133 : (Jvm.Cond.methodLink "WatchStack" (311 : Nat) ({ cls := "java/lang/Float", name := "floatToIntBits", desc := "(F)I" } : Jvm.MethodName)) ∈ lw_all := lw_g (lw_at lw_m5 37 rfl) rfl
theorem q1144 : (Jvm.Cond.instanceMethod ({ cls := "WatchStack", name := "had", desc := "(I)I" } : Jvm.MethodName)) ∈ lw_all := lw_g (lw_at lw_m5 48 rfl) rfl
theorem q1145 : (Jvm.Cond.selects "WatchStack" ({ cls := "WatchStack", name := "had", desc := "(I)I" } : Jvm.MethodName) ({ cls := "WatchStack", name := "had", desc := "(I)I" } : Jvm.MethodName)) ∈ lw_all := lw_g (lw_at lw_m5 49 rfl) rfl
theorem q1146 : (Jvm.Cond.code ({ cls := "WatchStack", name := "had", desc := "(I)I" } : Jvm.MethodName) prog_1_method_60_code (2 : Nat) (Option.some Jvm.ClassFile.FieldType.int)) ∈ lw_all := lw_g (lw_at lw_m5 50 rfl) rfl
theorem q1147 : (Jvm.Cond.methodLink "WatchStack" (445 : Nat) ({ cls := "WatchStack", name := "runs", desc := "(II)V" } : Jvm.MethodName)) ∈ lw_all := lw_g (lw_at lw_m5 51 rfl) rfl
theorem q1148 : (Jvm.Cond.privateMethod ({ cls := "WatchStack", name := "runs", desc := "(II)V" } : Jvm.MethodName)) ∈ lw_tbl := lw_at lw_m5 52 rfl
theorem q1149 : (Jvm.Cond.instanceMethod ({ cls := "WatchStack", name := "runs", desc := "(II)V" } : Jvm.MethodName)) ∈ lw_all := lw_g (lw_at lw_m5 53 rfl) rfl
theorem q1150 : (Jvm.Cond.code ({ cls := "WatchStack", name := "runs", desc := "(II)V" } : Jvm.MethodName) prog_1_method_42_code (4 : Nat) (Option.none : Option Jvm.ClassFile.FieldType)) ∈ lw_all := lw_g (lw_at lw_m5 54 rfl) rfl
theorem q1151 : (Jvm.Cond.methodLink "WatchStack" (329 : Nat) ({ cls := "WatchStack$Life", name := "isBorn", desc := "()V" } : Jvm.MethodName)) ∈ lw_all := lw_g (lw_at lw_m5 55 rfl) rfl
theorem q1159 : (Jvm.Cond.methodLink "WatchStack" (335 : Nat) ({ cls := "WatchStack", name := "goes", desc := "()V" } : Jvm.MethodName)) ∈ lw_all := lw_g (lw_at lw_m5 63 rfl) rfl
theorem q1160 : (Jvm.Cond.privateMethod ({ cls := "WatchStack", name := "goes", desc := "()V" } : Jvm.MethodName)) ∈ lw_tbl := lw_at lw_m5 64 rfl
theorem q1161 : (Jvm.Cond.instanceMethod ({ cls := "WatchStack", name := "goes", desc := "()V" } : Jvm.MethodName)) ∈ lw_all := lw_g (lw_at lw_m5 65 rfl) rfl
theorem q1162 : (Jvm.Cond.codeWith ({ cls := "WatchStack", name := "goes", desc := "()V" } : Jvm.MethodName) prog_1_method_43_code (3 : Nat) (Option.none : Option Jvm.ClassFile.FieldType) [((0 : Nat), (109 : Nat), (112 : Nat), (354 : Nat))]) ∈ lw_all := lw_g (lw_at lw_m5 66 rfl) rfl
theorem q1163 : (Jvm.Cond.classLink "WatchStack" (354 : Nat) "WatchStack$Reset") ∈ lw_all := lw_g (lw_at lw_m5 67 rfl) rfl
theorem q1164 : (Jvm.Cond.methodLink "WatchStack" (338 : Nat) ({ cls := "WatchStack", name := "begins", desc := "(I)V" } : Jvm.MethodName)) ∈ lw_all := lw_g (lw_at lw_m5 68 rfl) rfl
theorem q1165 : (Jvm.Cond.privateMethod ({ cls := "WatchStack", name := "begins", desc := "(I)V" } : Jvm.MethodName)) ∈ lw_tbl := lw_at lw_m5 69 rfl
theorem q1166 : (Jvm.Cond.instanceMethod ({ cls := "WatchStack", name := "begins", desc := "(I)V" } : Jvm.MethodName)) ∈ lw_all := lw_g (lw_at lw_m5 70 rfl) rfl
theorem q1167 : (Jvm.Cond.code ({ cls := "WatchStack", name := "begins", desc := "(I)V" } : Jvm.MethodName) prog_1_method_45_code (5 : Nat) (Option.none : Option Jvm.ClassFile.FieldType)) ∈ lw_all := lw_g (lw_at lw_m5 71 rfl) rfl
theorem q1168 : (Jvm.Cond.methodLink "WatchStack" (372 : Nat) ({ cls := "WatchStack$Life", name := "starts", desc := "()V" } : Jvm.MethodName)) ∈ lw_all := lw_g (lw_at lw_m5 72 rfl) rfl
theorem q1172 : (Jvm.Cond.methodLink "WatchStack" (342 : Nat) ({ cls := "WatchStack", name := "works", desc := "()V" } : Jvm.MethodName)) ∈ lw_all := lw_g (lw_at lw_m5 76 rfl) rfl
theorem q1173 : (Jvm.Cond.privateMethod ({ cls := "WatchStack", name := "works", desc := "()V" } : Jvm.MethodName)) ∈ lw_tbl := lw_at lw_m5 77 rfl
theorem q1174 : (Jvm.Cond.instanceMethod ({ cls := "WatchStack", name := "works", desc := "()V" } : Jvm.MethodName)) ∈ lw_all := lw_g (lw_at lw_m5 78 rfl) rfl
theorem q1175 : (Jvm.Cond.code ({ cls := "WatchStack", name := "works", desc := "()V" } : Jvm.MethodName) prog_1_method_48_code (4 : Nat) (Option.none : Option Jvm.ClassFile.FieldType)) ∈ lw_all := lw_g (lw_at lw_m5 79 rfl) rfl
theorem q1176 : (Jvm.Cond.methodLink "WatchStack" (380 : Nat) ({ cls := "WatchStack", name := "wrongAt", desc := "(III)I" } : Jvm.MethodName)) ∈ lw_all := lw_g (lw_at lw_m5 80 rfl) rfl
theorem q1177 : (Jvm.Cond.privateMethod ({ cls := "WatchStack", name := "wrongAt", desc := "(III)I" } : Jvm.MethodName)) ∈ lw_tbl := lw_at lw_m5 81 rfl
theorem q1178 : (Jvm.Cond.instanceMethod ({ cls := "WatchStack", name := "wrongAt", desc := "(III)I" } : Jvm.MethodName)) ∈ lw_all := lw_g (lw_at lw_m5 82 rfl) rfl
theorem q1179 : (Jvm.Cond.code ({ cls := "WatchStack", name := "wrongAt", desc := "(III)I" } : Jvm.MethodName) prog_1_method_46_code (6 : Nat) (Option.some Jvm.ClassFile.FieldType.int)) ∈ lw_all := lw_g (lw_at lw_m5 83 rfl) rfl
theorem q1180 : (Jvm.Cond.methodLink "WatchStack" (376 : Nat) ({ cls := "WatchStack$Injection", name := "isOf", desc := "(II)Z" } : Jvm.MethodName)) ∈ lw_all := lw_g (lw_at lw_m5 84 rfl) rfl
theorem q1185 : (Jvm.Cond.methodLink "WatchStack" (383 : Nat) ({ cls := "WatchStack", name := "works", desc := "(ILWatchStack$Life;I)V" } : Jvm.MethodName)) ∈ lw_all := lw_g (lw_at lw_m5 89 rfl) rfl
theorem q1186 : (Jvm.Cond.privateMethod ({ cls := "WatchStack", name := "works", desc := "(ILWatchStack$Life;I)V" } : Jvm.MethodName)) ∈ lw_tbl := lw_at lw_m5 90 rfl
theorem q1187 : (Jvm.Cond.instanceMethod ({ cls := "WatchStack", name := "works", desc := "(ILWatchStack$Life;I)V" } : Jvm.MethodName)) ∈ lw_all := lw_g (lw_at lw_m5 91 rfl) rfl
theorem q1188 : (Jvm.Cond.code ({ cls := "WatchStack", name := "works", desc := "(ILWatchStack$Life;I)V" } : Jvm.MethodName) prog_1_method_49_code (6 : Nat) (Option.none : Option Jvm.ClassFile.FieldType)) ∈ lw_all := lw_g (lw_at lw_m5 92 rfl) rfl
theorem q1189 : (Jvm.Cond.methodLink "WatchStack" (389 : Nat) ({ cls := "WatchStack", name := "kicks", desc := "(ILWatchStack$Life;Z)V" } : Jvm.MethodName)) ∈ lw_all := lw_g (lw_at lw_m5 93 rfl) rfl
theorem q1190 : (Jvm.Cond.privateMethod ({ cls := "WatchStack", name := "kicks", desc := "(ILWatchStack$Life;Z)V" } : Jvm.MethodName)) ∈ lw_tbl := lw_at lw_m5 94 rfl
theorem q1191 : (Jvm.Cond.instanceMethod ({ cls := "WatchStack", name := "kicks", desc := "(ILWatchStack$Life;Z)V" } : Jvm.MethodName)) ∈ lw_all := lw_g (lw_at lw_m5 95 rfl) rfl
theorem q1192 : (Jvm.Cond.code ({ cls := "WatchStack", name := "kicks", desc := "(ILWatchStack$Life;Z)V" } : Jvm.MethodName) prog_1_method_50_code (5 : Nat) (Option.none : Option Jvm.ClassFile.FieldType)) ∈ lw_all := lw_g (lw_at lw_m5 96 rfl) rfl
theorem q1193 : (Jvm.Cond.methodLink "WatchStack" (396 : Nat) ({ cls := "WatchStack", name := "isWrong", desc := "(II)Z" } : Jvm.MethodName)) ∈ lw_all := lw_g (lw_at lw_m5 97 rfl) rfl
theorem q1194 : (Jvm.Cond.privateMethod ({ cls := "WatchStack", name := "isWrong", desc := "(II)Z" } : Jvm.MethodName)) ∈ lw_tbl := lw_at lw_m5 98 rfl
theorem q1195 : (Jvm.Cond.instanceMethod ({ cls := "WatchStack", name := "isWrong", desc := "(II)Z" } : Jvm.MethodName)) ∈ lw_all := lw_g (lw_at lw_m5 99 rfl) rfl
theorem q1196 : (Jvm.Cond.code ({ cls := "WatchStack", name := "isWrong", desc := "(II)Z" } : Jvm.MethodName) prog_1_method_47_code (5 : Nat) (Option.some Jvm.ClassFile.FieldType.boolean)) ∈ lw_all := lw_g (lw_at lw_m5 100 rfl) rfl
theorem q1197 : (Jvm.Cond.methodLink "WatchStack" (405 : Nat) ({ cls := "WatchStack", name := "faults", desc := "(II)V" } : Jvm.MethodName)) ∈ lw_all := lw_g (lw_at lw_m5 101 rfl) rfl
theorem q1198 : (Jvm.Cond.privateMethod ({ cls := "WatchStack", name := "faults", desc := "(II)V" } : Jvm.MethodName)) ∈ lw_tbl := lw_at lw_m5 102 rfl
theorem q1199 : (Jvm.Cond.instanceMethod ({ cls := "WatchStack", name := "faults", desc := "(II)V" } : Jvm.MethodName)) ∈ lw_all := lw_g (lw_at lw_m5 103 rfl) rfl
theorem q1200 : (Jvm.Cond.code ({ cls := "WatchStack", name := "faults", desc := "(II)V" } : Jvm.MethodName) prog_1_method_55_code (5 : Nat) (Option.none : Option Jvm.ClassFile.FieldType)) ∈ lw_all := lw_g (lw_at lw_m5 104 rfl) rfl
theorem q1201 : (Jvm.Cond.constantFloat "WatchStack" (434 : Nat) (1056964608 : UInt32)) ∈ lw_all := lw_g (lw_at lw_m5 105 rfl) rfl
theorem q1202 : (Jvm.Cond.constantFloat "WatchStack" (438 : Nat) (1092616192 : UInt32)) ∈ lw_all := lw_g (lw_at lw_m5 106 rfl) rfl
theorem q1203 : (Jvm.Cond.methodLink "WatchStack" (439 : Nat) ({ cls := "java/lang/Math", name := "min", desc := "(II)I" } : Jvm.MethodName)) ∈ lw_all := lw_g (lw_at lw_m5 107 rfl) rfl
theorem q1204 : (Jvm.Cond.methodLink "WatchStack" (421 : Nat) ({ cls := "WatchStack", name := "notes", desc := "(III)V" } : Jvm.MethodName)) ∈ lw_all := lw_g (lw_at lw_m5 108 rfl) rfl
theorem q1205 : (Jvm.Cond.privateMethod ({ cls := "WatchStack", name := "notes", desc := "(III)V" } : Jvm.MethodName)) ∈ lw_tbl := lw_at lw_m5 109 rfl
theorem q1206 : (Jvm.Cond.instanceMethod ({ cls := "WatchStack", name := "notes", desc := "(III)V" } : Jvm.MethodName)) ∈ lw_all := lw_g (lw_at lw_m5 110 rfl) rfl
theorem q1207 : (Jvm.Cond.code ({ cls := "WatchStack", name := "notes", desc := "(III)V" } : Jvm.MethodName) prog_1_method_56_code (4 : Nat) (Option.none : Option Jvm.ClassFile.FieldType)) ∈ lw_all := lw_g (lw_at lw_m5 111 rfl) rfl
theorem q1208 : (Jvm.Cond.methodLink "WatchStack" (442 : Nat) ({ cls := "WatchStack$Rung", name := "acts", desc := "(II)V" } : Jvm.MethodName)) ∈ lw_all := lw_g (lw_at lw_m5 112 rfl) rfl
theorem q1256 : (Jvm.Cond.methodLink "WatchStack" (409 : Nat) ({ cls := "WatchStack", name := "sees", desc := "(II)V" } : Jvm.MethodName)) ∈ lw_all := lw_g (lw_at lw_m5 160 rfl) rfl
theorem q1257 : (Jvm.Cond.privateMethod ({ cls := "WatchStack", name := "sees", desc := "(II)V" } : Jvm.MethodName)) ∈ lw_tbl := lw_at lw_m5 161 rfl
theorem q1258 : (Jvm.Cond.instanceMethod ({ cls := "WatchStack", name := "sees", desc := "(II)V" } : Jvm.MethodName)) ∈ lw_all := lw_g (lw_at lw_m5 162 rfl) rfl
theorem q1259 : (Jvm.Cond.code ({ cls := "WatchStack", name := "sees", desc := "(II)V" } : Jvm.MethodName) prog_1_method_66_code (3 : Nat) (Option.none : Option Jvm.ClassFile.FieldType)) ∈ lw_all := lw_g (lw_at lw_m5 163 rfl) rfl
theorem q1260 : (Jvm.Cond.methodLink "WatchStack" (412 : Nat) ({ cls := "WatchStack$Life", name := "good", desc := "(III)V" } : Jvm.MethodName)) ∈ lw_all := lw_g (lw_at lw_m5 164 rfl) rfl
theorem q1269 : (Jvm.Cond.methodLink "WatchStack" (345 : Nat) ({ cls := "WatchStack", name := "isLate", desc := "(I)V" } : Jvm.MethodName)) ∈ lw_all := lw_g (lw_at lw_m5 173 rfl) rfl
theorem q1270 : (Jvm.Cond.privateMethod ({ cls := "WatchStack", name := "isLate", desc := "(I)V" } : Jvm.MethodName)) ∈ lw_tbl := lw_at lw_m5 174 rfl
theorem q1271 : (Jvm.Cond.instanceMethod ({ cls := "WatchStack", name := "isLate", desc := "(I)V" } : Jvm.MethodName)) ∈ lw_all := lw_g (lw_at lw_m5 175 rfl) rfl
theorem q1272 : (Jvm.Cond.code ({ cls := "WatchStack", name := "isLate", desc := "(I)V" } : Jvm.MethodName) prog_1_method_51_code (3 : Nat) (Option.none : Option Jvm.ClassFile.FieldType)) ∈ lw_all := lw_g (lw_at lw_m5 176 rfl) rfl
theorem q1273 : (Jvm.Cond.methodLink "WatchStack" (348 : Nat) ({ cls := "WatchStack", name := "looks", desc := "()V" } : Jvm.MethodName)) ∈ lw_all := lw_g (lw_at lw_m5 177 rfl) rfl
theorem q1274 : (Jvm.Cond.privateMethod ({ cls := "WatchStack", name := "looks", desc := "()V" } : Jvm.MethodName)) ∈ lw_tbl := lw_at lw_m5 178 rfl
theorem q1275 : (Jvm.Cond.instanceMethod ({ cls := "WatchStack", name := "looks", desc := "()V" } : Jvm.MethodName)) ∈ lw_all := lw_g (lw_at lw_m5 179 rfl) rfl
theorem q1276 : (Jvm.Cond.code ({ cls := "WatchStack", name := "looks", desc := "()V" } : Jvm.MethodName) prog_1_method_53_code (2 : Nat) (Option.none : Option Jvm.ClassFile.FieldType)) ∈ lw_all := lw_g (lw_at lw_m5 180 rfl) rfl
theorem q1277 : (Jvm.Cond.methodLink "WatchStack" (416 : Nat) ({ cls := "WatchStack", name := "isAsleep", desc := "(II)Z" } : Jvm.MethodName)) ∈ lw_all := lw_g (lw_at lw_m5 181 rfl) rfl
theorem q1278 : (Jvm.Cond.privateMethod ({ cls := "WatchStack", name := "isAsleep", desc := "(II)Z" } : Jvm.MethodName)) ∈ lw_tbl := lw_at lw_m5 182 rfl
theorem q1279 : (Jvm.Cond.instanceMethod ({ cls := "WatchStack", name := "isAsleep", desc := "(II)Z" } : Jvm.MethodName)) ∈ lw_all := lw_g (lw_at lw_m5 183 rfl) rfl
theorem q1280 : (Jvm.Cond.code ({ cls := "WatchStack", name := "isAsleep", desc := "(II)Z" } : Jvm.MethodName) prog_1_method_52_code (5 : Nat) (Option.some Jvm.ClassFile.FieldType.boolean)) ∈ lw_all := lw_g (lw_at lw_m5 184 rfl) rfl
theorem q1281 : (Jvm.Cond.methodLink "WatchStack" (419 : Nat) ({ cls := "WatchStack", name := "looks", desc := "(I)V" } : Jvm.MethodName)) ∈ lw_all := lw_g (lw_at lw_m5 185 rfl) rfl
theorem q1282 : (Jvm.Cond.privateMethod ({ cls := "WatchStack", name := "looks", desc := "(I)V" } : Jvm.MethodName)) ∈ lw_tbl := lw_at lw_m5 186 rfl
theorem q1283 : (Jvm.Cond.instanceMethod ({ cls := "WatchStack", name := "looks", desc := "(I)V" } : Jvm.MethodName)) ∈ lw_all := lw_g (lw_at lw_m5 187 rfl) rfl
theorem q1284 : (Jvm.Cond.code ({ cls := "WatchStack", name := "looks", desc := "(I)V" } : Jvm.MethodName) prog_1_method_54_code (5 : Nat) (Option.none : Option Jvm.ClassFile.FieldType)) ∈ lw_all := lw_g (lw_at lw_m5 188 rfl) rfl
theorem q1285 : (Jvm.Cond.methodLink "WatchStack" (351 : Nat) ({ cls := "WatchStack$Life", name := "rests", desc := "()V" } : Jvm.MethodName)) ∈ lw_all := lw_g (lw_at lw_m5 189 rfl) rfl
theorem q1289 : (Jvm.Cond.methodLink "WatchStack" (356 : Nat) ({ cls := "WatchStack", name := "ends", desc := "(LWatchStack$Life;)V" } : Jvm.MethodName)) ∈ lw_all := lw_g (lw_at lw_m5 193 rfl) rfl
theorem q1290 : (Jvm.Cond.static ({ cls := "WatchStack", name := "ends", desc := "(LWatchStack$Life;)V" } : Jvm.MethodName)) ∈ lw_all := lw_g (lw_at lw_m5 194 rfl) rfl
theorem q1291 : (Jvm.Cond.code ({ cls := "WatchStack", name := "ends", desc := "(LWatchStack$Life;)V" } : Jvm.MethodName) prog_1_method_44_code (1 : Nat) (Option.none : Option Jvm.ClassFile.FieldType)) ∈ lw_all := lw_g (lw_at lw_m5 195 rfl) rfl
theorem q1293 : (Jvm.Cond.instanceMethod ({ cls := "WatchStack", name := "idle", desc := "(I)I" } : Jvm.MethodName)) ∈ lw_all := lw_g (lw_at lw_m5 197 rfl) rfl
theorem q1294 : (Jvm.Cond.selects "WatchStack" ({ cls := "WatchStack", name := "idle", desc := "(I)I" } : Jvm.MethodName) ({ cls := "WatchStack", name := "idle", desc := "(I)I" } : Jvm.MethodName)) ∈ lw_all := lw_g (lw_at lw_m5 198 rfl) rfl
theorem q1295 : (Jvm.Cond.code ({ cls := "WatchStack", name := "idle", desc := "(I)I" } : Jvm.MethodName) prog_1_method_61_code (4 : Nat) (Option.some Jvm.ClassFile.FieldType.int)) ∈ lw_all := lw_g (lw_at lw_m5 199 rfl) rfl
theorem q1296 : (Jvm.Cond.methodLink "WatchStack" (172 : Nat) ({ cls := "WatchStack", name := "isTick", desc := "(I)Z" } : Jvm.MethodName)) ∈ lw_all := lw_g (lw_at lw_m5 200 rfl) rfl
theorem q1297 : (Jvm.Cond.privateMethod ({ cls := "WatchStack", name := "isTick", desc := "(I)Z" } : Jvm.MethodName)) ∈ lw_tbl := lw_at lw_m5 201 rfl
theorem q1298 : (Jvm.Cond.instanceMethod ({ cls := "WatchStack", name := "isTick", desc := "(I)Z" } : Jvm.MethodName)) ∈ lw_all := lw_g (lw_at lw_m5 202 rfl) rfl
theorem q1299 : (Jvm.Cond.code ({ cls := "WatchStack", name := "isTick", desc := "(I)Z" } : Jvm.MethodName) prog_1_method_11_code (2 : Nat) (Option.some Jvm.ClassFile.FieldType.boolean)) ∈ lw_all := lw_g (lw_at lw_m5 203 rfl) rfl
theorem q1301 : (Jvm.Cond.instanceMethod ({ cls := "WatchStack", name := "kicks", desc := "(II)I" } : Jvm.MethodName)) ∈ lw_all := lw_g (lw_at lw_m5 205 rfl) rfl
theorem q1302 : (Jvm.Cond.selects "WatchStack" ({ cls := "WatchStack", name := "kicks", desc := "(II)I" } : Jvm.MethodName) ({ cls := "WatchStack", name := "kicks", desc := "(II)I" } : Jvm.MethodName)) ∈ lw_all := lw_g (lw_at lw_m5 206 rfl) rfl
theorem q1303 : (Jvm.Cond.code ({ cls := "WatchStack", name := "kicks", desc := "(II)I" } : Jvm.MethodName) prog_1_method_62_code (3 : Nat) (Option.some Jvm.ClassFile.FieldType.int)) ∈ lw_all := lw_g (lw_at lw_m5 207 rfl) rfl
theorem q1304 : (Jvm.Cond.methodLink "WatchStack" (452 : Nat) ({ cls := "WatchStack", name := "isThen", desc := "(II)Z" } : Jvm.MethodName)) ∈ lw_all := lw_g (lw_at lw_m5 208 rfl) rfl
theorem q1305 : (Jvm.Cond.privateMethod ({ cls := "WatchStack", name := "isThen", desc := "(II)Z" } : Jvm.MethodName)) ∈ lw_tbl := lw_at lw_m5 209 rfl
theorem q1306 : (Jvm.Cond.instanceMethod ({ cls := "WatchStack", name := "isThen", desc := "(II)Z" } : Jvm.MethodName)) ∈ lw_all := lw_g (lw_at lw_m5 210 rfl) rfl
theorem q1307 : (Jvm.Cond.code ({ cls := "WatchStack", name := "isThen", desc := "(II)Z" } : Jvm.MethodName) prog_1_method_12_code (3 : Nat) (Option.some Jvm.ClassFile.FieldType.boolean)) ∈ lw_all := lw_g (lw_at lw_m5 211 rfl) rfl
theorem q1308 : (Jvm.Cond.methodLink "WatchStack" (455 : Nat) ({ cls := "WatchStack", name := "then", desc := "(II)LWatchStack$Life;" } : Jvm.MethodName)) ∈ lw_all := lw_g (lw_at lw_m5 212 rfl) rfl
theorem q1309 : (Jvm.Cond.privateMethod ({ cls := "WatchStack", name := "then", desc := "(II)LWatchStack$Life;" } : Jvm.MethodName)) ∈ lw_tbl := lw_at lw_m5 213 rfl
theorem q1310 : (Jvm.Cond.instanceMethod ({ cls := "WatchStack", name := "then", desc := "(II)LWatchStack$Life;" } : Jvm.MethodName)) ∈ lw_all := lw_g (lw_at lw_m5 214 rfl) rfl
theorem q1311 : (Jvm.Cond.code ({ cls := "WatchStack", name := "then", desc := "(II)LWatchStack$Life;" } : Jvm.MethodName) prog_1_method_58_code (3 : Nat) (Option.some (Jvm.ClassFile.FieldType.object "WatchStack$Life"))) ∈ lw_all := lw_g (lw_at lw_m5 215 rfl) rfl
theorem q1312 : (Jvm.Cond.methodLink "WatchStack" (448 : Nat) ({ cls := "WatchStack", name := "at", desc := "(III)LWatchStack$Life;" } : Jvm.MethodName)) ∈ lw_all := lw_g (lw_at lw_m5 216 rfl) rfl
theorem q1313 : (Jvm.Cond.privateMethod ({ cls := "WatchStack", name := "at", desc := "(III)LWatchStack$Life;" } : Jvm.MethodName)) ∈ lw_tbl := lw_at lw_m5 217 rfl
theorem q1314 : (Jvm.Cond.instanceMethod ({ cls := "WatchStack", name := "at", desc := "(III)LWatchStack$Life;" } : Jvm.MethodName)) ∈ lw_all := lw_g (lw_at lw_m5 218 rfl) rfl
theorem q1315 : (Jvm.Cond.code ({ cls := "WatchStack", name := "at", desc := "(III)LWatchStack$Life;" } : Jvm.MethodName) prog_1_method_57_code (4 : Nat) (Option.some (Jvm.ClassFile.FieldType.object "WatchStack$Life"))) ∈ lw_all := lw_g (lw_at lw_m5 219 rfl) rfl
theorem q1317 : (Jvm.Cond.instanceMethod ({ cls := "WatchStack", name := "kicked", desc := "(II)I" } : Jvm.MethodName)) ∈ lw_all := lw_g (lw_at lw_m5 221 rfl) rfl
theorem q1318 : (Jvm.Cond.selects "WatchStack" ({ cls := "WatchStack", name := "kicked", desc := "(II)I" } : Jvm.MethodName) ({ cls := "WatchStack", name := "kicked", desc := "(II)I" } : Jvm.MethodName)) ∈ lw_all := lw_g (lw_at lw_m5 222 rfl) rfl
theorem q1319 : (Jvm.Cond.code ({ cls := "WatchStack", name := "kicked", desc := "(II)I" } : Jvm.MethodName) prog_1_method_63_code (3 : Nat) (Option.some Jvm.ClassFile.FieldType.int)) ∈ lw_all := lw_g (lw_at lw_m5 223 rfl) rfl
theorem q1321 : (Jvm.Cond.instanceMethod ({ cls := "WatchStack", name := "jobs", desc := "(II)I" } : Jvm.MethodName)) ∈ lw_all := lw_g (lw_at lw_m5 225 rfl) rfl
theorem q1322 : (Jvm.Cond.selects "WatchStack" ({ cls := "WatchStack", name := "jobs", desc := "(II)I" } : Jvm.MethodName) ({ cls := "WatchStack", name := "jobs", desc := "(II)I" } : Jvm.MethodName)) ∈ lw_all := lw_g (lw_at lw_m5 226 rfl) rfl
theorem q1323 : (Jvm.Cond.code ({ cls := "WatchStack", name := "jobs", desc := "(II)I" } : Jvm.MethodName) prog_1_method_64_code (3 : Nat) (Option.some Jvm.ClassFile.FieldType.int)) ∈ lw_all := lw_g (lw_at lw_m5 227 rfl) rfl
theorem q1325 : (Jvm.Cond.instanceMethod ({ cls := "WatchStack", name := "at", desc := "(II)I" } : Jvm.MethodName)) ∈ lw_all := lw_g (lw_at lw_m5 229 rfl) rfl
theorem q1326 : (Jvm.Cond.selects "WatchStack" ({ cls := "WatchStack", name := "at", desc := "(II)I" } : Jvm.MethodName) ({ cls := "WatchStack", name := "at", desc := "(II)I" } : Jvm.MethodName)) ∈ lw_all := lw_g (lw_at lw_m5 230 rfl) rfl
theorem q1327 : (Jvm.Cond.code ({ cls := "WatchStack", name := "at", desc := "(II)I" } : Jvm.MethodName) prog_1_method_65_code (4 : Nat) (Option.some Jvm.ClassFile.FieldType.int)) ∈ lw_all := lw_g (lw_at lw_m5 231 rfl) rfl
theorem q1329 : (Jvm.Cond.instanceMethod ({ cls := "WatchStack", name := "gap", desc := "(II)I" } : Jvm.MethodName)) ∈ lw_all := lw_g (lw_at lw_m5 233 rfl) rfl
theorem q1330 : (Jvm.Cond.selects "WatchStack" ({ cls := "WatchStack", name := "gap", desc := "(II)I" } : Jvm.MethodName) ({ cls := "WatchStack", name := "gap", desc := "(II)I" } : Jvm.MethodName)) ∈ lw_all := lw_g (lw_at lw_m5 234 rfl) rfl
theorem q1331 : (Jvm.Cond.code ({ cls := "WatchStack", name := "gap", desc := "(II)I" } : Jvm.MethodName) prog_1_method_67_code (3 : Nat) (Option.some Jvm.ClassFile.FieldType.int)) ∈ lw_all := lw_g (lw_at lw_m5 235 rfl) rfl
theorem q1332 : (Jvm.Cond.methodLink "WatchStack" (476 : Nat) ({ cls := "WatchStack", name := "all", desc := "(I)I" } : Jvm.MethodName)) ∈ lw_all := lw_g (lw_at lw_m5 236 rfl) rfl
theorem q1333 : (Jvm.Cond.privateMethod ({ cls := "WatchStack", name := "all", desc := "(I)I" } : Jvm.MethodName)) ∈ lw_tbl := lw_at lw_m5 237 rfl
theorem q1334 : (Jvm.Cond.instanceMethod ({ cls := "WatchStack", name := "all", desc := "(I)I" } : Jvm.MethodName)) ∈ lw_all := lw_g (lw_at lw_m5 238 rfl) rfl
theorem q1335 : (Jvm.Cond.code ({ cls := "WatchStack", name := "all", desc := "(I)I" } : Jvm.MethodName) prog_1_method_59_code (2 : Nat) (Option.some Jvm.ClassFile.FieldType.int)) ∈ lw_all := lw_g (lw_at lw_m5 239 rfl) rfl
theorem q1337 : (Jvm.Cond.instanceMethod ({ cls := "WatchStack", name := "question", desc := "(II)I" } : Jvm.MethodName)) ∈ lw_all := lw_g (lw_at lw_m6 1 rfl) rfl
theorem q1338 : (Jvm.Cond.selects "WatchStack" ({ cls := "WatchStack", name := "question", desc := "(II)I" } : Jvm.MethodName) ({ cls := "WatchStack", name := "question", desc := "(II)I" } : Jvm.MethodName)) ∈ lw_all := lw_g (lw_at lw_m6 2 rfl) rfl
theorem q1339 : (Jvm.Cond.code ({ cls := "WatchStack", name := "question", desc := "(II)I" } : Jvm.MethodName) prog_1_method_68_code (3 : Nat) (Option.some Jvm.ClassFile.FieldType.int)) ∈ lw_all := lw_g (lw_at lw_m6 3 rfl) rfl
theorem q1341 : (Jvm.Cond.instanceMethod ({ cls := "WatchStack", name := "start", desc := "(II)I" } : Jvm.MethodName)) ∈ lw_all := lw_g (lw_at lw_m6 5 rfl) rfl
theorem q1342 : (Jvm.Cond.selects "WatchStack" ({ cls := "WatchStack", name := "start", desc := "(II)I" } : Jvm.MethodName) ({ cls := "WatchStack", name := "start", desc := "(II)I" } : Jvm.MethodName)) ∈ lw_all := lw_g (lw_at lw_m6 6 rfl) rfl
theorem q1343 : (Jvm.Cond.code ({ cls := "WatchStack", name := "start", desc := "(II)I" } : Jvm.MethodName) prog_1_method_69_code (3 : Nat) (Option.some Jvm.ClassFile.FieldType.int)) ∈ lw_all := lw_g (lw_at lw_m6 7 rfl) rfl
theorem q1345 : (Jvm.Cond.instanceMethod ({ cls := "WatchStack", name := "memory", desc := "(II)I" } : Jvm.MethodName)) ∈ lw_all := lw_g (lw_at lw_m6 9 rfl) rfl
theorem q1346 : (Jvm.Cond.selects "WatchStack" ({ cls := "WatchStack", name := "memory", desc := "(II)I" } : Jvm.MethodName) ({ cls := "WatchStack", name := "memory", desc := "(II)I" } : Jvm.MethodName)) ∈ lw_all := lw_g (lw_at lw_m6 10 rfl) rfl
theorem q1347 : (Jvm.Cond.code ({ cls := "WatchStack", name := "memory", desc := "(II)I" } : Jvm.MethodName) prog_1_method_70_code (3 : Nat) (Option.some Jvm.ClassFile.FieldType.int)) ∈ lw_all := lw_g (lw_at lw_m6 11 rfl) rfl
theorem q1349 : (Jvm.Cond.instanceMethod ({ cls := "WatchStack", name := "health", desc := "(II)I" } : Jvm.MethodName)) ∈ lw_all := lw_g (lw_at lw_m6 13 rfl) rfl
theorem q1350 : (Jvm.Cond.selects "WatchStack" ({ cls := "WatchStack", name := "health", desc := "(II)I" } : Jvm.MethodName) ({ cls := "WatchStack", name := "health", desc := "(II)I" } : Jvm.MethodName)) ∈ lw_all := lw_g (lw_at lw_m6 14 rfl) rfl
theorem q1351 : (Jvm.Cond.code ({ cls := "WatchStack", name := "health", desc := "(II)I" } : Jvm.MethodName) prog_1_method_71_code (3 : Nat) (Option.some Jvm.ClassFile.FieldType.int)) ∈ lw_all := lw_g (lw_at lw_m6 15 rfl) rfl
theorem q1353 : (Jvm.Cond.instanceMethod ({ cls := "WatchStack", name := "tenths", desc := "(II)I" } : Jvm.MethodName)) ∈ lw_all := lw_g (lw_at lw_m6 17 rfl) rfl
theorem q1354 : (Jvm.Cond.selects "WatchStack" ({ cls := "WatchStack", name := "tenths", desc := "(II)I" } : Jvm.MethodName) ({ cls := "WatchStack", name := "tenths", desc := "(II)I" } : Jvm.MethodName)) ∈ lw_all := lw_g (lw_at lw_m6 18 rfl) rfl
theorem q1355 : (Jvm.Cond.code ({ cls := "WatchStack", name := "tenths", desc := "(II)I" } : Jvm.MethodName) prog_1_method_72_code (3 : Nat) (Option.some Jvm.ClassFile.FieldType.int)) ∈ lw_all := lw_g (lw_at lw_m6 19 rfl) rfl
theorem q1357 : (Jvm.Cond.instanceMethod ({ cls := "WatchStack", name := "margin", desc := "(II)I" } : Jvm.MethodName)) ∈ lw_all := lw_g (lw_at lw_m6 21 rfl) rfl
theorem q1358 : (Jvm.Cond.selects "WatchStack" ({ cls := "WatchStack", name := "margin", desc := "(II)I" } : Jvm.MethodName) ({ cls := "WatchStack", name := "margin", desc := "(II)I" } : Jvm.MethodName)) ∈ lw_all := lw_g (lw_at lw_m6 22 rfl) rfl
theorem q1359 : (Jvm.Cond.code ({ cls := "WatchStack", name := "margin", desc := "(II)I" } : Jvm.MethodName) prog_1_method_73_code (4 : Nat) (Option.some Jvm.ClassFile.FieldType.int)) ∈ lw_all := lw_g (lw_at lw_m6 23 rfl) rfl
theorem q1361 : (Jvm.Cond.instanceMethod ({ cls := "WatchStack", name := "mean", desc := "(II)J" } : Jvm.MethodName)) ∈ lw_all := lw_g (lw_at lw_m6 25 rfl) rfl
theorem q1362 : (Jvm.Cond.selects "WatchStack" ({ cls := "WatchStack", name := "mean", desc := "(II)J" } : Jvm.MethodName) ({ cls := "WatchStack", name := "mean", desc := "(II)J" } : Jvm.MethodName)) ∈ lw_all := lw_g (lw_at lw_m6 26 rfl) rfl
theorem q1363 : (Jvm.Cond.code ({ cls := "WatchStack", name := "mean", desc := "(II)J" } : Jvm.MethodName) prog_1_method_74_code (4 : Nat) (Option.some Jvm.ClassFile.FieldType.long)) ∈ lw_all := lw_g (lw_at lw_m6 27 rfl) rfl
theorem q1364 : (Jvm.Cond.constantLong "WatchStack" (488 : Nat) (-2 : Int64)) ∈ lw_all := lw_g (lw_at lw_m6 28 rfl) rfl
theorem q1365 : (Jvm.Cond.constantLong "WatchStack" (490 : Nat) (-1 : Int64)) ∈ lw_all := lw_g (lw_at lw_m6 29 rfl) rfl
theorem q1366 : (Jvm.Cond.methodLink "WatchStack" (496 : Nat) ({ cls := "java/lang/Double", name := "doubleToLongBits", desc := "(D)J" } : Jvm.MethodName)) ∈ lw_all := lw_g (lw_at lw_m6 30 rfl) rfl
theorem q1377 : (Jvm.Cond.instanceMethod ({ cls := "WatchStack", name := "faults", desc := "(I)I" } : Jvm.MethodName)) ∈ lw_all := lw_g (lw_at lw_m6 41 rfl) rfl
theorem q1378 : (Jvm.Cond.selects "WatchStack" ({ cls := "WatchStack", name := "faults", desc := "(I)I" } : Jvm.MethodName) ({ cls := "WatchStack", name := "faults", desc := "(I)I" } : Jvm.MethodName)) ∈ lw_all := lw_g (lw_at lw_m6 42 rfl) rfl
theorem q1379 : (Jvm.Cond.code ({ cls := "WatchStack", name := "faults", desc := "(I)I" } : Jvm.MethodName) prog_1_method_75_code (2 : Nat) (Option.some Jvm.ClassFile.FieldType.int)) ∈ lw_all := lw_g (lw_at lw_m6 43 rfl) rfl
theorem q1381 : (Jvm.Cond.instanceMethod ({ cls := "WatchStack", name := "record", desc := "(II)I" } : Jvm.MethodName)) ∈ lw_all := lw_g (lw_at lw_m6 45 rfl) rfl
theorem q1382 : (Jvm.Cond.selects "WatchStack" ({ cls := "WatchStack", name := "record", desc := "(II)I" } : Jvm.MethodName) ({ cls := "WatchStack", name := "record", desc := "(II)I" } : Jvm.MethodName)) ∈ lw_all := lw_g (lw_at lw_m6 46 rfl) rfl
theorem q1383 : (Jvm.Cond.code ({ cls := "WatchStack", name := "record", desc := "(II)I" } : Jvm.MethodName) prog_1_method_76_code (3 : Nat) (Option.some Jvm.ClassFile.FieldType.int)) ∈ lw_all := lw_g (lw_at lw_m6 47 rfl) rfl
theorem q1385 : (Jvm.Cond.instanceMethod ({ cls := "WatchStack", name := "ledger", desc := "(I)I" } : Jvm.MethodName)) ∈ lw_all := lw_g (lw_at lw_m6 49 rfl) rfl
theorem q1386 : (Jvm.Cond.selects "WatchStack" ({ cls := "WatchStack", name := "ledger", desc := "(I)I" } : Jvm.MethodName) ({ cls := "WatchStack", name := "ledger", desc := "(I)I" } : Jvm.MethodName)) ∈ lw_all := lw_g (lw_at lw_m6 50 rfl) rfl
theorem q1387 : (Jvm.Cond.code ({ cls := "WatchStack", name := "ledger", desc := "(I)I" } : Jvm.MethodName) prog_1_method_77_code (5 : Nat) (Option.some Jvm.ClassFile.FieldType.int)) ∈ lw_all := lw_g (lw_at lw_m6 51 rfl) rfl
theorem q1388 : (Jvm.Cond.classLink "WatchStack" (502 : Nat) "WatchStack$Ledger") ∈ lw_all := lw_g (lw_at lw_m6 52 rfl) rfl
theorem q1390 : (Jvm.Cond.methodLink "WatchStack" (504 : Nat) ({ cls := "WatchStack$Ledger", name := "<init>", desc := "(I)V" } : Jvm.MethodName)) ∈ lw_all := lw_g (lw_at lw_m6 54 rfl) rfl
theorem q1400 : (Jvm.Cond.fieldLinkNest "WatchStack" (510 : Nat) "WatchStack$Ledger" "many" "I" "WatchStack") ∈ lw_tbl := lw_at lw_m6 64 rfl
theorem q1406 : (Jvm.Cond.methodLink "WatchStack" (506 : Nat) ({ cls := "WatchStack$Ledger", name := "isOffered", desc := "(LWatchStack$Note;)V" } : Jvm.MethodName)) ∈ lw_all := lw_g (lw_at lw_m6 70 rfl) rfl
theorem q1438 : (Jvm.Cond.instanceMethod ({ cls := "WatchStack", name := "kinds", desc := "(I)I" } : Jvm.MethodName)) ∈ lw_all := lw_g (lw_at lw_m6 102 rfl) rfl
theorem q1439 : (Jvm.Cond.selects "WatchStack" ({ cls := "WatchStack", name := "kinds", desc := "(I)I" } : Jvm.MethodName) ({ cls := "WatchStack", name := "kinds", desc := "(I)I" } : Jvm.MethodName)) ∈ lw_all := lw_g (lw_at lw_m6 103 rfl) rfl
theorem q1440 : (Jvm.Cond.code ({ cls := "WatchStack", name := "kinds", desc := "(I)I" } : Jvm.MethodName) prog_1_method_78_code (5 : Nat) (Option.some Jvm.ClassFile.FieldType.int)) ∈ lw_all := lw_g (lw_at lw_m6 104 rfl) rfl
theorem q1441 : (Jvm.Cond.constantLong "WatchStack" (513 : Nat) (7 : Int64)) ∈ lw_all := lw_g (lw_at lw_m6 105 rfl) rfl
theorem q1443 : (Jvm.Cond.instanceMethod ({ cls := "WatchStack", name := "levels", desc := "(II)I" } : Jvm.MethodName)) ∈ lw_all := lw_g (lw_at lw_m6 107 rfl) rfl
theorem q1444 : (Jvm.Cond.selects "WatchStack" ({ cls := "WatchStack", name := "levels", desc := "(II)I" } : Jvm.MethodName) ({ cls := "WatchStack", name := "levels", desc := "(II)I" } : Jvm.MethodName)) ∈ lw_all := lw_g (lw_at lw_m6 108 rfl) rfl
theorem q1445 : (Jvm.Cond.code ({ cls := "WatchStack", name := "levels", desc := "(II)I" } : Jvm.MethodName) prog_1_method_79_code (5 : Nat) (Option.some Jvm.ClassFile.FieldType.int)) ∈ lw_all := lw_g (lw_at lw_m6 109 rfl) rfl
theorem q1447 : (Jvm.Cond.instanceMethod ({ cls := "WatchStack", name := "halts", desc := "()I" } : Jvm.MethodName)) ∈ lw_all := lw_g (lw_at lw_m6 111 rfl) rfl
theorem q1448 : (Jvm.Cond.selects "WatchStack" ({ cls := "WatchStack", name := "halts", desc := "()I" } : Jvm.MethodName) ({ cls := "WatchStack", name := "halts", desc := "()I" } : Jvm.MethodName)) ∈ lw_all := lw_g (lw_at lw_m6 112 rfl) rfl
theorem q1449 : (Jvm.Cond.code ({ cls := "WatchStack", name := "halts", desc := "()I" } : Jvm.MethodName) prog_1_method_80_code (1 : Nat) (Option.some Jvm.ClassFile.FieldType.int)) ∈ lw_all := lw_g (lw_at lw_m6 113 rfl) rfl
theorem q1451 : (Jvm.Cond.instanceMethod ({ cls := "WatchStack", name := "sleeps", desc := "(II)I" } : Jvm.MethodName)) ∈ lw_all := lw_g (lw_at lw_m6 115 rfl) rfl
theorem q1452 : (Jvm.Cond.selects "WatchStack" ({ cls := "WatchStack", name := "sleeps", desc := "(II)I" } : Jvm.MethodName) ({ cls := "WatchStack", name := "sleeps", desc := "(II)I" } : Jvm.MethodName)) ∈ lw_all := lw_g (lw_at lw_m6 116 rfl) rfl
theorem q1453 : (Jvm.Cond.code ({ cls := "WatchStack", name := "sleeps", desc := "(II)I" } : Jvm.MethodName) prog_1_method_81_code (3 : Nat) (Option.some Jvm.ClassFile.FieldType.int)) ∈ lw_all := lw_g (lw_at lw_m6 117 rfl) rfl
theorem q1455 : (Jvm.Cond.instanceMethod ({ cls := "WatchStack", name := "caught", desc := "(I)I" } : Jvm.MethodName)) ∈ lw_all := lw_g (lw_at lw_m6 119 rfl) rfl
theorem q1456 : (Jvm.Cond.selects "WatchStack" ({ cls := "WatchStack", name := "caught", desc := "(I)I" } : Jvm.MethodName) ({ cls := "WatchStack", name := "caught", desc := "(I)I" } : Jvm.MethodName)) ∈ lw_all := lw_g (lw_at lw_m6 120 rfl) rfl
theorem q1457 : (Jvm.Cond.code ({ cls := "WatchStack", name := "caught", desc := "(I)I" } : Jvm.MethodName) prog_1_method_83_code (2 : Nat) (Option.some Jvm.ClassFile.FieldType.int)) ∈ lw_all := lw_g (lw_at lw_m6 121 rfl) rfl
theorem q1458 : (Jvm.Cond.methodLink "WatchStack" (515 : Nat) ({ cls := "WatchStack", name := "caughtOf", desc := "(I)I" } : Jvm.MethodName)) ∈ lw_all := lw_g (lw_at lw_m6 122 rfl) rfl
theorem q1459 : (Jvm.Cond.privateMethod ({ cls := "WatchStack", name := "caughtOf", desc := "(I)I" } : Jvm.MethodName)) ∈ lw_tbl := lw_at lw_m6 123 rfl
theorem q1460 : (Jvm.Cond.instanceMethod ({ cls := "WatchStack", name := "caughtOf", desc := "(I)I" } : Jvm.MethodName)) ∈ lw_all := lw_g (lw_at lw_m6 124 rfl) rfl
theorem q1461 : (Jvm.Cond.code ({ cls := "WatchStack", name := "caughtOf", desc := "(I)I" } : Jvm.MethodName) prog_1_method_84_code (6 : Nat) (Option.some Jvm.ClassFile.FieldType.int)) ∈ lw_all := lw_g (lw_at lw_m6 125 rfl) rfl
theorem q1462 : (Jvm.Cond.methodLink "WatchStack" (518 : Nat) ({ cls := "WatchStack", name := "isRecordOf", desc := "(ILWatchStack$Injection;)Z" } : Jvm.MethodName)) ∈ lw_all := lw_g (lw_at lw_m6 126 rfl) rfl
theorem q1463 : (Jvm.Cond.privateMethod ({ cls := "WatchStack", name := "isRecordOf", desc := "(ILWatchStack$Injection;)Z" } : Jvm.MethodName)) ∈ lw_tbl := lw_at lw_m6 127 rfl
theorem q1464 : (Jvm.Cond.instanceMethod ({ cls := "WatchStack", name := "isRecordOf", desc := "(ILWatchStack$Injection;)Z" } : Jvm.MethodName)) ∈ lw_all := lw_g (lw_at lw_m6 128 rfl) rfl
theorem q1465 : (Jvm.Cond.code ({ cls := "WatchStack", name := "isRecordOf", desc := "(ILWatchStack$Injection;)Z" } : Jvm.MethodName) prog_1_method_82_code (3 : Nat) (Option.some Jvm.ClassFile.FieldType.boolean)) ∈ lw_all := lw_g (lw_at lw_m6 129 rfl) rfl
theorem q1467 : (Jvm.Cond.instanceMethod ({ cls := "WatchStack", name := "without", desc := "(I)I" } : Jvm.MethodName)) ∈ lw_all := lw_g (lw_at lw_m6 131 rfl) rfl
theorem q1468 : (Jvm.Cond.selects "WatchStack" ({ cls := "WatchStack", name := "without", desc := "(I)I" } : Jvm.MethodName) ({ cls := "WatchStack", name := "without", desc := "(I)I" } : Jvm.MethodName)) ∈ lw_all := lw_g (lw_at lw_m6 132 rfl) rfl
theorem q1469 : (Jvm.Cond.code ({ cls := "WatchStack", name := "without", desc := "(I)I" } : Jvm.MethodName) prog_1_method_85_code (2 : Nat) (Option.some Jvm.ClassFile.FieldType.int)) ∈ lw_all := lw_g (lw_at lw_m6 133 rfl) rfl
theorem q1471 : (Jvm.Cond.instanceMethod ({ cls := "WatchStack", name := "blame", desc := "()I" } : Jvm.MethodName)) ∈ lw_all := lw_g (lw_at lw_m6 135 rfl) rfl
theorem q1472 : (Jvm.Cond.selects "WatchStack" ({ cls := "WatchStack", name := "blame", desc := "()I" } : Jvm.MethodName) ({ cls := "WatchStack", name := "blame", desc := "()I" } : Jvm.MethodName)) ∈ lw_all := lw_g (lw_at lw_m6 136 rfl) rfl
theorem q1473 : (Jvm.Cond.code ({ cls := "WatchStack", name := "blame", desc := "()I" } : Jvm.MethodName) prog_1_method_86_code (5 : Nat) (Option.some Jvm.ClassFile.FieldType.int)) ∈ lw_all := lw_g (lw_at lw_m6 137 rfl) rfl
theorem q1475 : (Jvm.Cond.instanceMethod ({ cls := "WatchStack", name := "with", desc := "(III)I" } : Jvm.MethodName)) ∈ lw_all := lw_g (lw_at lw_m6 139 rfl) rfl
theorem q1476 : (Jvm.Cond.selects "WatchStack" ({ cls := "WatchStack", name := "with", desc := "(III)I" } : Jvm.MethodName) ({ cls := "WatchStack", name := "with", desc := "(III)I" } : Jvm.MethodName)) ∈ lw_all := lw_g (lw_at lw_m6 140 rfl) rfl
theorem q1477 : (Jvm.Cond.code ({ cls := "WatchStack", name := "with", desc := "(III)I" } : Jvm.MethodName) prog_1_method_88_code (4 : Nat) (Option.some Jvm.ClassFile.FieldType.int)) ∈ lw_all := lw_g (lw_at lw_m6 141 rfl) rfl
theorem q1478 : (Jvm.Cond.constantLong "WatchStack" (533 : Nat) (99 : Int64)) ∈ lw_all := lw_g (lw_at lw_m6 142 rfl) rfl
theorem q1479 : (Jvm.Cond.methodLink "WatchStack" (535 : Nat) ({ cls := "WatchStack", name := "allWith", desc := "(III)I" } : Jvm.MethodName)) ∈ lw_all := lw_g (lw_at lw_m6 143 rfl) rfl
theorem q1480 : (Jvm.Cond.privateMethod ({ cls := "WatchStack", name := "allWith", desc := "(III)I" } : Jvm.MethodName)) ∈ lw_tbl := lw_at lw_m6 144 rfl
theorem q1481 : (Jvm.Cond.instanceMethod ({ cls := "WatchStack", name := "allWith", desc := "(III)I" } : Jvm.MethodName)) ∈ lw_all := lw_g (lw_at lw_m6 145 rfl) rfl
theorem q1482 : (Jvm.Cond.codeWith ({ cls := "WatchStack", name := "allWith", desc := "(III)I" } : Jvm.MethodName) prog_1_method_87_code (8 : Nat) (Option.some Jvm.ClassFile.FieldType.int) [((24 : Nat), (45 : Nat), (72 : Nat), (0 : Nat)), ((72 : Nat), (74 : Nat), (72 : Nat), (0 : Nat))]) ∈ lw_all := lw_g (lw_at lw_m6 146 rfl) rfl
theorem q1483 : (Jvm.Cond.methodLink "WatchStack" (522 : Nat) ({ cls := "[I", name := "clone", desc := "()Ljava/lang/Object;" } : Jvm.MethodName)) ∈ lw_all := lw_g (lw_at lw_m6 147 rfl) rfl
theorem q1489 : (Jvm.Cond.classLink "WatchStack" (523 : Nat) "[I") ∈ lw_all := lw_g (lw_at lw_m6 153 rfl) rfl
theorem q1490 : (Jvm.Cond.methodLink "WatchStack" (527 : Nat) ({ cls := "java/lang/System", name := "arraycopy", desc := "(Ljava/lang/Object;ILjava/lang/Object;II)V" } : Jvm.MethodName)) ∈ lw_all := lw_g (lw_at lw_m6 154 rfl) rfl
theorem q1492 : (Jvm.Cond.instanceMethod ({ cls := "WatchStack", name := "tight", desc := "(I)I" } : Jvm.MethodName)) ∈ lw_all := lw_g (lw_at lw_m6 156 rfl) rfl
theorem q1493 : (Jvm.Cond.selects "WatchStack" ({ cls := "WatchStack", name := "tight", desc := "(I)I" } : Jvm.MethodName) ({ cls := "WatchStack", name := "tight", desc := "(I)I" } : Jvm.MethodName)) ∈ lw_all := lw_g (lw_at lw_m6 157 rfl) rfl
theorem q1494 : (Jvm.Cond.code ({ cls := "WatchStack", name := "tight", desc := "(I)I" } : Jvm.MethodName) prog_1_method_89_code (4 : Nat) (Option.some Jvm.ClassFile.FieldType.int)) ∈ lw_all := lw_g (lw_at lw_m6 158 rfl) rfl
theorem q1496 : (Jvm.Cond.instanceMethod ({ cls := "WatchStack", name := "loose", desc := "(I)I" } : Jvm.MethodName)) ∈ lw_all := lw_g (lw_at lw_m6 160 rfl) rfl
theorem q1497 : (Jvm.Cond.selects "WatchStack" ({ cls := "WatchStack", name := "loose", desc := "(I)I" } : Jvm.MethodName) ({ cls := "WatchStack", name := "loose", desc := "(I)I" } : Jvm.MethodName)) ∈ lw_all := lw_g (lw_at lw_m6 161 rfl) rfl
theorem q1498 : (Jvm.Cond.code ({ cls := "WatchStack", name := "loose", desc := "(I)I" } : Jvm.MethodName) prog_1_method_90_code (4 : Nat) (Option.some Jvm.ClassFile.FieldType.int)) ∈ lw_all := lw_g (lw_at lw_m6 162 rfl) rfl
theorem q1500 : (Jvm.Cond.instanceMethod ({ cls := "WatchStack", name := "longest", desc := "(II)I" } : Jvm.MethodName)) ∈ lw_all := lw_g (lw_at lw_m6 164 rfl) rfl
theorem q1501 : (Jvm.Cond.selects "WatchStack" ({ cls := "WatchStack", name := "longest", desc := "(II)I" } : Jvm.MethodName) ({ cls := "WatchStack", name := "longest", desc := "(II)I" } : Jvm.MethodName)) ∈ lw_all := lw_g (lw_at lw_m6 165 rfl) rfl
theorem q1502 : (Jvm.Cond.code ({ cls := "WatchStack", name := "longest", desc := "(II)I" } : Jvm.MethodName) prog_1_method_94_code (3 : Nat) (Option.some Jvm.ClassFile.FieldType.int)) ∈ lw_all := lw_g (lw_at lw_m6 166 rfl) rfl
theorem q1503 : (Jvm.Cond.methodLink "WatchStack" (562 : Nat) ({ cls := "WatchStack", name := "triesAll", desc := "(II)Z" } : Jvm.MethodName)) ∈ lw_all := lw_g (lw_at lw_m6 167 rfl) rfl
theorem q1504 : (Jvm.Cond.privateMethod ({ cls := "WatchStack", name := "triesAll", desc := "(II)Z" } : Jvm.MethodName)) ∈ lw_tbl := lw_at lw_m6 168 rfl
theorem q1505 : (Jvm.Cond.instanceMethod ({ cls := "WatchStack", name := "triesAll", desc := "(II)Z" } : Jvm.MethodName)) ∈ lw_all := lw_g (lw_at lw_m6 169 rfl) rfl
theorem q1506 : (Jvm.Cond.code ({ cls := "WatchStack", name := "triesAll", desc := "(II)Z" } : Jvm.MethodName) prog_1_method_93_code (3 : Nat) (Option.some Jvm.ClassFile.FieldType.boolean)) ∈ lw_all := lw_g (lw_at lw_m6 170 rfl) rfl
theorem q1507 : (Jvm.Cond.constantLong "WatchStack" (557 : Nat) (4 : Int64)) ∈ lw_all := lw_g (lw_at lw_m6 171 rfl) rfl
theorem q1508 : (Jvm.Cond.methodLink "WatchStack" (559 : Nat) ({ cls := "WatchStack", name := "tries", desc := "(II)V" } : Jvm.MethodName)) ∈ lw_all := lw_g (lw_at lw_m6 172 rfl) rfl
theorem q1509 : (Jvm.Cond.privateMethod ({ cls := "WatchStack", name := "tries", desc := "(II)V" } : Jvm.MethodName)) ∈ lw_tbl := lw_at lw_m6 173 rfl
theorem q1510 : (Jvm.Cond.instanceMethod ({ cls := "WatchStack", name := "tries", desc := "(II)V" } : Jvm.MethodName)) ∈ lw_all := lw_g (lw_at lw_m6 174 rfl) rfl
theorem q1511 : (Jvm.Cond.codeWith ({ cls := "WatchStack", name := "tries", desc := "(II)V" } : Jvm.MethodName) prog_1_method_91_code (8 : Nat) (Option.none : Option Jvm.ClassFile.FieldType) [((93 : Nat), (113 : Nat), (139 : Nat), (0 : Nat)), ((139 : Nat), (141 : Nat), (139 : Nat), (0 : Nat))]) ∈ lw_all := lw_g (lw_at lw_m6 175 rfl) rfl
theorem q1512 : (Jvm.Cond.methodLink "WatchStack" (538 : Nat) ({ cls := "WatchStack$Injection", name := "<init>", desc := "(IIIII)V" } : Jvm.MethodName)) ∈ lw_all := lw_g (lw_at lw_m6 176 rfl) rfl
theorem q1513 : (Jvm.Cond.methodLink "WatchStack" (541 : Nat) ({ cls := "java/util/ArrayList", name := "add", desc := "(Ljava/lang/Object;)Z" } : Jvm.MethodName)) ∈ lw_all := lw_g (lw_at lw_m6 177 rfl) rfl
theorem q1514 : (Jvm.Cond.methodLink "WatchStack" (545 : Nat) ({ cls := "WatchStack", name := "marks", desc := "(I)V" } : Jvm.MethodName)) ∈ lw_all := lw_g (lw_at lw_m6 178 rfl) rfl
theorem q1515 : (Jvm.Cond.privateMethod ({ cls := "WatchStack", name := "marks", desc := "(I)V" } : Jvm.MethodName)) ∈ lw_tbl := lw_at lw_m6 179 rfl
theorem q1516 : (Jvm.Cond.instanceMethod ({ cls := "WatchStack", name := "marks", desc := "(I)V" } : Jvm.MethodName)) ∈ lw_all := lw_g (lw_at lw_m6 180 rfl) rfl
theorem q1517 : (Jvm.Cond.code ({ cls := "WatchStack", name := "marks", desc := "(I)V" } : Jvm.MethodName) prog_1_method_92_code (2 : Nat) (Option.none : Option Jvm.ClassFile.FieldType)) ∈ lw_all := lw_g (lw_at lw_m6 181 rfl) rfl
theorem q1518 : (Jvm.Cond.methodLink "WatchStack" (548 : Nat) ({ cls := "java/util/ArrayList", name := "remove", desc := "(I)Ljava/lang/Object;" } : Jvm.MethodName)) ∈ lw_all := lw_g (lw_at lw_m6 182 rfl) rfl
theorem q1528 : (Jvm.Cond.instanceMethod ({ cls := "WatchStack", name := "silent", desc := "(II)I" } : Jvm.MethodName)) ∈ lw_all := lw_g (lw_at lw_m6 192 rfl) rfl
theorem q1529 : (Jvm.Cond.selects "WatchStack" ({ cls := "WatchStack", name := "silent", desc := "(II)I" } : Jvm.MethodName) ({ cls := "WatchStack", name := "silent", desc := "(II)I" } : Jvm.MethodName)) ∈ lw_all := lw_g (lw_at lw_m6 193 rfl) rfl
theorem q1530 : (Jvm.Cond.code ({ cls := "WatchStack", name := "silent", desc := "(II)I" } : Jvm.MethodName) prog_1_method_95_code (3 : Nat) (Option.some Jvm.ClassFile.FieldType.int)) ∈ lw_all := lw_g (lw_at lw_m6 194 rfl) rfl
theorem q1532 : (Jvm.Cond.instanceMethod ({ cls := "WatchStack", name := "inject", desc := "(IIIII)I" } : Jvm.MethodName)) ∈ lw_all := lw_g (lw_at lw_m6 196 rfl) rfl
theorem q1533 : (Jvm.Cond.selects "WatchStack" ({ cls := "WatchStack", name := "inject", desc := "(IIIII)I" } : Jvm.MethodName) ({ cls := "WatchStack", name := "inject", desc := "(IIIII)I" } : Jvm.MethodName)) ∈ lw_all := lw_g (lw_at lw_m6 197 rfl) rfl
theorem q1534 : (Jvm.Cond.code ({ cls := "WatchStack", name := "inject", desc := "(IIIII)I" } : Jvm.MethodName) prog_1_method_97_code (6 : Nat) (Option.some Jvm.ClassFile.FieldType.int)) ∈ lw_all := lw_g (lw_at lw_m6 198 rfl) rfl
theorem q1535 : (Jvm.Cond.methodLink "WatchStack" (569 : Nat) ({ cls := "WatchStack", name := "isInject", desc := "(IIIII)Z" } : Jvm.MethodName)) ∈ lw_all := lw_g (lw_at lw_m6 199 rfl) rfl
theorem q1536 : (Jvm.Cond.privateMethod ({ cls := "WatchStack", name := "isInject", desc := "(IIIII)Z" } : Jvm.MethodName)) ∈ lw_tbl := lw_at lw_m6 200 rfl
theorem q1537 : (Jvm.Cond.instanceMethod ({ cls := "WatchStack", name := "isInject", desc := "(IIIII)Z" } : Jvm.MethodName)) ∈ lw_all := lw_g (lw_at lw_m6 201 rfl) rfl
theorem q1538 : (Jvm.Cond.code ({ cls := "WatchStack", name := "isInject", desc := "(IIIII)Z" } : Jvm.MethodName) prog_1_method_96_code (6 : Nat) (Option.some Jvm.ClassFile.FieldType.boolean)) ∈ lw_all := lw_g (lw_at lw_m6 202 rfl) rfl
theorem q1539 : (Jvm.Cond.constantLong "WatchStack" (565 : Nat) (199 : Int64)) ∈ lw_all := lw_g (lw_at lw_m6 203 rfl) rfl
theorem q1540 : (Jvm.Cond.constantLong "WatchStack" (567 : Nat) (9 : Int64)) ∈ lw_all := lw_g (lw_at lw_m6 204 rfl) rfl
theorem q1542 : (Jvm.Cond.instanceMethod ({ cls := "WatchStack", name := "undo", desc := "()I" } : Jvm.MethodName)) ∈ lw_all := lw_g (lw_at lw_m6 206 rfl) rfl
theorem q1543 : (Jvm.Cond.selects "WatchStack" ({ cls := "WatchStack", name := "undo", desc := "()I" } : Jvm.MethodName) ({ cls := "WatchStack", name := "undo", desc := "()I" } : Jvm.MethodName)) ∈ lw_all := lw_g (lw_at lw_m6 207 rfl) rfl
theorem q1544 : (Jvm.Cond.code ({ cls := "WatchStack", name := "undo", desc := "()I" } : Jvm.MethodName) prog_1_method_98_code (2 : Nat) (Option.some Jvm.ClassFile.FieldType.int)) ∈ lw_all := lw_g (lw_at lw_m6 208 rfl) rfl
theorem q1546 : (Jvm.Cond.instanceMethod ({ cls := "WatchStack", name := "anew", desc := "()I" } : Jvm.MethodName)) ∈ lw_all := lw_g (lw_at lw_m6 210 rfl) rfl
theorem q1547 : (Jvm.Cond.selects "WatchStack" ({ cls := "WatchStack", name := "anew", desc := "()I" } : Jvm.MethodName) ({ cls := "WatchStack", name := "anew", desc := "()I" } : Jvm.MethodName)) ∈ lw_all := lw_g (lw_at lw_m6 211 rfl) rfl
theorem q1548 : (Jvm.Cond.code ({ cls := "WatchStack", name := "anew", desc := "()I" } : Jvm.MethodName) prog_1_method_99_code (2 : Nat) (Option.some Jvm.ClassFile.FieldType.int)) ∈ lw_all := lw_g (lw_at lw_m6 212 rfl) rfl
theorem q1550 : (Jvm.Cond.instanceMethod ({ cls := "WatchStack", name := "count", desc := "(I)I" } : Jvm.MethodName)) ∈ lw_all := lw_g (lw_at lw_m6 214 rfl) rfl
theorem q1551 : (Jvm.Cond.selects "WatchStack" ({ cls := "WatchStack", name := "count", desc := "(I)I" } : Jvm.MethodName) ({ cls := "WatchStack", name := "count", desc := "(I)I" } : Jvm.MethodName)) ∈ lw_all := lw_g (lw_at lw_m6 215 rfl) rfl
theorem q1552 : (Jvm.Cond.code ({ cls := "WatchStack", name := "count", desc := "(I)I" } : Jvm.MethodName) prog_1_method_100_code (2 : Nat) (Option.some Jvm.ClassFile.FieldType.int)) ∈ lw_all := lw_g (lw_at lw_m6 216 rfl) rfl
theorem q1554 : (Jvm.Cond.instanceMethod ({ cls := "WatchStack", name := "image", desc := "(I)I" } : Jvm.MethodName)) ∈ lw_all := lw_g (lw_at lw_m6 218 rfl) rfl
theorem q1555 : (Jvm.Cond.selects "WatchStack" ({ cls := "WatchStack", name := "image", desc := "(I)I" } : Jvm.MethodName) ({ cls := "WatchStack", name := "image", desc := "(I)I" } : Jvm.MethodName)) ∈ lw_all := lw_g (lw_at lw_m6 219 rfl) rfl
theorem q1556 : (Jvm.Cond.code ({ cls := "WatchStack", name := "image", desc := "(I)I" } : Jvm.MethodName) prog_1_method_101_code (2 : Nat) (Option.some Jvm.ClassFile.FieldType.int)) ∈ lw_all := lw_g (lw_at lw_m6 220 rfl) rfl
theorem q1557 : (Jvm.Cond.constantLong "WatchStack" (576 : Nat) (2 : Int64)) ∈ lw_all := lw_g (lw_at lw_m6 221 rfl) rfl
theorem q1558 : (Jvm.Cond.methodLink "WatchStack" (578 : Nat) ({ cls := "WatchStack$Told", name := "same", desc := "()LWatchStack$Told;" } : Jvm.MethodName)) ∈ lw_all := lw_g (lw_at lw_m6 222 rfl) rfl
theorem q1580 : (Jvm.Cond.instanceMethod ({ cls := "WatchStack", name := "back", desc := "(I)I" } : Jvm.MethodName)) ∈ lw_all := lw_g (lw_at lw_m7 4 rfl) rfl
theorem q1581 : (Jvm.Cond.selects "WatchStack" ({ cls := "WatchStack", name := "back", desc := "(I)I" } : Jvm.MethodName) ({ cls := "WatchStack", name := "back", desc := "(I)I" } : Jvm.MethodName)) ∈ lw_all := lw_g (lw_at lw_m7 5 rfl) rfl
theorem q1582 : (Jvm.Cond.code ({ cls := "WatchStack", name := "back", desc := "(I)I" } : Jvm.MethodName) prog_1_method_102_code (2 : Nat) (Option.some Jvm.ClassFile.FieldType.int)) ∈ lw_all := lw_g (lw_at lw_m7 6 rfl) rfl
theorem q2370 : (Jvm.Cond.castable "WatchStack" "java/lang/Object") ∈ lw_tbl := lw_at lw_m10 74 rfl
theorem in_X0 : ∀ w ∈ wsX00, w ∈ lw_all := lw_in wsX00 [494, 496, 498, 500, 502, 504, 506, 508, 510, 512, 514, 516, 518, 520, 522, 524, 526, 528, 530, 532, 534, 536, 538, 540, 542, 544, 546, 548, 550, 552, 554, 556, 558, 560, 562, 564] (by decide +kernel) (by decide +kernel)

/-! WatchStackModel -/
set_option maxRecDepth 100000
def RX10 : String := "WatchStackModel"
def TX10 : u_T := fun k => match k with
  | 0 => ("WatchStackModel", "thrown", "I", false)
  | 1 => ("WatchStackModel", "world", "[I", true)
  | 2 => ("WatchStackModel", "images", "[I", true)
  | 3 => ("WatchStackModel", "hasImage", "[Z", true)
  | 4 => ("WatchStackModel", "tape", "[B", true)
  | 5 => ("WatchStackModel", "taped", "I", false)
  | 6 => ("WatchStackModel", "five", "[I", true)
  | 7 => ("WatchStackModel", "size", "I", false)
  | 8 => ("WatchStackModel", "at", "I", false)
  | 9 => ("WatchStackModel", "from", "I", false)
  | 10 => ("WatchStackModel", "token", "I", false)
  | 11 => ("WatchStackModel", "value", "I", false)
  | 12 => ("WatchStackModel", "faultKind", "I", false)
  | 13 => ("WatchStackModel", "faultPlace", "I", false)
  | 14 => ("WatchStackModel", "fresh", "[I", true)
  | 15 => ("WatchStackModel", "best", "[I", true)
  | 16 => ("WatchStackModel", "longest", "[I", true)
  | 17 => ("WatchStackModel", "shortest", "[I", true)
  | 18 => ("WatchStackModel", "ahead", "[I", true)
  | 19 => ("WatchStackModel", "order", "[I", true)
  | 20 => ("WatchStackModel", "firstOrder", "[I", true)
  | 21 => ("WatchStackModel", "ordersMany", "I", false)
  | 22 => ("WatchStackModel", "answers", "[I", true)
  | 23 => ("WatchStackModel", "leftOut", "I", false)
  | 24 => ("WatchStackModel", "otherTask", "I", false)
  | 25 => ("WatchStackModel", "otherOpen", "I", false)
  | 26 => ("WatchStackModel", "otherClose", "I", false)
  | 27 => ("WatchStackModel", "extraMany", "I", false)
  | 28 => ("WatchStackModel", "start", "[I", true)
  | 29 => ("WatchStackModel", "job", "[I", true)
  | 30 => ("WatchStackModel", "jobs", "[I", true)
  | 31 => ("WatchStackModel", "nodeNow", "[I", true)
  | 32 => ("WatchStackModel", "units", "[I", true)
  | 33 => ("WatchStackModel", "question", "[I", true)
  | 34 => ("WatchStackModel", "latest", "[I", true)
  | 35 => ("WatchStackModel", "hasKicked", "[Z", true)
  | 36 => ("WatchStackModel", "goodNow", "[I", true)
  | 37 => ("WatchStackModel", "memory", "[I", true)
  | 38 => ("WatchStackModel", "health", "[F", true)
  | 39 => ("WatchStackModel", "well", "[I", true)
  | 40 => ("WatchStackModel", "hasFault", "[Z", true)
  | 41 => ("WatchStackModel", "goodAll", "[I", true)
  | 42 => ("WatchStackModel", "goodLast", "[I", true)
  | 43 => ("WatchStackModel", "margin", "[F", true)
  | 44 => ("WatchStackModel", "margins", "[D", true)
  | 45 => ("WatchStackModel", "marginMany", "[I", true)
  | 46 => ("WatchStackModel", "gaps", "[I", true)
  | 47 => ("WatchStackModel", "begun", "[I", true)
  | 48 => ("WatchStackModel", "isAwake", "[Z", true)
  | 49 => ("WatchStackModel", "hasSlept", "[Z", true)
  | 50 => ("WatchStackModel", "looked", "[Z", true)
  | 51 => ("WatchStackModel", "hadAt", "[I", true)
  | 52 => ("WatchStackModel", "recordTick", "[I", true)
  | 53 => ("WatchStackModel", "recordKind", "[I", true)
  | 54 => ("WatchStackModel", "recordWho", "[I", true)
  | 55 => ("WatchStackModel", "recordLevel", "[I", true)
  | 56 => ("WatchStackModel", "records", "I", false)
  | 57 => ("WatchStackModel", "boards", "I", false)
  | 58 => ("WatchStackModel", "isReset", "Z", false)
  | 59 => ("WatchStackModel", "haltAt", "I", false)
  | 60 => ("WatchStackModel", "greatestCaught", "I", false)
  | _ => ("WatchStackModel", "silentMany", "I", false)
def tyX10 : Nat → FieldType := fun k => match k with
  | 0 => .int
  | 1 => .array .int
  | 2 => .array .int
  | 3 => .array .boolean
  | 4 => .array .byte
  | 5 => .int
  | 6 => .array .int
  | 7 => .int
  | 8 => .int
  | 9 => .int
  | 10 => .int
  | 11 => .int
  | 12 => .int
  | 13 => .int
  | 14 => .array .int
  | 15 => .array .int
  | 16 => .array .int
  | 17 => .array .int
  | 18 => .array .int
  | 19 => .array .int
  | 20 => .array .int
  | 21 => .int
  | 22 => .array .int
  | 23 => .int
  | 24 => .int
  | 25 => .int
  | 26 => .int
  | 27 => .int
  | 28 => .array .int
  | 29 => .array .int
  | 30 => .array .int
  | 31 => .array .int
  | 32 => .array .int
  | 33 => .array .int
  | 34 => .array .int
  | 35 => .array .boolean
  | 36 => .array .int
  | 37 => .array .int
  | 38 => .array .float
  | 39 => .array .int
  | 40 => .array .boolean
  | 41 => .array .int
  | 42 => .array .int
  | 43 => .array .float
  | 44 => .array .double
  | 45 => .array .int
  | 46 => .array .int
  | 47 => .array .int
  | 48 => .array .boolean
  | 49 => .array .boolean
  | 50 => .array .boolean
  | 51 => .array .int
  | 52 => .array .int
  | 53 => .array .int
  | 54 => .array .int
  | 55 => .array .int
  | 56 => .int
  | 57 => .int
  | 58 => .boolean
  | 59 => .int
  | 60 => .int
  | _ => .int
abbrev wsX100 : List Cond := u_ws RX10 TX10 62
set_option maxRecDepth 100000 in
theorem nmX10 : ∀ a, a < 62 → ∀ b, b < 62 → a ≠ b → (TX10 a).2.1 ≠ (TX10 b).2.1 := by decide +kernel
set_option maxRecDepth 100000 in
theorem tyX10_ok : ∀ k, k < 62 → parseFieldDescriptor (TX10 k).2.2.1 = some (tyX10 k) := by decide +kernel
abbrev cX10_init : ByteArray := prog_18_method_1_code
def yX10_init : MethodName := ⟨RX10, "<init>", "()V"⟩
def dkwX10_init_14 : List UInt8 := [181, 0, 144, 177]
abbrev dktX10_init_14 : List UInt8 := dkwX10_init_14 ++ []
def dkwX10_init_13 : List UInt8 := [42, 17, 15, 160, 188, 10, 181, 0, 138, 42, 17, 15, 160, 188, 10, 181, 0, 141, 42, 17, 15, 160, 188, 10]
abbrev dktX10_init_13 : List UInt8 := dkwX10_init_13 ++ dktX10_init_14
def dkwX10_init_12 : List UInt8 := [6, 188, 4, 181, 0, 129, 42, 17, 0, 200, 188, 10, 181, 0, 132, 42, 17, 15, 160, 188, 10, 181, 0, 135]
abbrev dktX10_init_12 : List UInt8 := dkwX10_init_12 ++ dktX10_init_13
def dkwX10_init_11 : List UInt8 := [17, 0, 255, 188, 10, 181, 0, 120, 42, 16, 19, 188, 4, 181, 0, 123, 42, 6, 188, 4, 181, 0, 126, 42]
abbrev dktX10_init_11 : List UInt8 := dkwX10_init_11 ++ dktX10_init_12
def dkwX10_init_10 : List UInt8 := [188, 7, 181, 0, 110, 42, 8, 188, 10, 181, 0, 114, 42, 17, 3, 232, 188, 10, 181, 0, 117, 42]
abbrev dktX10_init_10 : List UInt8 := dkwX10_init_10 ++ dktX10_init_11
def dkwX10_init_9 : List UInt8 := [42, 8, 188, 10, 181, 0, 101, 42, 8, 188, 10, 181, 0, 104, 42, 8, 188, 6, 181, 0, 107, 42, 8]
abbrev dktX10_init_9 : List UInt8 := dkwX10_init_9 ++ dktX10_init_10
def dkwX10_init_8 : List UInt8 := [181, 0, 88, 42, 8, 188, 6, 181, 0, 91, 42, 8, 188, 10, 181, 0, 95, 42, 8, 188, 4, 181, 0, 98]
abbrev dktX10_init_8 : List UInt8 := dkwX10_init_8 ++ dktX10_init_9
def dkwX10_init_7 : List UInt8 := [188, 10, 181, 0, 79, 42, 8, 188, 4, 181, 0, 82, 42, 8, 188, 10, 181, 0, 85, 42, 8, 188, 10]
abbrev dktX10_init_7 : List UInt8 := dkwX10_init_7 ++ dktX10_init_8
def dkwX10_init_6 : List UInt8 := [42, 8, 188, 10, 181, 0, 70, 42, 8, 188, 10, 181, 0, 73, 42, 8, 188, 10, 181, 0, 76, 42, 8]
abbrev dktX10_init_6 : List UInt8 := dkwX10_init_6 ++ dktX10_init_7
def dkwX10_init_5 : List UInt8 := [181, 0, 58, 42, 8, 188, 10, 181, 0, 61, 42, 8, 188, 10, 181, 0, 64, 42, 8, 188, 10, 181, 0, 67]
abbrev dktX10_init_5 : List UInt8 := dkwX10_init_5 ++ dktX10_init_6
def dkwX10_init_4 : List UInt8 := [42, 8, 188, 10, 181, 0, 49, 42, 16, 64, 188, 10, 181, 0, 52, 42, 2, 181, 0, 55, 42, 2]
abbrev dktX10_init_4 : List UInt8 := dkwX10_init_4 ++ dktX10_init_5
def dkwX10_init_3 : List UInt8 := [181, 0, 37, 42, 8, 188, 10, 181, 0, 40, 42, 8, 188, 10, 181, 0, 43, 42, 8, 188, 10, 181, 0, 46]
abbrev dktX10_init_3 : List UInt8 := dkwX10_init_3 ++ dktX10_init_4
def dkwX10_init_2 : List UInt8 := [181, 0, 27, 42, 17, 0, 201, 188, 10, 181, 0, 31, 42, 16, 6, 188, 10, 181, 0, 34, 42, 8, 188, 10]
abbrev dktX10_init_2 : List UInt8 := dkwX10_init_2 ++ dktX10_init_3
def dkwX10_init_1 : List UInt8 := [188, 4, 181, 0, 16, 42, 17, 3, 232, 188, 8, 181, 0, 20, 42, 8, 188, 10, 181, 0, 24, 42, 2]
abbrev dktX10_init_1 : List UInt8 := dkwX10_init_1 ++ dktX10_init_2
def dkwX10_init_0 : List UInt8 := [42, 183, 0, 3, 42, 17, 0, 201, 188, 10, 181, 0, 9, 42, 17, 2, 91, 188, 10, 181, 0, 13, 42, 6]
abbrev dktX10_init_0 : List UInt8 := dkwX10_init_0 ++ dktX10_init_1
theorem dksX10_init_0 : cX10_init.data.toList.drop 0 = dktX10_init_0 := by decide +kernel
theorem dksX10_init_1 : cX10_init.data.toList.drop 24 = dktX10_init_1 := dk_seg dksX10_init_0 24 rfl rfl
theorem dksX10_init_2 : cX10_init.data.toList.drop 47 = dktX10_init_2 := dk_seg dksX10_init_1 23 rfl rfl
theorem dksX10_init_3 : cX10_init.data.toList.drop 71 = dktX10_init_3 := dk_seg dksX10_init_2 24 rfl rfl
theorem dksX10_init_4 : cX10_init.data.toList.drop 95 = dktX10_init_4 := dk_seg dksX10_init_3 24 rfl rfl
theorem dksX10_init_5 : cX10_init.data.toList.drop 117 = dktX10_init_5 := dk_seg dksX10_init_4 22 rfl rfl
theorem dksX10_init_6 : cX10_init.data.toList.drop 141 = dktX10_init_6 := dk_seg dksX10_init_5 24 rfl rfl
theorem dksX10_init_7 : cX10_init.data.toList.drop 164 = dktX10_init_7 := dk_seg dksX10_init_6 23 rfl rfl
theorem dksX10_init_8 : cX10_init.data.toList.drop 187 = dktX10_init_8 := dk_seg dksX10_init_7 23 rfl rfl
theorem dksX10_init_9 : cX10_init.data.toList.drop 211 = dktX10_init_9 := dk_seg dksX10_init_8 24 rfl rfl
theorem dksX10_init_10 : cX10_init.data.toList.drop 234 = dktX10_init_10 := dk_seg dksX10_init_9 23 rfl rfl
theorem dksX10_init_11 : cX10_init.data.toList.drop 256 = dktX10_init_11 := dk_seg dksX10_init_10 22 rfl rfl
theorem dksX10_init_12 : cX10_init.data.toList.drop 280 = dktX10_init_12 := dk_seg dksX10_init_11 24 rfl rfl
theorem dksX10_init_13 : cX10_init.data.toList.drop 304 = dktX10_init_13 := dk_seg dksX10_init_12 24 rfl rfl
theorem dksX10_init_14 : cX10_init.data.toList.drop 328 = dktX10_init_14 := dk_seg dksX10_init_13 24 rfl rfl
theorem dX10_init_0 : decode cX10_init 0 = .ok (.aload_n 0, 1) := dk_42 (dk_at dksX10_init_0 0 rfl rfl)
theorem dX10_init_1 : decode cX10_init 1 = .ok (.invokespecial 3, 3) := dk_183 0 3 (dk_at dksX10_init_0 1 rfl rfl)
theorem dX10_init_4 : decode cX10_init 4 = .ok (.aload_n 0, 1) := dk_42 (dk_at dksX10_init_0 4 rfl rfl)
theorem dX10_init_5 : decode cX10_init 5 = .ok (.sipush 201, 3) := dk_17 0 201 (dk_at dksX10_init_0 5 rfl rfl)
theorem dX10_init_8 : decode cX10_init 8 = .ok (.newarray .int, 2) := dk_188_10 (dk_at dksX10_init_0 8 rfl rfl)
theorem dX10_init_10 : decode cX10_init 10 = .ok (.putfield 9, 3) := dk_181 0 9 (dk_at dksX10_init_0 10 rfl rfl)
theorem dX10_init_13 : decode cX10_init 13 = .ok (.aload_n 0, 1) := dk_42 (dk_at dksX10_init_0 13 rfl rfl)
theorem dX10_init_14 : decode cX10_init 14 = .ok (.sipush 603, 3) := dk_17 2 91 (dk_at dksX10_init_0 14 rfl rfl)
theorem dX10_init_17 : decode cX10_init 17 = .ok (.newarray .int, 2) := dk_188_10 (dk_at dksX10_init_0 17 rfl rfl)
theorem dX10_init_19 : decode cX10_init 19 = .ok (.putfield 13, 3) := dk_181 0 13 (dk_at dksX10_init_0 19 rfl rfl)
theorem dX10_init_22 : decode cX10_init 22 = .ok (.aload_n 0, 1) := dk_42 (dk_at dksX10_init_0 22 rfl rfl)
theorem dX10_init_23 : decode cX10_init 23 = .ok (.iconst 3, 1) := dk_6 (dk_at dksX10_init_0 23 rfl rfl)
theorem dX10_init_24 : decode cX10_init 24 = .ok (.newarray .boolean, 2) := dk_188_4 (dk_at dksX10_init_1 0 rfl rfl)
theorem dX10_init_26 : decode cX10_init 26 = .ok (.putfield 16, 3) := dk_181 0 16 (dk_at dksX10_init_1 2 rfl rfl)
theorem dX10_init_29 : decode cX10_init 29 = .ok (.aload_n 0, 1) := dk_42 (dk_at dksX10_init_1 5 rfl rfl)
theorem dX10_init_30 : decode cX10_init 30 = .ok (.sipush 1000, 3) := dk_17 3 232 (dk_at dksX10_init_1 6 rfl rfl)
theorem dX10_init_33 : decode cX10_init 33 = .ok (.newarray .byte, 2) := dk_188_8 (dk_at dksX10_init_1 9 rfl rfl)
theorem dX10_init_35 : decode cX10_init 35 = .ok (.putfield 20, 3) := dk_181 0 20 (dk_at dksX10_init_1 11 rfl rfl)
theorem dX10_init_38 : decode cX10_init 38 = .ok (.aload_n 0, 1) := dk_42 (dk_at dksX10_init_1 14 rfl rfl)
theorem dX10_init_39 : decode cX10_init 39 = .ok (.iconst 5, 1) := dk_8 (dk_at dksX10_init_1 15 rfl rfl)
theorem dX10_init_40 : decode cX10_init 40 = .ok (.newarray .int, 2) := dk_188_10 (dk_at dksX10_init_1 16 rfl rfl)
theorem dX10_init_42 : decode cX10_init 42 = .ok (.putfield 24, 3) := dk_181 0 24 (dk_at dksX10_init_1 18 rfl rfl)
theorem dX10_init_45 : decode cX10_init 45 = .ok (.aload_n 0, 1) := dk_42 (dk_at dksX10_init_1 21 rfl rfl)
theorem dX10_init_46 : decode cX10_init 46 = .ok (.iconst (-1), 1) := dk_2 (dk_at dksX10_init_1 22 rfl rfl)
theorem dX10_init_47 : decode cX10_init 47 = .ok (.putfield 27, 3) := dk_181 0 27 (dk_at dksX10_init_2 0 rfl rfl)
theorem dX10_init_50 : decode cX10_init 50 = .ok (.aload_n 0, 1) := dk_42 (dk_at dksX10_init_2 3 rfl rfl)
theorem dX10_init_51 : decode cX10_init 51 = .ok (.sipush 201, 3) := dk_17 0 201 (dk_at dksX10_init_2 4 rfl rfl)
theorem dX10_init_54 : decode cX10_init 54 = .ok (.newarray .int, 2) := dk_188_10 (dk_at dksX10_init_2 7 rfl rfl)
theorem dX10_init_56 : decode cX10_init 56 = .ok (.putfield 31, 3) := dk_181 0 31 (dk_at dksX10_init_2 9 rfl rfl)
theorem dX10_init_59 : decode cX10_init 59 = .ok (.aload_n 0, 1) := dk_42 (dk_at dksX10_init_2 12 rfl rfl)
theorem dX10_init_60 : decode cX10_init 60 = .ok (.bipush 6, 2) := dk_16 6 (dk_at dksX10_init_2 13 rfl rfl)
theorem dX10_init_62 : decode cX10_init 62 = .ok (.newarray .int, 2) := dk_188_10 (dk_at dksX10_init_2 15 rfl rfl)
theorem dX10_init_64 : decode cX10_init 64 = .ok (.putfield 34, 3) := dk_181 0 34 (dk_at dksX10_init_2 17 rfl rfl)
theorem dX10_init_67 : decode cX10_init 67 = .ok (.aload_n 0, 1) := dk_42 (dk_at dksX10_init_2 20 rfl rfl)
theorem dX10_init_68 : decode cX10_init 68 = .ok (.iconst 5, 1) := dk_8 (dk_at dksX10_init_2 21 rfl rfl)
theorem dX10_init_69 : decode cX10_init 69 = .ok (.newarray .int, 2) := dk_188_10 (dk_at dksX10_init_2 22 rfl rfl)
theorem dX10_init_71 : decode cX10_init 71 = .ok (.putfield 37, 3) := dk_181 0 37 (dk_at dksX10_init_3 0 rfl rfl)
theorem dX10_init_74 : decode cX10_init 74 = .ok (.aload_n 0, 1) := dk_42 (dk_at dksX10_init_3 3 rfl rfl)
theorem dX10_init_75 : decode cX10_init 75 = .ok (.iconst 5, 1) := dk_8 (dk_at dksX10_init_3 4 rfl rfl)
theorem dX10_init_76 : decode cX10_init 76 = .ok (.newarray .int, 2) := dk_188_10 (dk_at dksX10_init_3 5 rfl rfl)
theorem dX10_init_78 : decode cX10_init 78 = .ok (.putfield 40, 3) := dk_181 0 40 (dk_at dksX10_init_3 7 rfl rfl)
theorem dX10_init_81 : decode cX10_init 81 = .ok (.aload_n 0, 1) := dk_42 (dk_at dksX10_init_3 10 rfl rfl)
theorem dX10_init_82 : decode cX10_init 82 = .ok (.iconst 5, 1) := dk_8 (dk_at dksX10_init_3 11 rfl rfl)
theorem dX10_init_83 : decode cX10_init 83 = .ok (.newarray .int, 2) := dk_188_10 (dk_at dksX10_init_3 12 rfl rfl)
theorem dX10_init_85 : decode cX10_init 85 = .ok (.putfield 43, 3) := dk_181 0 43 (dk_at dksX10_init_3 14 rfl rfl)
theorem dX10_init_88 : decode cX10_init 88 = .ok (.aload_n 0, 1) := dk_42 (dk_at dksX10_init_3 17 rfl rfl)
theorem dX10_init_89 : decode cX10_init 89 = .ok (.iconst 5, 1) := dk_8 (dk_at dksX10_init_3 18 rfl rfl)
theorem dX10_init_90 : decode cX10_init 90 = .ok (.newarray .int, 2) := dk_188_10 (dk_at dksX10_init_3 19 rfl rfl)
theorem dX10_init_92 : decode cX10_init 92 = .ok (.putfield 46, 3) := dk_181 0 46 (dk_at dksX10_init_3 21 rfl rfl)
theorem dX10_init_95 : decode cX10_init 95 = .ok (.aload_n 0, 1) := dk_42 (dk_at dksX10_init_4 0 rfl rfl)
theorem dX10_init_96 : decode cX10_init 96 = .ok (.iconst 5, 1) := dk_8 (dk_at dksX10_init_4 1 rfl rfl)
theorem dX10_init_97 : decode cX10_init 97 = .ok (.newarray .int, 2) := dk_188_10 (dk_at dksX10_init_4 2 rfl rfl)
theorem dX10_init_99 : decode cX10_init 99 = .ok (.putfield 49, 3) := dk_181 0 49 (dk_at dksX10_init_4 4 rfl rfl)
theorem dX10_init_102 : decode cX10_init 102 = .ok (.aload_n 0, 1) := dk_42 (dk_at dksX10_init_4 7 rfl rfl)
theorem dX10_init_103 : decode cX10_init 103 = .ok (.bipush 64, 2) := dk_16 64 (dk_at dksX10_init_4 8 rfl rfl)
theorem dX10_init_105 : decode cX10_init 105 = .ok (.newarray .int, 2) := dk_188_10 (dk_at dksX10_init_4 10 rfl rfl)
theorem dX10_init_107 : decode cX10_init 107 = .ok (.putfield 52, 3) := dk_181 0 52 (dk_at dksX10_init_4 12 rfl rfl)
theorem dX10_init_110 : decode cX10_init 110 = .ok (.aload_n 0, 1) := dk_42 (dk_at dksX10_init_4 15 rfl rfl)
theorem dX10_init_111 : decode cX10_init 111 = .ok (.iconst (-1), 1) := dk_2 (dk_at dksX10_init_4 16 rfl rfl)
theorem dX10_init_112 : decode cX10_init 112 = .ok (.putfield 55, 3) := dk_181 0 55 (dk_at dksX10_init_4 17 rfl rfl)
theorem dX10_init_115 : decode cX10_init 115 = .ok (.aload_n 0, 1) := dk_42 (dk_at dksX10_init_4 20 rfl rfl)
theorem dX10_init_116 : decode cX10_init 116 = .ok (.iconst (-1), 1) := dk_2 (dk_at dksX10_init_4 21 rfl rfl)
theorem dX10_init_117 : decode cX10_init 117 = .ok (.putfield 58, 3) := dk_181 0 58 (dk_at dksX10_init_5 0 rfl rfl)
theorem dX10_init_120 : decode cX10_init 120 = .ok (.aload_n 0, 1) := dk_42 (dk_at dksX10_init_5 3 rfl rfl)
theorem dX10_init_121 : decode cX10_init 121 = .ok (.iconst 5, 1) := dk_8 (dk_at dksX10_init_5 4 rfl rfl)
theorem dX10_init_122 : decode cX10_init 122 = .ok (.newarray .int, 2) := dk_188_10 (dk_at dksX10_init_5 5 rfl rfl)
theorem dX10_init_124 : decode cX10_init 124 = .ok (.putfield 61, 3) := dk_181 0 61 (dk_at dksX10_init_5 7 rfl rfl)
theorem dX10_init_127 : decode cX10_init 127 = .ok (.aload_n 0, 1) := dk_42 (dk_at dksX10_init_5 10 rfl rfl)
theorem dX10_init_128 : decode cX10_init 128 = .ok (.iconst 5, 1) := dk_8 (dk_at dksX10_init_5 11 rfl rfl)
theorem dX10_init_129 : decode cX10_init 129 = .ok (.newarray .int, 2) := dk_188_10 (dk_at dksX10_init_5 12 rfl rfl)
theorem dX10_init_131 : decode cX10_init 131 = .ok (.putfield 64, 3) := dk_181 0 64 (dk_at dksX10_init_5 14 rfl rfl)
theorem dX10_init_134 : decode cX10_init 134 = .ok (.aload_n 0, 1) := dk_42 (dk_at dksX10_init_5 17 rfl rfl)
theorem dX10_init_135 : decode cX10_init 135 = .ok (.iconst 5, 1) := dk_8 (dk_at dksX10_init_5 18 rfl rfl)
theorem dX10_init_136 : decode cX10_init 136 = .ok (.newarray .int, 2) := dk_188_10 (dk_at dksX10_init_5 19 rfl rfl)
theorem dX10_init_138 : decode cX10_init 138 = .ok (.putfield 67, 3) := dk_181 0 67 (dk_at dksX10_init_5 21 rfl rfl)
theorem dX10_init_141 : decode cX10_init 141 = .ok (.aload_n 0, 1) := dk_42 (dk_at dksX10_init_6 0 rfl rfl)
theorem dX10_init_142 : decode cX10_init 142 = .ok (.iconst 5, 1) := dk_8 (dk_at dksX10_init_6 1 rfl rfl)
theorem dX10_init_143 : decode cX10_init 143 = .ok (.newarray .int, 2) := dk_188_10 (dk_at dksX10_init_6 2 rfl rfl)
theorem dX10_init_145 : decode cX10_init 145 = .ok (.putfield 70, 3) := dk_181 0 70 (dk_at dksX10_init_6 4 rfl rfl)
theorem dX10_init_148 : decode cX10_init 148 = .ok (.aload_n 0, 1) := dk_42 (dk_at dksX10_init_6 7 rfl rfl)
theorem dX10_init_149 : decode cX10_init 149 = .ok (.iconst 5, 1) := dk_8 (dk_at dksX10_init_6 8 rfl rfl)
theorem dX10_init_150 : decode cX10_init 150 = .ok (.newarray .int, 2) := dk_188_10 (dk_at dksX10_init_6 9 rfl rfl)
theorem dX10_init_152 : decode cX10_init 152 = .ok (.putfield 73, 3) := dk_181 0 73 (dk_at dksX10_init_6 11 rfl rfl)
theorem dX10_init_155 : decode cX10_init 155 = .ok (.aload_n 0, 1) := dk_42 (dk_at dksX10_init_6 14 rfl rfl)
theorem dX10_init_156 : decode cX10_init 156 = .ok (.iconst 5, 1) := dk_8 (dk_at dksX10_init_6 15 rfl rfl)
theorem dX10_init_157 : decode cX10_init 157 = .ok (.newarray .int, 2) := dk_188_10 (dk_at dksX10_init_6 16 rfl rfl)
theorem dX10_init_159 : decode cX10_init 159 = .ok (.putfield 76, 3) := dk_181 0 76 (dk_at dksX10_init_6 18 rfl rfl)
theorem dX10_init_162 : decode cX10_init 162 = .ok (.aload_n 0, 1) := dk_42 (dk_at dksX10_init_6 21 rfl rfl)
theorem dX10_init_163 : decode cX10_init 163 = .ok (.iconst 5, 1) := dk_8 (dk_at dksX10_init_6 22 rfl rfl)
theorem dX10_init_164 : decode cX10_init 164 = .ok (.newarray .int, 2) := dk_188_10 (dk_at dksX10_init_7 0 rfl rfl)
theorem dX10_init_166 : decode cX10_init 166 = .ok (.putfield 79, 3) := dk_181 0 79 (dk_at dksX10_init_7 2 rfl rfl)
theorem dX10_init_169 : decode cX10_init 169 = .ok (.aload_n 0, 1) := dk_42 (dk_at dksX10_init_7 5 rfl rfl)
theorem dX10_init_170 : decode cX10_init 170 = .ok (.iconst 5, 1) := dk_8 (dk_at dksX10_init_7 6 rfl rfl)
theorem dX10_init_171 : decode cX10_init 171 = .ok (.newarray .boolean, 2) := dk_188_4 (dk_at dksX10_init_7 7 rfl rfl)
theorem dX10_init_173 : decode cX10_init 173 = .ok (.putfield 82, 3) := dk_181 0 82 (dk_at dksX10_init_7 9 rfl rfl)
theorem dX10_init_176 : decode cX10_init 176 = .ok (.aload_n 0, 1) := dk_42 (dk_at dksX10_init_7 12 rfl rfl)
theorem dX10_init_177 : decode cX10_init 177 = .ok (.iconst 5, 1) := dk_8 (dk_at dksX10_init_7 13 rfl rfl)
theorem dX10_init_178 : decode cX10_init 178 = .ok (.newarray .int, 2) := dk_188_10 (dk_at dksX10_init_7 14 rfl rfl)
theorem dX10_init_180 : decode cX10_init 180 = .ok (.putfield 85, 3) := dk_181 0 85 (dk_at dksX10_init_7 16 rfl rfl)
theorem dX10_init_183 : decode cX10_init 183 = .ok (.aload_n 0, 1) := dk_42 (dk_at dksX10_init_7 19 rfl rfl)
theorem dX10_init_184 : decode cX10_init 184 = .ok (.iconst 5, 1) := dk_8 (dk_at dksX10_init_7 20 rfl rfl)
theorem dX10_init_185 : decode cX10_init 185 = .ok (.newarray .int, 2) := dk_188_10 (dk_at dksX10_init_7 21 rfl rfl)
theorem dX10_init_187 : decode cX10_init 187 = .ok (.putfield 88, 3) := dk_181 0 88 (dk_at dksX10_init_8 0 rfl rfl)
theorem dX10_init_190 : decode cX10_init 190 = .ok (.aload_n 0, 1) := dk_42 (dk_at dksX10_init_8 3 rfl rfl)
theorem dX10_init_191 : decode cX10_init 191 = .ok (.iconst 5, 1) := dk_8 (dk_at dksX10_init_8 4 rfl rfl)
theorem dX10_init_192 : decode cX10_init 192 = .ok (.newarray .float, 2) := dk_188_6 (dk_at dksX10_init_8 5 rfl rfl)
theorem dX10_init_194 : decode cX10_init 194 = .ok (.putfield 91, 3) := dk_181 0 91 (dk_at dksX10_init_8 7 rfl rfl)
theorem dX10_init_197 : decode cX10_init 197 = .ok (.aload_n 0, 1) := dk_42 (dk_at dksX10_init_8 10 rfl rfl)
theorem dX10_init_198 : decode cX10_init 198 = .ok (.iconst 5, 1) := dk_8 (dk_at dksX10_init_8 11 rfl rfl)
theorem dX10_init_199 : decode cX10_init 199 = .ok (.newarray .int, 2) := dk_188_10 (dk_at dksX10_init_8 12 rfl rfl)
theorem dX10_init_201 : decode cX10_init 201 = .ok (.putfield 95, 3) := dk_181 0 95 (dk_at dksX10_init_8 14 rfl rfl)
theorem dX10_init_204 : decode cX10_init 204 = .ok (.aload_n 0, 1) := dk_42 (dk_at dksX10_init_8 17 rfl rfl)
theorem dX10_init_205 : decode cX10_init 205 = .ok (.iconst 5, 1) := dk_8 (dk_at dksX10_init_8 18 rfl rfl)
theorem dX10_init_206 : decode cX10_init 206 = .ok (.newarray .boolean, 2) := dk_188_4 (dk_at dksX10_init_8 19 rfl rfl)
theorem dX10_init_208 : decode cX10_init 208 = .ok (.putfield 98, 3) := dk_181 0 98 (dk_at dksX10_init_8 21 rfl rfl)
theorem dX10_init_211 : decode cX10_init 211 = .ok (.aload_n 0, 1) := dk_42 (dk_at dksX10_init_9 0 rfl rfl)
theorem dX10_init_212 : decode cX10_init 212 = .ok (.iconst 5, 1) := dk_8 (dk_at dksX10_init_9 1 rfl rfl)
theorem dX10_init_213 : decode cX10_init 213 = .ok (.newarray .int, 2) := dk_188_10 (dk_at dksX10_init_9 2 rfl rfl)
theorem dX10_init_215 : decode cX10_init 215 = .ok (.putfield 101, 3) := dk_181 0 101 (dk_at dksX10_init_9 4 rfl rfl)
theorem dX10_init_218 : decode cX10_init 218 = .ok (.aload_n 0, 1) := dk_42 (dk_at dksX10_init_9 7 rfl rfl)
theorem dX10_init_219 : decode cX10_init 219 = .ok (.iconst 5, 1) := dk_8 (dk_at dksX10_init_9 8 rfl rfl)
theorem dX10_init_220 : decode cX10_init 220 = .ok (.newarray .int, 2) := dk_188_10 (dk_at dksX10_init_9 9 rfl rfl)
theorem dX10_init_222 : decode cX10_init 222 = .ok (.putfield 104, 3) := dk_181 0 104 (dk_at dksX10_init_9 11 rfl rfl)
theorem dX10_init_225 : decode cX10_init 225 = .ok (.aload_n 0, 1) := dk_42 (dk_at dksX10_init_9 14 rfl rfl)
theorem dX10_init_226 : decode cX10_init 226 = .ok (.iconst 5, 1) := dk_8 (dk_at dksX10_init_9 15 rfl rfl)
theorem dX10_init_227 : decode cX10_init 227 = .ok (.newarray .float, 2) := dk_188_6 (dk_at dksX10_init_9 16 rfl rfl)
theorem dX10_init_229 : decode cX10_init 229 = .ok (.putfield 107, 3) := dk_181 0 107 (dk_at dksX10_init_9 18 rfl rfl)
theorem dX10_init_232 : decode cX10_init 232 = .ok (.aload_n 0, 1) := dk_42 (dk_at dksX10_init_9 21 rfl rfl)
theorem dX10_init_233 : decode cX10_init 233 = .ok (.iconst 5, 1) := dk_8 (dk_at dksX10_init_9 22 rfl rfl)
theorem dX10_init_234 : decode cX10_init 234 = .ok (.newarray .double, 2) := dk_188_7 (dk_at dksX10_init_10 0 rfl rfl)
theorem dX10_init_236 : decode cX10_init 236 = .ok (.putfield 110, 3) := dk_181 0 110 (dk_at dksX10_init_10 2 rfl rfl)
theorem dX10_init_239 : decode cX10_init 239 = .ok (.aload_n 0, 1) := dk_42 (dk_at dksX10_init_10 5 rfl rfl)
theorem dX10_init_240 : decode cX10_init 240 = .ok (.iconst 5, 1) := dk_8 (dk_at dksX10_init_10 6 rfl rfl)
theorem dX10_init_241 : decode cX10_init 241 = .ok (.newarray .int, 2) := dk_188_10 (dk_at dksX10_init_10 7 rfl rfl)
theorem dX10_init_243 : decode cX10_init 243 = .ok (.putfield 114, 3) := dk_181 0 114 (dk_at dksX10_init_10 9 rfl rfl)
theorem dX10_init_246 : decode cX10_init 246 = .ok (.aload_n 0, 1) := dk_42 (dk_at dksX10_init_10 12 rfl rfl)
theorem dX10_init_247 : decode cX10_init 247 = .ok (.sipush 1000, 3) := dk_17 3 232 (dk_at dksX10_init_10 13 rfl rfl)
theorem dX10_init_250 : decode cX10_init 250 = .ok (.newarray .int, 2) := dk_188_10 (dk_at dksX10_init_10 16 rfl rfl)
theorem dX10_init_252 : decode cX10_init 252 = .ok (.putfield 117, 3) := dk_181 0 117 (dk_at dksX10_init_10 18 rfl rfl)
theorem dX10_init_255 : decode cX10_init 255 = .ok (.aload_n 0, 1) := dk_42 (dk_at dksX10_init_10 21 rfl rfl)
theorem dX10_init_256 : decode cX10_init 256 = .ok (.sipush 255, 3) := dk_17 0 255 (dk_at dksX10_init_11 0 rfl rfl)
theorem dX10_init_259 : decode cX10_init 259 = .ok (.newarray .int, 2) := dk_188_10 (dk_at dksX10_init_11 3 rfl rfl)
theorem dX10_init_261 : decode cX10_init 261 = .ok (.putfield 120, 3) := dk_181 0 120 (dk_at dksX10_init_11 5 rfl rfl)
theorem dX10_init_264 : decode cX10_init 264 = .ok (.aload_n 0, 1) := dk_42 (dk_at dksX10_init_11 8 rfl rfl)
theorem dX10_init_265 : decode cX10_init 265 = .ok (.bipush 19, 2) := dk_16 19 (dk_at dksX10_init_11 9 rfl rfl)
theorem dX10_init_267 : decode cX10_init 267 = .ok (.newarray .boolean, 2) := dk_188_4 (dk_at dksX10_init_11 11 rfl rfl)
theorem dX10_init_269 : decode cX10_init 269 = .ok (.putfield 123, 3) := dk_181 0 123 (dk_at dksX10_init_11 13 rfl rfl)
theorem dX10_init_272 : decode cX10_init 272 = .ok (.aload_n 0, 1) := dk_42 (dk_at dksX10_init_11 16 rfl rfl)
theorem dX10_init_273 : decode cX10_init 273 = .ok (.iconst 3, 1) := dk_6 (dk_at dksX10_init_11 17 rfl rfl)
theorem dX10_init_274 : decode cX10_init 274 = .ok (.newarray .boolean, 2) := dk_188_4 (dk_at dksX10_init_11 18 rfl rfl)
theorem dX10_init_276 : decode cX10_init 276 = .ok (.putfield 126, 3) := dk_181 0 126 (dk_at dksX10_init_11 20 rfl rfl)
theorem dX10_init_279 : decode cX10_init 279 = .ok (.aload_n 0, 1) := dk_42 (dk_at dksX10_init_11 23 rfl rfl)
theorem dX10_init_280 : decode cX10_init 280 = .ok (.iconst 3, 1) := dk_6 (dk_at dksX10_init_12 0 rfl rfl)
theorem dX10_init_281 : decode cX10_init 281 = .ok (.newarray .boolean, 2) := dk_188_4 (dk_at dksX10_init_12 1 rfl rfl)
theorem dX10_init_283 : decode cX10_init 283 = .ok (.putfield 129, 3) := dk_181 0 129 (dk_at dksX10_init_12 3 rfl rfl)
theorem dX10_init_286 : decode cX10_init 286 = .ok (.aload_n 0, 1) := dk_42 (dk_at dksX10_init_12 6 rfl rfl)
theorem dX10_init_287 : decode cX10_init 287 = .ok (.sipush 200, 3) := dk_17 0 200 (dk_at dksX10_init_12 7 rfl rfl)
theorem dX10_init_290 : decode cX10_init 290 = .ok (.newarray .int, 2) := dk_188_10 (dk_at dksX10_init_12 10 rfl rfl)
theorem dX10_init_292 : decode cX10_init 292 = .ok (.putfield 132, 3) := dk_181 0 132 (dk_at dksX10_init_12 12 rfl rfl)
theorem dX10_init_295 : decode cX10_init 295 = .ok (.aload_n 0, 1) := dk_42 (dk_at dksX10_init_12 15 rfl rfl)
theorem dX10_init_296 : decode cX10_init 296 = .ok (.sipush 4000, 3) := dk_17 15 160 (dk_at dksX10_init_12 16 rfl rfl)
theorem dX10_init_299 : decode cX10_init 299 = .ok (.newarray .int, 2) := dk_188_10 (dk_at dksX10_init_12 19 rfl rfl)
theorem dX10_init_301 : decode cX10_init 301 = .ok (.putfield 135, 3) := dk_181 0 135 (dk_at dksX10_init_12 21 rfl rfl)
theorem dX10_init_304 : decode cX10_init 304 = .ok (.aload_n 0, 1) := dk_42 (dk_at dksX10_init_13 0 rfl rfl)
theorem dX10_init_305 : decode cX10_init 305 = .ok (.sipush 4000, 3) := dk_17 15 160 (dk_at dksX10_init_13 1 rfl rfl)
theorem dX10_init_308 : decode cX10_init 308 = .ok (.newarray .int, 2) := dk_188_10 (dk_at dksX10_init_13 4 rfl rfl)
theorem dX10_init_310 : decode cX10_init 310 = .ok (.putfield 138, 3) := dk_181 0 138 (dk_at dksX10_init_13 6 rfl rfl)
theorem dX10_init_313 : decode cX10_init 313 = .ok (.aload_n 0, 1) := dk_42 (dk_at dksX10_init_13 9 rfl rfl)
theorem dX10_init_314 : decode cX10_init 314 = .ok (.sipush 4000, 3) := dk_17 15 160 (dk_at dksX10_init_13 10 rfl rfl)
theorem dX10_init_317 : decode cX10_init 317 = .ok (.newarray .int, 2) := dk_188_10 (dk_at dksX10_init_13 13 rfl rfl)
theorem dX10_init_319 : decode cX10_init 319 = .ok (.putfield 141, 3) := dk_181 0 141 (dk_at dksX10_init_13 15 rfl rfl)
theorem dX10_init_322 : decode cX10_init 322 = .ok (.aload_n 0, 1) := dk_42 (dk_at dksX10_init_13 18 rfl rfl)
theorem dX10_init_323 : decode cX10_init 323 = .ok (.sipush 4000, 3) := dk_17 15 160 (dk_at dksX10_init_13 19 rfl rfl)
theorem dX10_init_326 : decode cX10_init 326 = .ok (.newarray .int, 2) := dk_188_10 (dk_at dksX10_init_13 22 rfl rfl)
theorem dX10_init_328 : decode cX10_init 328 = .ok (.putfield 144, 3) := dk_181 0 144 (dk_at dksX10_init_14 0 rfl rfl)
theorem dX10_init_331 : decode cX10_init 331 = .ok (.return_, 1) := dk_177 (dk_at dksX10_init_14 3 rfl rfl)
abbrev cX10_image : ByteArray := prog_18_method_4_code
def yX10_image : MethodName := ⟨RX10, "image", "(I)I"⟩
def dkwX10_image_2 : List UInt8 := [42, 180, 0, 16, 27, 4, 84, 3, 172]
abbrev dktX10_image_2 : List UInt8 := dkwX10_image_2 ++ []
def dkwX10_image_1 : List UInt8 := [42, 180, 0, 13, 17, 0, 201, 27, 104, 28, 96, 42, 180, 0, 9, 28, 46, 79, 132, 2, 1, 167, 255, 228]
abbrev dktX10_image_1 : List UInt8 := dkwX10_image_1 ++ dktX10_image_2
def dkwX10_image_0 : List UInt8 := [27, 133, 9, 20, 0, 150, 184, 0, 152, 154, 0, 6, 16, 254, 172, 3, 61, 28, 17, 0, 201, 162, 0, 27]
abbrev dktX10_image_0 : List UInt8 := dkwX10_image_0 ++ dktX10_image_1
theorem dksX10_image_0 : cX10_image.data.toList.drop 0 = dktX10_image_0 := by decide +kernel
theorem dksX10_image_1 : cX10_image.data.toList.drop 24 = dktX10_image_1 := dk_seg dksX10_image_0 24 rfl rfl
theorem dksX10_image_2 : cX10_image.data.toList.drop 48 = dktX10_image_2 := dk_seg dksX10_image_1 24 rfl rfl
theorem dX10_image_0 : decode cX10_image 0 = .ok (.iload_n 1, 1) := dk_27 (dk_at dksX10_image_0 0 rfl rfl)
theorem dX10_image_1 : decode cX10_image 1 = .ok (.i2l, 1) := dk_133 (dk_at dksX10_image_0 1 rfl rfl)
theorem dX10_image_2 : decode cX10_image 2 = .ok (.lconst 0, 1) := dk_9 (dk_at dksX10_image_0 2 rfl rfl)
theorem dX10_image_3 : decode cX10_image 3 = .ok (.ldc2_w 150, 3) := dk_20 0 150 (dk_at dksX10_image_0 3 rfl rfl)
theorem dX10_image_6 : decode cX10_image 6 = .ok (.invokestatic 152, 3) := dk_184 0 152 (dk_at dksX10_image_0 6 rfl rfl)
theorem dX10_image_9 : decode cX10_image 9 = .ok (.ifCond .ne 6, 3) := dk_154 0 6 (dk_at dksX10_image_0 9 rfl rfl)
theorem dX10_image_12 : decode cX10_image 12 = .ok (.bipush (-2), 2) := dk_16 254 (dk_at dksX10_image_0 12 rfl rfl)
theorem dX10_image_14 : decode cX10_image 14 = .ok (.ireturn, 1) := dk_172 (dk_at dksX10_image_0 14 rfl rfl)
theorem dX10_image_15 : decode cX10_image 15 = .ok (.iconst 0, 1) := dk_3 (dk_at dksX10_image_0 15 rfl rfl)
theorem dX10_image_16 : decode cX10_image 16 = .ok (.istore_n 2, 1) := dk_61 (dk_at dksX10_image_0 16 rfl rfl)
theorem dX10_image_17 : decode cX10_image 17 = .ok (.iload_n 2, 1) := dk_28 (dk_at dksX10_image_0 17 rfl rfl)
theorem dX10_image_18 : decode cX10_image 18 = .ok (.sipush 201, 3) := dk_17 0 201 (dk_at dksX10_image_0 18 rfl rfl)
theorem dX10_image_21 : decode cX10_image 21 = .ok (.if_icmp .ge 27, 3) := dk_162 0 27 (dk_at dksX10_image_0 21 rfl rfl)
theorem dX10_image_24 : decode cX10_image 24 = .ok (.aload_n 0, 1) := dk_42 (dk_at dksX10_image_1 0 rfl rfl)
theorem dX10_image_25 : decode cX10_image 25 = .ok (.getfield 13, 3) := dk_180 0 13 (dk_at dksX10_image_1 1 rfl rfl)
theorem dX10_image_28 : decode cX10_image 28 = .ok (.sipush 201, 3) := dk_17 0 201 (dk_at dksX10_image_1 4 rfl rfl)
theorem dX10_image_31 : decode cX10_image 31 = .ok (.iload_n 1, 1) := dk_27 (dk_at dksX10_image_1 7 rfl rfl)
theorem dX10_image_32 : decode cX10_image 32 = .ok (.imul, 1) := dk_104 (dk_at dksX10_image_1 8 rfl rfl)
theorem dX10_image_33 : decode cX10_image 33 = .ok (.iload_n 2, 1) := dk_28 (dk_at dksX10_image_1 9 rfl rfl)
theorem dX10_image_34 : decode cX10_image 34 = .ok (.iadd, 1) := dk_96 (dk_at dksX10_image_1 10 rfl rfl)
theorem dX10_image_35 : decode cX10_image 35 = .ok (.aload_n 0, 1) := dk_42 (dk_at dksX10_image_1 11 rfl rfl)
theorem dX10_image_36 : decode cX10_image 36 = .ok (.getfield 9, 3) := dk_180 0 9 (dk_at dksX10_image_1 12 rfl rfl)
theorem dX10_image_39 : decode cX10_image 39 = .ok (.iload_n 2, 1) := dk_28 (dk_at dksX10_image_1 15 rfl rfl)
theorem dX10_image_40 : decode cX10_image 40 = .ok (.iaload, 1) := dk_46 (dk_at dksX10_image_1 16 rfl rfl)
theorem dX10_image_41 : decode cX10_image 41 = .ok (.iastore, 1) := dk_79 (dk_at dksX10_image_1 17 rfl rfl)
theorem dX10_image_42 : decode cX10_image 42 = .ok (.iinc 2 1, 3) := dk_132 2 1 (dk_at dksX10_image_1 18 rfl rfl)
theorem dX10_image_45 : decode cX10_image 45 = .ok (.goto (-28), 3) := dk_167 255 228 (dk_at dksX10_image_1 21 rfl rfl)
theorem dX10_image_48 : decode cX10_image 48 = .ok (.aload_n 0, 1) := dk_42 (dk_at dksX10_image_2 0 rfl rfl)
theorem dX10_image_49 : decode cX10_image 49 = .ok (.getfield 16, 3) := dk_180 0 16 (dk_at dksX10_image_2 1 rfl rfl)
theorem dX10_image_52 : decode cX10_image 52 = .ok (.iload_n 1, 1) := dk_27 (dk_at dksX10_image_2 4 rfl rfl)
theorem dX10_image_53 : decode cX10_image 53 = .ok (.iconst 1, 1) := dk_4 (dk_at dksX10_image_2 5 rfl rfl)
theorem dX10_image_54 : decode cX10_image 54 = .ok (.bastore, 1) := dk_84 (dk_at dksX10_image_2 6 rfl rfl)
theorem dX10_image_55 : decode cX10_image 55 = .ok (.iconst 0, 1) := dk_3 (dk_at dksX10_image_2 7 rfl rfl)
theorem dX10_image_56 : decode cX10_image 56 = .ok (.ireturn, 1) := dk_172 (dk_at dksX10_image_2 8 rfl rfl)
abbrev cX10_in : ByteArray := prog_18_method_3_code
def yX10_in : MethodName := ⟨RX10, "in", "(JJJ)Z"⟩
def dkwX10_in_0 : List UInt8 := [30, 32, 148, 155, 0, 14, 30, 22, 4, 148, 157, 0, 7, 4, 167, 0, 4, 3, 172]
abbrev dktX10_in_0 : List UInt8 := dkwX10_in_0 ++ []
theorem dksX10_in_0 : cX10_in.data.toList.drop 0 = dktX10_in_0 := by decide +kernel
theorem dX10_in_0 : decode cX10_in 0 = .ok (.lload_n 0, 1) := dk_30 (dk_at dksX10_in_0 0 rfl rfl)
theorem dX10_in_1 : decode cX10_in 1 = .ok (.lload_n 2, 1) := dk_32 (dk_at dksX10_in_0 1 rfl rfl)
theorem dX10_in_2 : decode cX10_in 2 = .ok (.lcmp, 1) := dk_148 (dk_at dksX10_in_0 2 rfl rfl)
theorem dX10_in_3 : decode cX10_in 3 = .ok (.ifCond .lt 14, 3) := dk_155 0 14 (dk_at dksX10_in_0 3 rfl rfl)
theorem dX10_in_6 : decode cX10_in 6 = .ok (.lload_n 0, 1) := dk_30 (dk_at dksX10_in_0 6 rfl rfl)
theorem dX10_in_7 : decode cX10_in 7 = .ok (.lload 4, 2) := dk_22 4 (dk_at dksX10_in_0 7 rfl rfl)
theorem dX10_in_9 : decode cX10_in 9 = .ok (.lcmp, 1) := dk_148 (dk_at dksX10_in_0 9 rfl rfl)
theorem dX10_in_10 : decode cX10_in 10 = .ok (.ifCond .gt 7, 3) := dk_157 0 7 (dk_at dksX10_in_0 10 rfl rfl)
theorem dX10_in_13 : decode cX10_in 13 = .ok (.iconst 1, 1) := dk_4 (dk_at dksX10_in_0 13 rfl rfl)
theorem dX10_in_14 : decode cX10_in 14 = .ok (.goto 4, 3) := dk_167 0 4 (dk_at dksX10_in_0 14 rfl rfl)
theorem dX10_in_17 : decode cX10_in 17 = .ok (.iconst 0, 1) := dk_3 (dk_at dksX10_in_0 17 rfl rfl)
theorem dX10_in_18 : decode cX10_in 18 = .ok (.ireturn, 1) := dk_172 (dk_at dksX10_in_0 18 rfl rfl)
abbrev cX10_back : ByteArray := prog_18_method_5_code
def yX10_back : MethodName := ⟨RX10, "back", "(I)I"⟩
def dkwX10_back_2 : List UInt8 := [27, 104, 28, 96, 46, 79, 132, 2, 1, 167, 255, 228, 3, 172]
abbrev dktX10_back_2 : List UInt8 := dkwX10_back_2 ++ []
def dkwX10_back_1 : List UInt8 := [16, 250, 172, 3, 61, 28, 17, 0, 201, 162, 0, 27, 42, 180, 0, 9, 28, 42, 180, 0, 13, 17, 0, 201]
abbrev dktX10_back_1 : List UInt8 := dkwX10_back_1 ++ dktX10_back_2
def dkwX10_back_0 : List UInt8 := [27, 133, 9, 20, 0, 150, 184, 0, 152, 154, 0, 6, 16, 254, 172, 42, 180, 0, 16, 27, 51, 154, 0, 6]
abbrev dktX10_back_0 : List UInt8 := dkwX10_back_0 ++ dktX10_back_1
theorem dksX10_back_0 : cX10_back.data.toList.drop 0 = dktX10_back_0 := by decide +kernel
theorem dksX10_back_1 : cX10_back.data.toList.drop 24 = dktX10_back_1 := dk_seg dksX10_back_0 24 rfl rfl
theorem dksX10_back_2 : cX10_back.data.toList.drop 48 = dktX10_back_2 := dk_seg dksX10_back_1 24 rfl rfl
theorem dX10_back_0 : decode cX10_back 0 = .ok (.iload_n 1, 1) := dk_27 (dk_at dksX10_back_0 0 rfl rfl)
theorem dX10_back_1 : decode cX10_back 1 = .ok (.i2l, 1) := dk_133 (dk_at dksX10_back_0 1 rfl rfl)
theorem dX10_back_2 : decode cX10_back 2 = .ok (.lconst 0, 1) := dk_9 (dk_at dksX10_back_0 2 rfl rfl)
theorem dX10_back_3 : decode cX10_back 3 = .ok (.ldc2_w 150, 3) := dk_20 0 150 (dk_at dksX10_back_0 3 rfl rfl)
theorem dX10_back_6 : decode cX10_back 6 = .ok (.invokestatic 152, 3) := dk_184 0 152 (dk_at dksX10_back_0 6 rfl rfl)
theorem dX10_back_9 : decode cX10_back 9 = .ok (.ifCond .ne 6, 3) := dk_154 0 6 (dk_at dksX10_back_0 9 rfl rfl)
theorem dX10_back_12 : decode cX10_back 12 = .ok (.bipush (-2), 2) := dk_16 254 (dk_at dksX10_back_0 12 rfl rfl)
theorem dX10_back_14 : decode cX10_back 14 = .ok (.ireturn, 1) := dk_172 (dk_at dksX10_back_0 14 rfl rfl)
theorem dX10_back_15 : decode cX10_back 15 = .ok (.aload_n 0, 1) := dk_42 (dk_at dksX10_back_0 15 rfl rfl)
theorem dX10_back_16 : decode cX10_back 16 = .ok (.getfield 16, 3) := dk_180 0 16 (dk_at dksX10_back_0 16 rfl rfl)
theorem dX10_back_19 : decode cX10_back 19 = .ok (.iload_n 1, 1) := dk_27 (dk_at dksX10_back_0 19 rfl rfl)
theorem dX10_back_20 : decode cX10_back 20 = .ok (.baload, 1) := dk_51 (dk_at dksX10_back_0 20 rfl rfl)
theorem dX10_back_21 : decode cX10_back 21 = .ok (.ifCond .ne 6, 3) := dk_154 0 6 (dk_at dksX10_back_0 21 rfl rfl)
theorem dX10_back_24 : decode cX10_back 24 = .ok (.bipush (-6), 2) := dk_16 250 (dk_at dksX10_back_1 0 rfl rfl)
theorem dX10_back_26 : decode cX10_back 26 = .ok (.ireturn, 1) := dk_172 (dk_at dksX10_back_1 2 rfl rfl)
theorem dX10_back_27 : decode cX10_back 27 = .ok (.iconst 0, 1) := dk_3 (dk_at dksX10_back_1 3 rfl rfl)
theorem dX10_back_28 : decode cX10_back 28 = .ok (.istore_n 2, 1) := dk_61 (dk_at dksX10_back_1 4 rfl rfl)
theorem dX10_back_29 : decode cX10_back 29 = .ok (.iload_n 2, 1) := dk_28 (dk_at dksX10_back_1 5 rfl rfl)
theorem dX10_back_30 : decode cX10_back 30 = .ok (.sipush 201, 3) := dk_17 0 201 (dk_at dksX10_back_1 6 rfl rfl)
theorem dX10_back_33 : decode cX10_back 33 = .ok (.if_icmp .ge 27, 3) := dk_162 0 27 (dk_at dksX10_back_1 9 rfl rfl)
theorem dX10_back_36 : decode cX10_back 36 = .ok (.aload_n 0, 1) := dk_42 (dk_at dksX10_back_1 12 rfl rfl)
theorem dX10_back_37 : decode cX10_back 37 = .ok (.getfield 9, 3) := dk_180 0 9 (dk_at dksX10_back_1 13 rfl rfl)
theorem dX10_back_40 : decode cX10_back 40 = .ok (.iload_n 2, 1) := dk_28 (dk_at dksX10_back_1 16 rfl rfl)
theorem dX10_back_41 : decode cX10_back 41 = .ok (.aload_n 0, 1) := dk_42 (dk_at dksX10_back_1 17 rfl rfl)
theorem dX10_back_42 : decode cX10_back 42 = .ok (.getfield 13, 3) := dk_180 0 13 (dk_at dksX10_back_1 18 rfl rfl)
theorem dX10_back_45 : decode cX10_back 45 = .ok (.sipush 201, 3) := dk_17 0 201 (dk_at dksX10_back_1 21 rfl rfl)
theorem dX10_back_48 : decode cX10_back 48 = .ok (.iload_n 1, 1) := dk_27 (dk_at dksX10_back_2 0 rfl rfl)
theorem dX10_back_49 : decode cX10_back 49 = .ok (.imul, 1) := dk_104 (dk_at dksX10_back_2 1 rfl rfl)
theorem dX10_back_50 : decode cX10_back 50 = .ok (.iload_n 2, 1) := dk_28 (dk_at dksX10_back_2 2 rfl rfl)
theorem dX10_back_51 : decode cX10_back 51 = .ok (.iadd, 1) := dk_96 (dk_at dksX10_back_2 3 rfl rfl)
theorem dX10_back_52 : decode cX10_back 52 = .ok (.iaload, 1) := dk_46 (dk_at dksX10_back_2 4 rfl rfl)
theorem dX10_back_53 : decode cX10_back 53 = .ok (.iastore, 1) := dk_79 (dk_at dksX10_back_2 5 rfl rfl)
theorem dX10_back_54 : decode cX10_back 54 = .ok (.iinc 2 1, 3) := dk_132 2 1 (dk_at dksX10_back_2 6 rfl rfl)
theorem dX10_back_57 : decode cX10_back 57 = .ok (.goto (-28), 3) := dk_167 255 228 (dk_at dksX10_back_2 9 rfl rfl)
theorem dX10_back_60 : decode cX10_back 60 = .ok (.iconst 0, 1) := dk_3 (dk_at dksX10_back_2 12 rfl rfl)
theorem dX10_back_61 : decode cX10_back 61 = .ok (.ireturn, 1) := dk_172 (dk_at dksX10_back_2 13 rfl rfl)
abbrev cX10_feed : ByteArray := prog_18_method_16_code
def yX10_feed : MethodName := ⟨RX10, "feed", "(IIIII)I"⟩
def dkwX10_feed_5 : List UInt8 := [180, 0, 160, 172]
abbrev dktX10_feed_5 : List UInt8 := dkwX10_feed_5 ++ []
def dkwX10_feed_4 : List UInt8 := [100, 122, 145, 84, 132, 6, 1, 167, 255, 213, 42, 89, 180, 0, 160, 16, 20, 96, 181, 0, 160, 42]
abbrev dktX10_feed_4 : List UInt8 := dkwX10_feed_4 ++ dktX10_feed_5
def dkwX10_feed_3 : List UInt8 := [180, 0, 160, 21, 6, 96, 42, 180, 0, 24, 21, 6, 7, 108, 46, 16, 24, 16, 8, 21, 6, 7, 112, 104]
abbrev dktX10_feed_3 : List UInt8 := dkwX10_feed_3 ++ dktX10_feed_4
def dkwX10_feed_2 : List UInt8 := [180, 0, 24, 7, 21, 5, 79, 3, 54, 6, 21, 6, 16, 20, 162, 0, 42, 42, 180, 0, 20, 42]
abbrev dktX10_feed_2 : List UInt8 := dkwX10_feed_2 ++ dktX10_feed_3
def dkwX10_feed_1 : List UInt8 := [180, 0, 24, 4, 28, 79, 42, 180, 0, 24, 5, 29, 79, 42, 180, 0, 24, 6, 21, 4, 79, 42]
abbrev dktX10_feed_1 : List UInt8 := dkwX10_feed_1 ++ dktX10_feed_2
def dkwX10_feed_0 : List UInt8 := [42, 180, 0, 160, 16, 20, 96, 17, 3, 232, 164, 0, 5, 2, 172, 42, 180, 0, 24, 3, 27, 79, 42]
abbrev dktX10_feed_0 : List UInt8 := dkwX10_feed_0 ++ dktX10_feed_1
theorem dksX10_feed_0 : cX10_feed.data.toList.drop 0 = dktX10_feed_0 := by decide +kernel
theorem dksX10_feed_1 : cX10_feed.data.toList.drop 23 = dktX10_feed_1 := dk_seg dksX10_feed_0 23 rfl rfl
theorem dksX10_feed_2 : cX10_feed.data.toList.drop 45 = dktX10_feed_2 := dk_seg dksX10_feed_1 22 rfl rfl
theorem dksX10_feed_3 : cX10_feed.data.toList.drop 67 = dktX10_feed_3 := dk_seg dksX10_feed_2 22 rfl rfl
theorem dksX10_feed_4 : cX10_feed.data.toList.drop 91 = dktX10_feed_4 := dk_seg dksX10_feed_3 24 rfl rfl
theorem dksX10_feed_5 : cX10_feed.data.toList.drop 113 = dktX10_feed_5 := dk_seg dksX10_feed_4 22 rfl rfl
theorem dX10_feed_0 : decode cX10_feed 0 = .ok (.aload_n 0, 1) := dk_42 (dk_at dksX10_feed_0 0 rfl rfl)
theorem dX10_feed_1 : decode cX10_feed 1 = .ok (.getfield 160, 3) := dk_180 0 160 (dk_at dksX10_feed_0 1 rfl rfl)
theorem dX10_feed_4 : decode cX10_feed 4 = .ok (.bipush 20, 2) := dk_16 20 (dk_at dksX10_feed_0 4 rfl rfl)
theorem dX10_feed_6 : decode cX10_feed 6 = .ok (.iadd, 1) := dk_96 (dk_at dksX10_feed_0 6 rfl rfl)
theorem dX10_feed_7 : decode cX10_feed 7 = .ok (.sipush 1000, 3) := dk_17 3 232 (dk_at dksX10_feed_0 7 rfl rfl)
theorem dX10_feed_10 : decode cX10_feed 10 = .ok (.if_icmp .le 5, 3) := dk_164 0 5 (dk_at dksX10_feed_0 10 rfl rfl)
theorem dX10_feed_13 : decode cX10_feed 13 = .ok (.iconst (-1), 1) := dk_2 (dk_at dksX10_feed_0 13 rfl rfl)
theorem dX10_feed_14 : decode cX10_feed 14 = .ok (.ireturn, 1) := dk_172 (dk_at dksX10_feed_0 14 rfl rfl)
theorem dX10_feed_15 : decode cX10_feed 15 = .ok (.aload_n 0, 1) := dk_42 (dk_at dksX10_feed_0 15 rfl rfl)
theorem dX10_feed_16 : decode cX10_feed 16 = .ok (.getfield 24, 3) := dk_180 0 24 (dk_at dksX10_feed_0 16 rfl rfl)
theorem dX10_feed_19 : decode cX10_feed 19 = .ok (.iconst 0, 1) := dk_3 (dk_at dksX10_feed_0 19 rfl rfl)
theorem dX10_feed_20 : decode cX10_feed 20 = .ok (.iload_n 1, 1) := dk_27 (dk_at dksX10_feed_0 20 rfl rfl)
theorem dX10_feed_21 : decode cX10_feed 21 = .ok (.iastore, 1) := dk_79 (dk_at dksX10_feed_0 21 rfl rfl)
theorem dX10_feed_22 : decode cX10_feed 22 = .ok (.aload_n 0, 1) := dk_42 (dk_at dksX10_feed_0 22 rfl rfl)
theorem dX10_feed_23 : decode cX10_feed 23 = .ok (.getfield 24, 3) := dk_180 0 24 (dk_at dksX10_feed_1 0 rfl rfl)
theorem dX10_feed_26 : decode cX10_feed 26 = .ok (.iconst 1, 1) := dk_4 (dk_at dksX10_feed_1 3 rfl rfl)
theorem dX10_feed_27 : decode cX10_feed 27 = .ok (.iload_n 2, 1) := dk_28 (dk_at dksX10_feed_1 4 rfl rfl)
theorem dX10_feed_28 : decode cX10_feed 28 = .ok (.iastore, 1) := dk_79 (dk_at dksX10_feed_1 5 rfl rfl)
theorem dX10_feed_29 : decode cX10_feed 29 = .ok (.aload_n 0, 1) := dk_42 (dk_at dksX10_feed_1 6 rfl rfl)
theorem dX10_feed_30 : decode cX10_feed 30 = .ok (.getfield 24, 3) := dk_180 0 24 (dk_at dksX10_feed_1 7 rfl rfl)
theorem dX10_feed_33 : decode cX10_feed 33 = .ok (.iconst 2, 1) := dk_5 (dk_at dksX10_feed_1 10 rfl rfl)
theorem dX10_feed_34 : decode cX10_feed 34 = .ok (.iload_n 3, 1) := dk_29 (dk_at dksX10_feed_1 11 rfl rfl)
theorem dX10_feed_35 : decode cX10_feed 35 = .ok (.iastore, 1) := dk_79 (dk_at dksX10_feed_1 12 rfl rfl)
theorem dX10_feed_36 : decode cX10_feed 36 = .ok (.aload_n 0, 1) := dk_42 (dk_at dksX10_feed_1 13 rfl rfl)
theorem dX10_feed_37 : decode cX10_feed 37 = .ok (.getfield 24, 3) := dk_180 0 24 (dk_at dksX10_feed_1 14 rfl rfl)
theorem dX10_feed_40 : decode cX10_feed 40 = .ok (.iconst 3, 1) := dk_6 (dk_at dksX10_feed_1 17 rfl rfl)
theorem dX10_feed_41 : decode cX10_feed 41 = .ok (.iload 4, 2) := dk_21 4 (dk_at dksX10_feed_1 18 rfl rfl)
theorem dX10_feed_43 : decode cX10_feed 43 = .ok (.iastore, 1) := dk_79 (dk_at dksX10_feed_1 20 rfl rfl)
theorem dX10_feed_44 : decode cX10_feed 44 = .ok (.aload_n 0, 1) := dk_42 (dk_at dksX10_feed_1 21 rfl rfl)
theorem dX10_feed_45 : decode cX10_feed 45 = .ok (.getfield 24, 3) := dk_180 0 24 (dk_at dksX10_feed_2 0 rfl rfl)
theorem dX10_feed_48 : decode cX10_feed 48 = .ok (.iconst 4, 1) := dk_7 (dk_at dksX10_feed_2 3 rfl rfl)
theorem dX10_feed_49 : decode cX10_feed 49 = .ok (.iload 5, 2) := dk_21 5 (dk_at dksX10_feed_2 4 rfl rfl)
theorem dX10_feed_51 : decode cX10_feed 51 = .ok (.iastore, 1) := dk_79 (dk_at dksX10_feed_2 6 rfl rfl)
theorem dX10_feed_52 : decode cX10_feed 52 = .ok (.iconst 0, 1) := dk_3 (dk_at dksX10_feed_2 7 rfl rfl)
theorem dX10_feed_53 : decode cX10_feed 53 = .ok (.istore 6, 2) := dk_54 6 (dk_at dksX10_feed_2 8 rfl rfl)
theorem dX10_feed_55 : decode cX10_feed 55 = .ok (.iload 6, 2) := dk_21 6 (dk_at dksX10_feed_2 10 rfl rfl)
theorem dX10_feed_57 : decode cX10_feed 57 = .ok (.bipush 20, 2) := dk_16 20 (dk_at dksX10_feed_2 12 rfl rfl)
theorem dX10_feed_59 : decode cX10_feed 59 = .ok (.if_icmp .ge 42, 3) := dk_162 0 42 (dk_at dksX10_feed_2 14 rfl rfl)
theorem dX10_feed_62 : decode cX10_feed 62 = .ok (.aload_n 0, 1) := dk_42 (dk_at dksX10_feed_2 17 rfl rfl)
theorem dX10_feed_63 : decode cX10_feed 63 = .ok (.getfield 20, 3) := dk_180 0 20 (dk_at dksX10_feed_2 18 rfl rfl)
theorem dX10_feed_66 : decode cX10_feed 66 = .ok (.aload_n 0, 1) := dk_42 (dk_at dksX10_feed_2 21 rfl rfl)
theorem dX10_feed_67 : decode cX10_feed 67 = .ok (.getfield 160, 3) := dk_180 0 160 (dk_at dksX10_feed_3 0 rfl rfl)
theorem dX10_feed_70 : decode cX10_feed 70 = .ok (.iload 6, 2) := dk_21 6 (dk_at dksX10_feed_3 3 rfl rfl)
theorem dX10_feed_72 : decode cX10_feed 72 = .ok (.iadd, 1) := dk_96 (dk_at dksX10_feed_3 5 rfl rfl)
theorem dX10_feed_73 : decode cX10_feed 73 = .ok (.aload_n 0, 1) := dk_42 (dk_at dksX10_feed_3 6 rfl rfl)
theorem dX10_feed_74 : decode cX10_feed 74 = .ok (.getfield 24, 3) := dk_180 0 24 (dk_at dksX10_feed_3 7 rfl rfl)
theorem dX10_feed_77 : decode cX10_feed 77 = .ok (.iload 6, 2) := dk_21 6 (dk_at dksX10_feed_3 10 rfl rfl)
theorem dX10_feed_79 : decode cX10_feed 79 = .ok (.iconst 4, 1) := dk_7 (dk_at dksX10_feed_3 12 rfl rfl)
theorem dX10_feed_80 : decode cX10_feed 80 = .ok (.idiv, 1) := dk_108 (dk_at dksX10_feed_3 13 rfl rfl)
theorem dX10_feed_81 : decode cX10_feed 81 = .ok (.iaload, 1) := dk_46 (dk_at dksX10_feed_3 14 rfl rfl)
theorem dX10_feed_82 : decode cX10_feed 82 = .ok (.bipush 24, 2) := dk_16 24 (dk_at dksX10_feed_3 15 rfl rfl)
theorem dX10_feed_84 : decode cX10_feed 84 = .ok (.bipush 8, 2) := dk_16 8 (dk_at dksX10_feed_3 17 rfl rfl)
theorem dX10_feed_86 : decode cX10_feed 86 = .ok (.iload 6, 2) := dk_21 6 (dk_at dksX10_feed_3 19 rfl rfl)
theorem dX10_feed_88 : decode cX10_feed 88 = .ok (.iconst 4, 1) := dk_7 (dk_at dksX10_feed_3 21 rfl rfl)
theorem dX10_feed_89 : decode cX10_feed 89 = .ok (.irem, 1) := dk_112 (dk_at dksX10_feed_3 22 rfl rfl)
theorem dX10_feed_90 : decode cX10_feed 90 = .ok (.imul, 1) := dk_104 (dk_at dksX10_feed_3 23 rfl rfl)
theorem dX10_feed_91 : decode cX10_feed 91 = .ok (.isub, 1) := dk_100 (dk_at dksX10_feed_4 0 rfl rfl)
theorem dX10_feed_92 : decode cX10_feed 92 = .ok (.ishr, 1) := dk_122 (dk_at dksX10_feed_4 1 rfl rfl)
theorem dX10_feed_93 : decode cX10_feed 93 = .ok (.i2b, 1) := dk_145 (dk_at dksX10_feed_4 2 rfl rfl)
theorem dX10_feed_94 : decode cX10_feed 94 = .ok (.bastore, 1) := dk_84 (dk_at dksX10_feed_4 3 rfl rfl)
theorem dX10_feed_95 : decode cX10_feed 95 = .ok (.iinc 6 1, 3) := dk_132 6 1 (dk_at dksX10_feed_4 4 rfl rfl)
theorem dX10_feed_98 : decode cX10_feed 98 = .ok (.goto (-43), 3) := dk_167 255 213 (dk_at dksX10_feed_4 7 rfl rfl)
theorem dX10_feed_101 : decode cX10_feed 101 = .ok (.aload_n 0, 1) := dk_42 (dk_at dksX10_feed_4 10 rfl rfl)
theorem dX10_feed_102 : decode cX10_feed 102 = .ok (.dup, 1) := dk_89 (dk_at dksX10_feed_4 11 rfl rfl)
theorem dX10_feed_103 : decode cX10_feed 103 = .ok (.getfield 160, 3) := dk_180 0 160 (dk_at dksX10_feed_4 12 rfl rfl)
theorem dX10_feed_106 : decode cX10_feed 106 = .ok (.bipush 20, 2) := dk_16 20 (dk_at dksX10_feed_4 15 rfl rfl)
theorem dX10_feed_108 : decode cX10_feed 108 = .ok (.iadd, 1) := dk_96 (dk_at dksX10_feed_4 17 rfl rfl)
theorem dX10_feed_109 : decode cX10_feed 109 = .ok (.putfield 160, 3) := dk_181 0 160 (dk_at dksX10_feed_4 18 rfl rfl)
theorem dX10_feed_112 : decode cX10_feed 112 = .ok (.aload_n 0, 1) := dk_42 (dk_at dksX10_feed_4 21 rfl rfl)
theorem dX10_feed_113 : decode cX10_feed 113 = .ok (.getfield 160, 3) := dk_180 0 160 (dk_at dksX10_feed_5 0 rfl rfl)
theorem dX10_feed_116 : decode cX10_feed 116 = .ok (.ireturn, 1) := dk_172 (dk_at dksX10_feed_5 3 rfl rfl)
abbrev cX10_end : ByteArray := prog_18_method_17_code
def yX10_end : MethodName := ⟨RX10, "end", "(I)I"⟩
def dkwX10_end_0 : List UInt8 := [27, 133, 9, 42, 180, 0, 160, 133, 184, 0, 152, 154, 0, 5, 2, 172, 42, 27, 181, 0, 160, 27, 172]
abbrev dktX10_end_0 : List UInt8 := dkwX10_end_0 ++ []
theorem dksX10_end_0 : cX10_end.data.toList.drop 0 = dktX10_end_0 := by decide +kernel
theorem dX10_end_0 : decode cX10_end 0 = .ok (.iload_n 1, 1) := dk_27 (dk_at dksX10_end_0 0 rfl rfl)
theorem dX10_end_1 : decode cX10_end 1 = .ok (.i2l, 1) := dk_133 (dk_at dksX10_end_0 1 rfl rfl)
theorem dX10_end_2 : decode cX10_end 2 = .ok (.lconst 0, 1) := dk_9 (dk_at dksX10_end_0 2 rfl rfl)
theorem dX10_end_3 : decode cX10_end 3 = .ok (.aload_n 0, 1) := dk_42 (dk_at dksX10_end_0 3 rfl rfl)
theorem dX10_end_4 : decode cX10_end 4 = .ok (.getfield 160, 3) := dk_180 0 160 (dk_at dksX10_end_0 4 rfl rfl)
theorem dX10_end_7 : decode cX10_end 7 = .ok (.i2l, 1) := dk_133 (dk_at dksX10_end_0 7 rfl rfl)
theorem dX10_end_8 : decode cX10_end 8 = .ok (.invokestatic 152, 3) := dk_184 0 152 (dk_at dksX10_end_0 8 rfl rfl)
theorem dX10_end_11 : decode cX10_end 11 = .ok (.ifCond .ne 5, 3) := dk_154 0 5 (dk_at dksX10_end_0 11 rfl rfl)
theorem dX10_end_14 : decode cX10_end 14 = .ok (.iconst (-1), 1) := dk_2 (dk_at dksX10_end_0 14 rfl rfl)
theorem dX10_end_15 : decode cX10_end 15 = .ok (.ireturn, 1) := dk_172 (dk_at dksX10_end_0 15 rfl rfl)
theorem dX10_end_16 : decode cX10_end 16 = .ok (.aload_n 0, 1) := dk_42 (dk_at dksX10_end_0 16 rfl rfl)
theorem dX10_end_17 : decode cX10_end 17 = .ok (.iload_n 1, 1) := dk_27 (dk_at dksX10_end_0 17 rfl rfl)
theorem dX10_end_18 : decode cX10_end 18 = .ok (.putfield 160, 3) := dk_181 0 160 (dk_at dksX10_end_0 18 rfl rfl)
theorem dX10_end_21 : decode cX10_end 21 = .ok (.iload_n 1, 1) := dk_27 (dk_at dksX10_end_0 21 rfl rfl)
theorem dX10_end_22 : decode cX10_end 22 = .ok (.ireturn, 1) := dk_172 (dk_at dksX10_end_0 22 rfl rfl)
abbrev cX10_fault : ByteArray := prog_18_method_26_code
def yX10_fault : MethodName := ⟨RX10, "fault", "(I)I"⟩
def dkwX10_fault_1 : List UInt8 := [172]
abbrev dktX10_fault_1 : List UInt8 := dkwX10_fault_1 ++ []
def dkwX10_fault_0 : List UInt8 := [27, 154, 0, 10, 42, 180, 0, 196, 167, 0, 16, 27, 4, 160, 0, 10, 42, 180, 0, 27, 167, 0, 4, 2]
abbrev dktX10_fault_0 : List UInt8 := dkwX10_fault_0 ++ dktX10_fault_1
theorem dksX10_fault_0 : cX10_fault.data.toList.drop 0 = dktX10_fault_0 := by decide +kernel
theorem dksX10_fault_1 : cX10_fault.data.toList.drop 24 = dktX10_fault_1 := dk_seg dksX10_fault_0 24 rfl rfl
theorem dX10_fault_0 : decode cX10_fault 0 = .ok (.iload_n 1, 1) := dk_27 (dk_at dksX10_fault_0 0 rfl rfl)
theorem dX10_fault_1 : decode cX10_fault 1 = .ok (.ifCond .ne 10, 3) := dk_154 0 10 (dk_at dksX10_fault_0 1 rfl rfl)
theorem dX10_fault_4 : decode cX10_fault 4 = .ok (.aload_n 0, 1) := dk_42 (dk_at dksX10_fault_0 4 rfl rfl)
theorem dX10_fault_5 : decode cX10_fault 5 = .ok (.getfield 196, 3) := dk_180 0 196 (dk_at dksX10_fault_0 5 rfl rfl)
theorem dX10_fault_8 : decode cX10_fault 8 = .ok (.goto 16, 3) := dk_167 0 16 (dk_at dksX10_fault_0 8 rfl rfl)
theorem dX10_fault_11 : decode cX10_fault 11 = .ok (.iload_n 1, 1) := dk_27 (dk_at dksX10_fault_0 11 rfl rfl)
theorem dX10_fault_12 : decode cX10_fault 12 = .ok (.iconst 1, 1) := dk_4 (dk_at dksX10_fault_0 12 rfl rfl)
theorem dX10_fault_13 : decode cX10_fault 13 = .ok (.if_icmp .ne 10, 3) := dk_160 0 10 (dk_at dksX10_fault_0 13 rfl rfl)
theorem dX10_fault_16 : decode cX10_fault 16 = .ok (.aload_n 0, 1) := dk_42 (dk_at dksX10_fault_0 16 rfl rfl)
theorem dX10_fault_17 : decode cX10_fault 17 = .ok (.getfield 27, 3) := dk_180 0 27 (dk_at dksX10_fault_0 17 rfl rfl)
theorem dX10_fault_20 : decode cX10_fault 20 = .ok (.goto 4, 3) := dk_167 0 4 (dk_at dksX10_fault_0 20 rfl rfl)
theorem dX10_fault_23 : decode cX10_fault 23 = .ok (.iconst (-1), 1) := dk_2 (dk_at dksX10_fault_0 23 rfl rfl)
theorem dX10_fault_24 : decode cX10_fault 24 = .ok (.ireturn, 1) := dk_172 (dk_at dksX10_fault_1 0 rfl rfl)
abbrev cX10_board : ByteArray := prog_18_method_38_code
def yX10_board : MethodName := ⟨RX10, "board", "()I"⟩
def dkwX10_board_7 : List UInt8 := [132, 1, 1, 167, 255, 234, 42, 180, 0, 9, 16, 7, 46, 172]
abbrev dktX10_board_7 : List UInt8 := dkwX10_board_7 ++ []
def dkwX10_board_6 : List UInt8 := [16, 252, 172, 3, 60, 27, 17, 0, 201, 162, 0, 21, 42, 180, 0, 9, 27, 42, 180, 0, 31, 27, 46, 79]
abbrev dktX10_board_6 : List UInt8 := dkwX10_board_6 ++ dktX10_board_7
def dkwX10_board_5 : List UInt8 := [42, 7, 181, 0, 196, 42, 27, 181, 0, 27, 132, 1, 1, 167, 255, 205, 42, 182, 0, 199, 154, 0, 6]
abbrev dktX10_board_5 : List UInt8 := dkwX10_board_5 ++ dktX10_board_6
def dkwX10_board_4 : List UInt8 := [153, 0, 40, 42, 180, 0, 31, 16, 11, 16, 7, 27, 104, 96, 16, 6, 96, 46, 158, 0, 6, 167, 0, 13]
abbrev dktX10_board_4 : List UInt8 := dkwX10_board_4 ++ dktX10_board_5
def dkwX10_board_3 : List UInt8 := [182, 1, 58, 167, 255, 238, 3, 60, 27, 42, 180, 0, 31, 7, 46, 162, 0, 47, 42, 182, 0, 199]
abbrev dktX10_board_3 : List UInt8 := dkwX10_board_3 ++ dktX10_board_4
def dkwX10_board_2 : List UInt8 := [167, 255, 239, 42, 182, 0, 217, 42, 182, 0, 199, 153, 0, 17, 42, 180, 0, 176, 153, 0, 10, 42]
abbrev dktX10_board_2 : List UInt8 := dkwX10_board_2 ++ dktX10_board_3
def dkwX10_board_1 : List UInt8 := [2, 181, 0, 27, 3, 60, 27, 17, 0, 201, 162, 0, 16, 42, 180, 0, 31, 27, 3, 79, 132, 1, 1]
abbrev dktX10_board_1 : List UInt8 := dkwX10_board_1 ++ dktX10_board_2
def dkwX10_board_0 : List UInt8 := [42, 42, 180, 0, 160, 181, 0, 163, 42, 3, 181, 0, 160, 42, 3, 181, 0, 166, 42, 3, 181, 0, 196, 42]
abbrev dktX10_board_0 : List UInt8 := dkwX10_board_0 ++ dktX10_board_1
theorem dksX10_board_0 : cX10_board.data.toList.drop 0 = dktX10_board_0 := by decide +kernel
theorem dksX10_board_1 : cX10_board.data.toList.drop 24 = dktX10_board_1 := dk_seg dksX10_board_0 24 rfl rfl
theorem dksX10_board_2 : cX10_board.data.toList.drop 47 = dktX10_board_2 := dk_seg dksX10_board_1 23 rfl rfl
theorem dksX10_board_3 : cX10_board.data.toList.drop 69 = dktX10_board_3 := dk_seg dksX10_board_2 22 rfl rfl
theorem dksX10_board_4 : cX10_board.data.toList.drop 91 = dktX10_board_4 := dk_seg dksX10_board_3 22 rfl rfl
theorem dksX10_board_5 : cX10_board.data.toList.drop 115 = dktX10_board_5 := dk_seg dksX10_board_4 24 rfl rfl
theorem dksX10_board_6 : cX10_board.data.toList.drop 138 = dktX10_board_6 := dk_seg dksX10_board_5 23 rfl rfl
theorem dksX10_board_7 : cX10_board.data.toList.drop 162 = dktX10_board_7 := dk_seg dksX10_board_6 24 rfl rfl
theorem dX10_board_0 : decode cX10_board 0 = .ok (.aload_n 0, 1) := dk_42 (dk_at dksX10_board_0 0 rfl rfl)
theorem dX10_board_1 : decode cX10_board 1 = .ok (.aload_n 0, 1) := dk_42 (dk_at dksX10_board_0 1 rfl rfl)
theorem dX10_board_2 : decode cX10_board 2 = .ok (.getfield 160, 3) := dk_180 0 160 (dk_at dksX10_board_0 2 rfl rfl)
theorem dX10_board_5 : decode cX10_board 5 = .ok (.putfield 163, 3) := dk_181 0 163 (dk_at dksX10_board_0 5 rfl rfl)
theorem dX10_board_8 : decode cX10_board 8 = .ok (.aload_n 0, 1) := dk_42 (dk_at dksX10_board_0 8 rfl rfl)
theorem dX10_board_9 : decode cX10_board 9 = .ok (.iconst 0, 1) := dk_3 (dk_at dksX10_board_0 9 rfl rfl)
theorem dX10_board_10 : decode cX10_board 10 = .ok (.putfield 160, 3) := dk_181 0 160 (dk_at dksX10_board_0 10 rfl rfl)
theorem dX10_board_13 : decode cX10_board 13 = .ok (.aload_n 0, 1) := dk_42 (dk_at dksX10_board_0 13 rfl rfl)
theorem dX10_board_14 : decode cX10_board 14 = .ok (.iconst 0, 1) := dk_3 (dk_at dksX10_board_0 14 rfl rfl)
theorem dX10_board_15 : decode cX10_board 15 = .ok (.putfield 166, 3) := dk_181 0 166 (dk_at dksX10_board_0 15 rfl rfl)
theorem dX10_board_18 : decode cX10_board 18 = .ok (.aload_n 0, 1) := dk_42 (dk_at dksX10_board_0 18 rfl rfl)
theorem dX10_board_19 : decode cX10_board 19 = .ok (.iconst 0, 1) := dk_3 (dk_at dksX10_board_0 19 rfl rfl)
theorem dX10_board_20 : decode cX10_board 20 = .ok (.putfield 196, 3) := dk_181 0 196 (dk_at dksX10_board_0 20 rfl rfl)
theorem dX10_board_23 : decode cX10_board 23 = .ok (.aload_n 0, 1) := dk_42 (dk_at dksX10_board_0 23 rfl rfl)
theorem dX10_board_24 : decode cX10_board 24 = .ok (.iconst (-1), 1) := dk_2 (dk_at dksX10_board_1 0 rfl rfl)
theorem dX10_board_25 : decode cX10_board 25 = .ok (.putfield 27, 3) := dk_181 0 27 (dk_at dksX10_board_1 1 rfl rfl)
theorem dX10_board_28 : decode cX10_board 28 = .ok (.iconst 0, 1) := dk_3 (dk_at dksX10_board_1 4 rfl rfl)
theorem dX10_board_29 : decode cX10_board 29 = .ok (.istore_n 1, 1) := dk_60 (dk_at dksX10_board_1 5 rfl rfl)
theorem dX10_board_30 : decode cX10_board 30 = .ok (.iload_n 1, 1) := dk_27 (dk_at dksX10_board_1 6 rfl rfl)
theorem dX10_board_31 : decode cX10_board 31 = .ok (.sipush 201, 3) := dk_17 0 201 (dk_at dksX10_board_1 7 rfl rfl)
theorem dX10_board_34 : decode cX10_board 34 = .ok (.if_icmp .ge 16, 3) := dk_162 0 16 (dk_at dksX10_board_1 10 rfl rfl)
theorem dX10_board_37 : decode cX10_board 37 = .ok (.aload_n 0, 1) := dk_42 (dk_at dksX10_board_1 13 rfl rfl)
theorem dX10_board_38 : decode cX10_board 38 = .ok (.getfield 31, 3) := dk_180 0 31 (dk_at dksX10_board_1 14 rfl rfl)
theorem dX10_board_41 : decode cX10_board 41 = .ok (.iload_n 1, 1) := dk_27 (dk_at dksX10_board_1 17 rfl rfl)
theorem dX10_board_42 : decode cX10_board 42 = .ok (.iconst 0, 1) := dk_3 (dk_at dksX10_board_1 18 rfl rfl)
theorem dX10_board_43 : decode cX10_board 43 = .ok (.iastore, 1) := dk_79 (dk_at dksX10_board_1 19 rfl rfl)
theorem dX10_board_44 : decode cX10_board 44 = .ok (.iinc 1 1, 3) := dk_132 1 1 (dk_at dksX10_board_1 20 rfl rfl)
theorem dX10_board_47 : decode cX10_board 47 = .ok (.goto (-17), 3) := dk_167 255 239 (dk_at dksX10_board_2 0 rfl rfl)
theorem dX10_board_50 : decode cX10_board 50 = .ok (.aload_n 0, 1) := dk_42 (dk_at dksX10_board_2 3 rfl rfl)
theorem dX10_board_51 : decode cX10_board 51 = .ok (.invokevirtual 217, 3) := dk_182 0 217 (dk_at dksX10_board_2 4 rfl rfl)
theorem dX10_board_54 : decode cX10_board 54 = .ok (.aload_n 0, 1) := dk_42 (dk_at dksX10_board_2 7 rfl rfl)
theorem dX10_board_55 : decode cX10_board 55 = .ok (.invokevirtual 199, 3) := dk_182 0 199 (dk_at dksX10_board_2 8 rfl rfl)
theorem dX10_board_58 : decode cX10_board 58 = .ok (.ifCond .eq 17, 3) := dk_153 0 17 (dk_at dksX10_board_2 11 rfl rfl)
theorem dX10_board_61 : decode cX10_board 61 = .ok (.aload_n 0, 1) := dk_42 (dk_at dksX10_board_2 14 rfl rfl)
theorem dX10_board_62 : decode cX10_board 62 = .ok (.getfield 176, 3) := dk_180 0 176 (dk_at dksX10_board_2 15 rfl rfl)
theorem dX10_board_65 : decode cX10_board 65 = .ok (.ifCond .eq 10, 3) := dk_153 0 10 (dk_at dksX10_board_2 18 rfl rfl)
theorem dX10_board_68 : decode cX10_board 68 = .ok (.aload_n 0, 1) := dk_42 (dk_at dksX10_board_2 21 rfl rfl)
theorem dX10_board_69 : decode cX10_board 69 = .ok (.invokevirtual 314, 3) := dk_182 1 58 (dk_at dksX10_board_3 0 rfl rfl)
theorem dX10_board_72 : decode cX10_board 72 = .ok (.goto (-18), 3) := dk_167 255 238 (dk_at dksX10_board_3 3 rfl rfl)
theorem dX10_board_75 : decode cX10_board 75 = .ok (.iconst 0, 1) := dk_3 (dk_at dksX10_board_3 6 rfl rfl)
theorem dX10_board_76 : decode cX10_board 76 = .ok (.istore_n 1, 1) := dk_60 (dk_at dksX10_board_3 7 rfl rfl)
theorem dX10_board_77 : decode cX10_board 77 = .ok (.iload_n 1, 1) := dk_27 (dk_at dksX10_board_3 8 rfl rfl)
theorem dX10_board_78 : decode cX10_board 78 = .ok (.aload_n 0, 1) := dk_42 (dk_at dksX10_board_3 9 rfl rfl)
theorem dX10_board_79 : decode cX10_board 79 = .ok (.getfield 31, 3) := dk_180 0 31 (dk_at dksX10_board_3 10 rfl rfl)
theorem dX10_board_82 : decode cX10_board 82 = .ok (.iconst 4, 1) := dk_7 (dk_at dksX10_board_3 13 rfl rfl)
theorem dX10_board_83 : decode cX10_board 83 = .ok (.iaload, 1) := dk_46 (dk_at dksX10_board_3 14 rfl rfl)
theorem dX10_board_84 : decode cX10_board 84 = .ok (.if_icmp .ge 47, 3) := dk_162 0 47 (dk_at dksX10_board_3 15 rfl rfl)
theorem dX10_board_87 : decode cX10_board 87 = .ok (.aload_n 0, 1) := dk_42 (dk_at dksX10_board_3 18 rfl rfl)
theorem dX10_board_88 : decode cX10_board 88 = .ok (.invokevirtual 199, 3) := dk_182 0 199 (dk_at dksX10_board_3 19 rfl rfl)
theorem dX10_board_91 : decode cX10_board 91 = .ok (.ifCond .eq 40, 3) := dk_153 0 40 (dk_at dksX10_board_4 0 rfl rfl)
theorem dX10_board_94 : decode cX10_board 94 = .ok (.aload_n 0, 1) := dk_42 (dk_at dksX10_board_4 3 rfl rfl)
theorem dX10_board_95 : decode cX10_board 95 = .ok (.getfield 31, 3) := dk_180 0 31 (dk_at dksX10_board_4 4 rfl rfl)
theorem dX10_board_98 : decode cX10_board 98 = .ok (.bipush 11, 2) := dk_16 11 (dk_at dksX10_board_4 7 rfl rfl)
theorem dX10_board_100 : decode cX10_board 100 = .ok (.bipush 7, 2) := dk_16 7 (dk_at dksX10_board_4 9 rfl rfl)
theorem dX10_board_102 : decode cX10_board 102 = .ok (.iload_n 1, 1) := dk_27 (dk_at dksX10_board_4 11 rfl rfl)
theorem dX10_board_103 : decode cX10_board 103 = .ok (.imul, 1) := dk_104 (dk_at dksX10_board_4 12 rfl rfl)
theorem dX10_board_104 : decode cX10_board 104 = .ok (.iadd, 1) := dk_96 (dk_at dksX10_board_4 13 rfl rfl)
theorem dX10_board_105 : decode cX10_board 105 = .ok (.bipush 6, 2) := dk_16 6 (dk_at dksX10_board_4 14 rfl rfl)
theorem dX10_board_107 : decode cX10_board 107 = .ok (.iadd, 1) := dk_96 (dk_at dksX10_board_4 16 rfl rfl)
theorem dX10_board_108 : decode cX10_board 108 = .ok (.iaload, 1) := dk_46 (dk_at dksX10_board_4 17 rfl rfl)
theorem dX10_board_109 : decode cX10_board 109 = .ok (.ifCond .le 6, 3) := dk_158 0 6 (dk_at dksX10_board_4 18 rfl rfl)
theorem dX10_board_112 : decode cX10_board 112 = .ok (.goto 13, 3) := dk_167 0 13 (dk_at dksX10_board_4 21 rfl rfl)
theorem dX10_board_115 : decode cX10_board 115 = .ok (.aload_n 0, 1) := dk_42 (dk_at dksX10_board_5 0 rfl rfl)
theorem dX10_board_116 : decode cX10_board 116 = .ok (.iconst 4, 1) := dk_7 (dk_at dksX10_board_5 1 rfl rfl)
theorem dX10_board_117 : decode cX10_board 117 = .ok (.putfield 196, 3) := dk_181 0 196 (dk_at dksX10_board_5 2 rfl rfl)
theorem dX10_board_120 : decode cX10_board 120 = .ok (.aload_n 0, 1) := dk_42 (dk_at dksX10_board_5 5 rfl rfl)
theorem dX10_board_121 : decode cX10_board 121 = .ok (.iload_n 1, 1) := dk_27 (dk_at dksX10_board_5 6 rfl rfl)
theorem dX10_board_122 : decode cX10_board 122 = .ok (.putfield 27, 3) := dk_181 0 27 (dk_at dksX10_board_5 7 rfl rfl)
theorem dX10_board_125 : decode cX10_board 125 = .ok (.iinc 1 1, 3) := dk_132 1 1 (dk_at dksX10_board_5 10 rfl rfl)
theorem dX10_board_128 : decode cX10_board 128 = .ok (.goto (-51), 3) := dk_167 255 205 (dk_at dksX10_board_5 13 rfl rfl)
theorem dX10_board_131 : decode cX10_board 131 = .ok (.aload_n 0, 1) := dk_42 (dk_at dksX10_board_5 16 rfl rfl)
theorem dX10_board_132 : decode cX10_board 132 = .ok (.invokevirtual 199, 3) := dk_182 0 199 (dk_at dksX10_board_5 17 rfl rfl)
theorem dX10_board_135 : decode cX10_board 135 = .ok (.ifCond .ne 6, 3) := dk_154 0 6 (dk_at dksX10_board_5 20 rfl rfl)
theorem dX10_board_138 : decode cX10_board 138 = .ok (.bipush (-4), 2) := dk_16 252 (dk_at dksX10_board_6 0 rfl rfl)
theorem dX10_board_140 : decode cX10_board 140 = .ok (.ireturn, 1) := dk_172 (dk_at dksX10_board_6 2 rfl rfl)
theorem dX10_board_141 : decode cX10_board 141 = .ok (.iconst 0, 1) := dk_3 (dk_at dksX10_board_6 3 rfl rfl)
theorem dX10_board_142 : decode cX10_board 142 = .ok (.istore_n 1, 1) := dk_60 (dk_at dksX10_board_6 4 rfl rfl)
theorem dX10_board_143 : decode cX10_board 143 = .ok (.iload_n 1, 1) := dk_27 (dk_at dksX10_board_6 5 rfl rfl)
theorem dX10_board_144 : decode cX10_board 144 = .ok (.sipush 201, 3) := dk_17 0 201 (dk_at dksX10_board_6 6 rfl rfl)
theorem dX10_board_147 : decode cX10_board 147 = .ok (.if_icmp .ge 21, 3) := dk_162 0 21 (dk_at dksX10_board_6 9 rfl rfl)
theorem dX10_board_150 : decode cX10_board 150 = .ok (.aload_n 0, 1) := dk_42 (dk_at dksX10_board_6 12 rfl rfl)
theorem dX10_board_151 : decode cX10_board 151 = .ok (.getfield 9, 3) := dk_180 0 9 (dk_at dksX10_board_6 13 rfl rfl)
theorem dX10_board_154 : decode cX10_board 154 = .ok (.iload_n 1, 1) := dk_27 (dk_at dksX10_board_6 16 rfl rfl)
theorem dX10_board_155 : decode cX10_board 155 = .ok (.aload_n 0, 1) := dk_42 (dk_at dksX10_board_6 17 rfl rfl)
theorem dX10_board_156 : decode cX10_board 156 = .ok (.getfield 31, 3) := dk_180 0 31 (dk_at dksX10_board_6 18 rfl rfl)
theorem dX10_board_159 : decode cX10_board 159 = .ok (.iload_n 1, 1) := dk_27 (dk_at dksX10_board_6 21 rfl rfl)
theorem dX10_board_160 : decode cX10_board 160 = .ok (.iaload, 1) := dk_46 (dk_at dksX10_board_6 22 rfl rfl)
theorem dX10_board_161 : decode cX10_board 161 = .ok (.iastore, 1) := dk_79 (dk_at dksX10_board_6 23 rfl rfl)
theorem dX10_board_162 : decode cX10_board 162 = .ok (.iinc 1 1, 3) := dk_132 1 1 (dk_at dksX10_board_7 0 rfl rfl)
theorem dX10_board_165 : decode cX10_board 165 = .ok (.goto (-22), 3) := dk_167 255 234 (dk_at dksX10_board_7 3 rfl rfl)
theorem dX10_board_168 : decode cX10_board 168 = .ok (.aload_n 0, 1) := dk_42 (dk_at dksX10_board_7 6 rfl rfl)
theorem dX10_board_169 : decode cX10_board 169 = .ok (.getfield 9, 3) := dk_180 0 9 (dk_at dksX10_board_7 7 rfl rfl)
theorem dX10_board_172 : decode cX10_board 172 = .ok (.bipush 7, 2) := dk_16 7 (dk_at dksX10_board_7 10 rfl rfl)
theorem dX10_board_174 : decode cX10_board 174 = .ok (.iaload, 1) := dk_46 (dk_at dksX10_board_7 12 rfl rfl)
theorem dX10_board_175 : decode cX10_board 175 = .ok (.ireturn, 1) := dk_172 (dk_at dksX10_board_7 13 rfl rfl)
abbrev cX10_advance : ByteArray := prog_18_method_19_code
def yX10_advance : MethodName := ⟨RX10, "advance", "()V"⟩
def dkwX10_advance_10 : List UInt8 := [96, 181, 0, 166, 177]
abbrev dktX10_advance_10 : List UInt8 := dkwX10_advance_10 ++ []
def dkwX10_advance_9 : List UInt8 := [167, 0, 28, 42, 27, 16, 59, 160, 0, 7, 6, 167, 0, 4, 7, 181, 0, 176, 42, 89, 180, 0, 166, 4]
abbrev dktX10_advance_9 : List UInt8 := dkwX10_advance_9 ++ dktX10_advance_10
def dkwX10_advance_8 : List UInt8 := [184, 0, 191, 181, 0, 187, 42, 89, 180, 0, 166, 4, 96, 181, 0, 166, 167, 255, 197, 42, 5, 181, 0, 176]
abbrev dktX10_advance_8 : List UInt8 := dkwX10_advance_8 ++ dktX10_advance_9
def dkwX10_advance_7 : List UInt8 := [42, 18, 190, 16, 10, 42, 180, 0, 187, 104, 42, 42, 180, 0, 166, 182, 0, 169, 96, 16, 48, 100]
abbrev dktX10_advance_7 : List UInt8 := dkwX10_advance_7 ++ dktX10_advance_8
def dkwX10_advance_6 : List UInt8 := [181, 0, 187, 42, 42, 180, 0, 166, 182, 0, 169, 133, 20, 0, 183, 20, 0, 185, 184, 0, 152, 153, 0, 44]
abbrev dktX10_advance_6 : List UInt8 := dkwX10_advance_6 ++ dktX10_advance_7
def dkwX10_advance_5 : List UInt8 := [181, 0, 176, 167, 0, 117, 27, 133, 20, 0, 183, 20, 0, 185, 184, 0, 152, 153, 0, 78, 42, 3]
abbrev dktX10_advance_5 : List UInt8 := dkwX10_advance_5 ++ dktX10_advance_6
def dkwX10_advance_4 : List UInt8 := [20, 0, 181, 184, 0, 152, 153, 0, 16, 42, 89, 180, 0, 166, 4, 96, 181, 0, 166, 167, 255, 225, 42, 4]
abbrev dktX10_advance_4 : List UInt8 := dkwX10_advance_4 ++ dktX10_advance_5
def dkwX10_advance_3 : List UInt8 := [20, 0, 179, 20, 0, 181, 184, 0, 152, 153, 0, 45, 42, 42, 180, 0, 166, 182, 0, 169, 133, 20, 0, 179]
abbrev dktX10_advance_3 : List UInt8 := dkwX10_advance_3 ++ dktX10_advance_4
def dkwX10_advance_2 : List UInt8 := [42, 42, 180, 0, 166, 182, 0, 169, 60, 27, 2, 160, 0, 11, 42, 3, 181, 0, 176, 167, 0, 173, 27, 133]
abbrev dktX10_advance_2 : List UInt8 := dkwX10_advance_2 ++ dktX10_advance_3
def dkwX10_advance_1 : List UInt8 := [160, 0, 16, 42, 89, 180, 0, 166, 4, 96, 181, 0, 166, 167, 255, 220, 42, 42, 180, 0, 166, 181, 0, 173]
abbrev dktX10_advance_1 : List UInt8 := dkwX10_advance_1 ++ dktX10_advance_2
def dkwX10_advance_0 : List UInt8 := [42, 42, 180, 0, 166, 182, 0, 169, 16, 32, 159, 0, 16, 42, 42, 180, 0, 166, 182, 0, 169, 16, 10]
abbrev dktX10_advance_0 : List UInt8 := dkwX10_advance_0 ++ dktX10_advance_1
theorem dksX10_advance_0 : cX10_advance.data.toList.drop 0 = dktX10_advance_0 := by decide +kernel
theorem dksX10_advance_1 : cX10_advance.data.toList.drop 23 = dktX10_advance_1 := dk_seg dksX10_advance_0 23 rfl rfl
theorem dksX10_advance_2 : cX10_advance.data.toList.drop 47 = dktX10_advance_2 := dk_seg dksX10_advance_1 24 rfl rfl
theorem dksX10_advance_3 : cX10_advance.data.toList.drop 71 = dktX10_advance_3 := dk_seg dksX10_advance_2 24 rfl rfl
theorem dksX10_advance_4 : cX10_advance.data.toList.drop 95 = dktX10_advance_4 := dk_seg dksX10_advance_3 24 rfl rfl
theorem dksX10_advance_5 : cX10_advance.data.toList.drop 119 = dktX10_advance_5 := dk_seg dksX10_advance_4 24 rfl rfl
theorem dksX10_advance_6 : cX10_advance.data.toList.drop 141 = dktX10_advance_6 := dk_seg dksX10_advance_5 22 rfl rfl
theorem dksX10_advance_7 : cX10_advance.data.toList.drop 165 = dktX10_advance_7 := dk_seg dksX10_advance_6 24 rfl rfl
theorem dksX10_advance_8 : cX10_advance.data.toList.drop 187 = dktX10_advance_8 := dk_seg dksX10_advance_7 22 rfl rfl
theorem dksX10_advance_9 : cX10_advance.data.toList.drop 211 = dktX10_advance_9 := dk_seg dksX10_advance_8 24 rfl rfl
theorem dksX10_advance_10 : cX10_advance.data.toList.drop 235 = dktX10_advance_10 := dk_seg dksX10_advance_9 24 rfl rfl
theorem dX10_advance_0 : decode cX10_advance 0 = .ok (.aload_n 0, 1) := dk_42 (dk_at dksX10_advance_0 0 rfl rfl)
theorem dX10_advance_1 : decode cX10_advance 1 = .ok (.aload_n 0, 1) := dk_42 (dk_at dksX10_advance_0 1 rfl rfl)
theorem dX10_advance_2 : decode cX10_advance 2 = .ok (.getfield 166, 3) := dk_180 0 166 (dk_at dksX10_advance_0 2 rfl rfl)
theorem dX10_advance_5 : decode cX10_advance 5 = .ok (.invokevirtual 169, 3) := dk_182 0 169 (dk_at dksX10_advance_0 5 rfl rfl)
theorem dX10_advance_8 : decode cX10_advance 8 = .ok (.bipush 32, 2) := dk_16 32 (dk_at dksX10_advance_0 8 rfl rfl)
theorem dX10_advance_10 : decode cX10_advance 10 = .ok (.if_icmp .eq 16, 3) := dk_159 0 16 (dk_at dksX10_advance_0 10 rfl rfl)
theorem dX10_advance_13 : decode cX10_advance 13 = .ok (.aload_n 0, 1) := dk_42 (dk_at dksX10_advance_0 13 rfl rfl)
theorem dX10_advance_14 : decode cX10_advance 14 = .ok (.aload_n 0, 1) := dk_42 (dk_at dksX10_advance_0 14 rfl rfl)
theorem dX10_advance_15 : decode cX10_advance 15 = .ok (.getfield 166, 3) := dk_180 0 166 (dk_at dksX10_advance_0 15 rfl rfl)
theorem dX10_advance_18 : decode cX10_advance 18 = .ok (.invokevirtual 169, 3) := dk_182 0 169 (dk_at dksX10_advance_0 18 rfl rfl)
theorem dX10_advance_21 : decode cX10_advance 21 = .ok (.bipush 10, 2) := dk_16 10 (dk_at dksX10_advance_0 21 rfl rfl)
theorem dX10_advance_23 : decode cX10_advance 23 = .ok (.if_icmp .ne 16, 3) := dk_160 0 16 (dk_at dksX10_advance_1 0 rfl rfl)
theorem dX10_advance_26 : decode cX10_advance 26 = .ok (.aload_n 0, 1) := dk_42 (dk_at dksX10_advance_1 3 rfl rfl)
theorem dX10_advance_27 : decode cX10_advance 27 = .ok (.dup, 1) := dk_89 (dk_at dksX10_advance_1 4 rfl rfl)
theorem dX10_advance_28 : decode cX10_advance 28 = .ok (.getfield 166, 3) := dk_180 0 166 (dk_at dksX10_advance_1 5 rfl rfl)
theorem dX10_advance_31 : decode cX10_advance 31 = .ok (.iconst 1, 1) := dk_4 (dk_at dksX10_advance_1 8 rfl rfl)
theorem dX10_advance_32 : decode cX10_advance 32 = .ok (.iadd, 1) := dk_96 (dk_at dksX10_advance_1 9 rfl rfl)
theorem dX10_advance_33 : decode cX10_advance 33 = .ok (.putfield 166, 3) := dk_181 0 166 (dk_at dksX10_advance_1 10 rfl rfl)
theorem dX10_advance_36 : decode cX10_advance 36 = .ok (.goto (-36), 3) := dk_167 255 220 (dk_at dksX10_advance_1 13 rfl rfl)
theorem dX10_advance_39 : decode cX10_advance 39 = .ok (.aload_n 0, 1) := dk_42 (dk_at dksX10_advance_1 16 rfl rfl)
theorem dX10_advance_40 : decode cX10_advance 40 = .ok (.aload_n 0, 1) := dk_42 (dk_at dksX10_advance_1 17 rfl rfl)
theorem dX10_advance_41 : decode cX10_advance 41 = .ok (.getfield 166, 3) := dk_180 0 166 (dk_at dksX10_advance_1 18 rfl rfl)
theorem dX10_advance_44 : decode cX10_advance 44 = .ok (.putfield 173, 3) := dk_181 0 173 (dk_at dksX10_advance_1 21 rfl rfl)
theorem dX10_advance_47 : decode cX10_advance 47 = .ok (.aload_n 0, 1) := dk_42 (dk_at dksX10_advance_2 0 rfl rfl)
theorem dX10_advance_48 : decode cX10_advance 48 = .ok (.aload_n 0, 1) := dk_42 (dk_at dksX10_advance_2 1 rfl rfl)
theorem dX10_advance_49 : decode cX10_advance 49 = .ok (.getfield 166, 3) := dk_180 0 166 (dk_at dksX10_advance_2 2 rfl rfl)
theorem dX10_advance_52 : decode cX10_advance 52 = .ok (.invokevirtual 169, 3) := dk_182 0 169 (dk_at dksX10_advance_2 5 rfl rfl)
theorem dX10_advance_55 : decode cX10_advance 55 = .ok (.istore_n 1, 1) := dk_60 (dk_at dksX10_advance_2 8 rfl rfl)
theorem dX10_advance_56 : decode cX10_advance 56 = .ok (.iload_n 1, 1) := dk_27 (dk_at dksX10_advance_2 9 rfl rfl)
theorem dX10_advance_57 : decode cX10_advance 57 = .ok (.iconst (-1), 1) := dk_2 (dk_at dksX10_advance_2 10 rfl rfl)
theorem dX10_advance_58 : decode cX10_advance 58 = .ok (.if_icmp .ne 11, 3) := dk_160 0 11 (dk_at dksX10_advance_2 11 rfl rfl)
theorem dX10_advance_61 : decode cX10_advance 61 = .ok (.aload_n 0, 1) := dk_42 (dk_at dksX10_advance_2 14 rfl rfl)
theorem dX10_advance_62 : decode cX10_advance 62 = .ok (.iconst 0, 1) := dk_3 (dk_at dksX10_advance_2 15 rfl rfl)
theorem dX10_advance_63 : decode cX10_advance 63 = .ok (.putfield 176, 3) := dk_181 0 176 (dk_at dksX10_advance_2 16 rfl rfl)
theorem dX10_advance_66 : decode cX10_advance 66 = .ok (.goto 173, 3) := dk_167 0 173 (dk_at dksX10_advance_2 19 rfl rfl)
theorem dX10_advance_69 : decode cX10_advance 69 = .ok (.iload_n 1, 1) := dk_27 (dk_at dksX10_advance_2 22 rfl rfl)
theorem dX10_advance_70 : decode cX10_advance 70 = .ok (.i2l, 1) := dk_133 (dk_at dksX10_advance_2 23 rfl rfl)
theorem dX10_advance_71 : decode cX10_advance 71 = .ok (.ldc2_w 179, 3) := dk_20 0 179 (dk_at dksX10_advance_3 0 rfl rfl)
theorem dX10_advance_74 : decode cX10_advance 74 = .ok (.ldc2_w 181, 3) := dk_20 0 181 (dk_at dksX10_advance_3 3 rfl rfl)
theorem dX10_advance_77 : decode cX10_advance 77 = .ok (.invokestatic 152, 3) := dk_184 0 152 (dk_at dksX10_advance_3 6 rfl rfl)
theorem dX10_advance_80 : decode cX10_advance 80 = .ok (.ifCond .eq 45, 3) := dk_153 0 45 (dk_at dksX10_advance_3 9 rfl rfl)
theorem dX10_advance_83 : decode cX10_advance 83 = .ok (.aload_n 0, 1) := dk_42 (dk_at dksX10_advance_3 12 rfl rfl)
theorem dX10_advance_84 : decode cX10_advance 84 = .ok (.aload_n 0, 1) := dk_42 (dk_at dksX10_advance_3 13 rfl rfl)
theorem dX10_advance_85 : decode cX10_advance 85 = .ok (.getfield 166, 3) := dk_180 0 166 (dk_at dksX10_advance_3 14 rfl rfl)
theorem dX10_advance_88 : decode cX10_advance 88 = .ok (.invokevirtual 169, 3) := dk_182 0 169 (dk_at dksX10_advance_3 17 rfl rfl)
theorem dX10_advance_91 : decode cX10_advance 91 = .ok (.i2l, 1) := dk_133 (dk_at dksX10_advance_3 20 rfl rfl)
theorem dX10_advance_92 : decode cX10_advance 92 = .ok (.ldc2_w 179, 3) := dk_20 0 179 (dk_at dksX10_advance_3 21 rfl rfl)
theorem dX10_advance_95 : decode cX10_advance 95 = .ok (.ldc2_w 181, 3) := dk_20 0 181 (dk_at dksX10_advance_4 0 rfl rfl)
theorem dX10_advance_98 : decode cX10_advance 98 = .ok (.invokestatic 152, 3) := dk_184 0 152 (dk_at dksX10_advance_4 3 rfl rfl)
theorem dX10_advance_101 : decode cX10_advance 101 = .ok (.ifCond .eq 16, 3) := dk_153 0 16 (dk_at dksX10_advance_4 6 rfl rfl)
theorem dX10_advance_104 : decode cX10_advance 104 = .ok (.aload_n 0, 1) := dk_42 (dk_at dksX10_advance_4 9 rfl rfl)
theorem dX10_advance_105 : decode cX10_advance 105 = .ok (.dup, 1) := dk_89 (dk_at dksX10_advance_4 10 rfl rfl)
theorem dX10_advance_106 : decode cX10_advance 106 = .ok (.getfield 166, 3) := dk_180 0 166 (dk_at dksX10_advance_4 11 rfl rfl)
theorem dX10_advance_109 : decode cX10_advance 109 = .ok (.iconst 1, 1) := dk_4 (dk_at dksX10_advance_4 14 rfl rfl)
theorem dX10_advance_110 : decode cX10_advance 110 = .ok (.iadd, 1) := dk_96 (dk_at dksX10_advance_4 15 rfl rfl)
theorem dX10_advance_111 : decode cX10_advance 111 = .ok (.putfield 166, 3) := dk_181 0 166 (dk_at dksX10_advance_4 16 rfl rfl)
theorem dX10_advance_114 : decode cX10_advance 114 = .ok (.goto (-31), 3) := dk_167 255 225 (dk_at dksX10_advance_4 19 rfl rfl)
theorem dX10_advance_117 : decode cX10_advance 117 = .ok (.aload_n 0, 1) := dk_42 (dk_at dksX10_advance_4 22 rfl rfl)
theorem dX10_advance_118 : decode cX10_advance 118 = .ok (.iconst 1, 1) := dk_4 (dk_at dksX10_advance_4 23 rfl rfl)
theorem dX10_advance_119 : decode cX10_advance 119 = .ok (.putfield 176, 3) := dk_181 0 176 (dk_at dksX10_advance_5 0 rfl rfl)
theorem dX10_advance_122 : decode cX10_advance 122 = .ok (.goto 117, 3) := dk_167 0 117 (dk_at dksX10_advance_5 3 rfl rfl)
theorem dX10_advance_125 : decode cX10_advance 125 = .ok (.iload_n 1, 1) := dk_27 (dk_at dksX10_advance_5 6 rfl rfl)
theorem dX10_advance_126 : decode cX10_advance 126 = .ok (.i2l, 1) := dk_133 (dk_at dksX10_advance_5 7 rfl rfl)
theorem dX10_advance_127 : decode cX10_advance 127 = .ok (.ldc2_w 183, 3) := dk_20 0 183 (dk_at dksX10_advance_5 8 rfl rfl)
theorem dX10_advance_130 : decode cX10_advance 130 = .ok (.ldc2_w 185, 3) := dk_20 0 185 (dk_at dksX10_advance_5 11 rfl rfl)
theorem dX10_advance_133 : decode cX10_advance 133 = .ok (.invokestatic 152, 3) := dk_184 0 152 (dk_at dksX10_advance_5 14 rfl rfl)
theorem dX10_advance_136 : decode cX10_advance 136 = .ok (.ifCond .eq 78, 3) := dk_153 0 78 (dk_at dksX10_advance_5 17 rfl rfl)
theorem dX10_advance_139 : decode cX10_advance 139 = .ok (.aload_n 0, 1) := dk_42 (dk_at dksX10_advance_5 20 rfl rfl)
theorem dX10_advance_140 : decode cX10_advance 140 = .ok (.iconst 0, 1) := dk_3 (dk_at dksX10_advance_5 21 rfl rfl)
theorem dX10_advance_141 : decode cX10_advance 141 = .ok (.putfield 187, 3) := dk_181 0 187 (dk_at dksX10_advance_6 0 rfl rfl)
theorem dX10_advance_144 : decode cX10_advance 144 = .ok (.aload_n 0, 1) := dk_42 (dk_at dksX10_advance_6 3 rfl rfl)
theorem dX10_advance_145 : decode cX10_advance 145 = .ok (.aload_n 0, 1) := dk_42 (dk_at dksX10_advance_6 4 rfl rfl)
theorem dX10_advance_146 : decode cX10_advance 146 = .ok (.getfield 166, 3) := dk_180 0 166 (dk_at dksX10_advance_6 5 rfl rfl)
theorem dX10_advance_149 : decode cX10_advance 149 = .ok (.invokevirtual 169, 3) := dk_182 0 169 (dk_at dksX10_advance_6 8 rfl rfl)
theorem dX10_advance_152 : decode cX10_advance 152 = .ok (.i2l, 1) := dk_133 (dk_at dksX10_advance_6 11 rfl rfl)
theorem dX10_advance_153 : decode cX10_advance 153 = .ok (.ldc2_w 183, 3) := dk_20 0 183 (dk_at dksX10_advance_6 12 rfl rfl)
theorem dX10_advance_156 : decode cX10_advance 156 = .ok (.ldc2_w 185, 3) := dk_20 0 185 (dk_at dksX10_advance_6 15 rfl rfl)
theorem dX10_advance_159 : decode cX10_advance 159 = .ok (.invokestatic 152, 3) := dk_184 0 152 (dk_at dksX10_advance_6 18 rfl rfl)
theorem dX10_advance_162 : decode cX10_advance 162 = .ok (.ifCond .eq 44, 3) := dk_153 0 44 (dk_at dksX10_advance_6 21 rfl rfl)
theorem dX10_advance_165 : decode cX10_advance 165 = .ok (.aload_n 0, 1) := dk_42 (dk_at dksX10_advance_7 0 rfl rfl)
theorem dX10_advance_166 : decode cX10_advance 166 = .ok (.ldc 190, 2) := dk_18 190 (dk_at dksX10_advance_7 1 rfl rfl)
theorem dX10_advance_168 : decode cX10_advance 168 = .ok (.bipush 10, 2) := dk_16 10 (dk_at dksX10_advance_7 3 rfl rfl)
theorem dX10_advance_170 : decode cX10_advance 170 = .ok (.aload_n 0, 1) := dk_42 (dk_at dksX10_advance_7 5 rfl rfl)
theorem dX10_advance_171 : decode cX10_advance 171 = .ok (.getfield 187, 3) := dk_180 0 187 (dk_at dksX10_advance_7 6 rfl rfl)
theorem dX10_advance_174 : decode cX10_advance 174 = .ok (.imul, 1) := dk_104 (dk_at dksX10_advance_7 9 rfl rfl)
theorem dX10_advance_175 : decode cX10_advance 175 = .ok (.aload_n 0, 1) := dk_42 (dk_at dksX10_advance_7 10 rfl rfl)
theorem dX10_advance_176 : decode cX10_advance 176 = .ok (.aload_n 0, 1) := dk_42 (dk_at dksX10_advance_7 11 rfl rfl)
theorem dX10_advance_177 : decode cX10_advance 177 = .ok (.getfield 166, 3) := dk_180 0 166 (dk_at dksX10_advance_7 12 rfl rfl)
theorem dX10_advance_180 : decode cX10_advance 180 = .ok (.invokevirtual 169, 3) := dk_182 0 169 (dk_at dksX10_advance_7 15 rfl rfl)
theorem dX10_advance_183 : decode cX10_advance 183 = .ok (.iadd, 1) := dk_96 (dk_at dksX10_advance_7 18 rfl rfl)
theorem dX10_advance_184 : decode cX10_advance 184 = .ok (.bipush 48, 2) := dk_16 48 (dk_at dksX10_advance_7 19 rfl rfl)
theorem dX10_advance_186 : decode cX10_advance 186 = .ok (.isub, 1) := dk_100 (dk_at dksX10_advance_7 21 rfl rfl)
theorem dX10_advance_187 : decode cX10_advance 187 = .ok (.invokestatic 191, 3) := dk_184 0 191 (dk_at dksX10_advance_8 0 rfl rfl)
theorem dX10_advance_190 : decode cX10_advance 190 = .ok (.putfield 187, 3) := dk_181 0 187 (dk_at dksX10_advance_8 3 rfl rfl)
theorem dX10_advance_193 : decode cX10_advance 193 = .ok (.aload_n 0, 1) := dk_42 (dk_at dksX10_advance_8 6 rfl rfl)
theorem dX10_advance_194 : decode cX10_advance 194 = .ok (.dup, 1) := dk_89 (dk_at dksX10_advance_8 7 rfl rfl)
theorem dX10_advance_195 : decode cX10_advance 195 = .ok (.getfield 166, 3) := dk_180 0 166 (dk_at dksX10_advance_8 8 rfl rfl)
theorem dX10_advance_198 : decode cX10_advance 198 = .ok (.iconst 1, 1) := dk_4 (dk_at dksX10_advance_8 11 rfl rfl)
theorem dX10_advance_199 : decode cX10_advance 199 = .ok (.iadd, 1) := dk_96 (dk_at dksX10_advance_8 12 rfl rfl)
theorem dX10_advance_200 : decode cX10_advance 200 = .ok (.putfield 166, 3) := dk_181 0 166 (dk_at dksX10_advance_8 13 rfl rfl)
theorem dX10_advance_203 : decode cX10_advance 203 = .ok (.goto (-59), 3) := dk_167 255 197 (dk_at dksX10_advance_8 16 rfl rfl)
theorem dX10_advance_206 : decode cX10_advance 206 = .ok (.aload_n 0, 1) := dk_42 (dk_at dksX10_advance_8 19 rfl rfl)
theorem dX10_advance_207 : decode cX10_advance 207 = .ok (.iconst 2, 1) := dk_5 (dk_at dksX10_advance_8 20 rfl rfl)
theorem dX10_advance_208 : decode cX10_advance 208 = .ok (.putfield 176, 3) := dk_181 0 176 (dk_at dksX10_advance_8 21 rfl rfl)
theorem dX10_advance_211 : decode cX10_advance 211 = .ok (.goto 28, 3) := dk_167 0 28 (dk_at dksX10_advance_9 0 rfl rfl)
theorem dX10_advance_214 : decode cX10_advance 214 = .ok (.aload_n 0, 1) := dk_42 (dk_at dksX10_advance_9 3 rfl rfl)
theorem dX10_advance_215 : decode cX10_advance 215 = .ok (.iload_n 1, 1) := dk_27 (dk_at dksX10_advance_9 4 rfl rfl)
theorem dX10_advance_216 : decode cX10_advance 216 = .ok (.bipush 59, 2) := dk_16 59 (dk_at dksX10_advance_9 5 rfl rfl)
theorem dX10_advance_218 : decode cX10_advance 218 = .ok (.if_icmp .ne 7, 3) := dk_160 0 7 (dk_at dksX10_advance_9 7 rfl rfl)
theorem dX10_advance_221 : decode cX10_advance 221 = .ok (.iconst 3, 1) := dk_6 (dk_at dksX10_advance_9 10 rfl rfl)
theorem dX10_advance_222 : decode cX10_advance 222 = .ok (.goto 4, 3) := dk_167 0 4 (dk_at dksX10_advance_9 11 rfl rfl)
theorem dX10_advance_225 : decode cX10_advance 225 = .ok (.iconst 4, 1) := dk_7 (dk_at dksX10_advance_9 14 rfl rfl)
theorem dX10_advance_226 : decode cX10_advance 226 = .ok (.putfield 176, 3) := dk_181 0 176 (dk_at dksX10_advance_9 15 rfl rfl)
theorem dX10_advance_229 : decode cX10_advance 229 = .ok (.aload_n 0, 1) := dk_42 (dk_at dksX10_advance_9 18 rfl rfl)
theorem dX10_advance_230 : decode cX10_advance 230 = .ok (.dup, 1) := dk_89 (dk_at dksX10_advance_9 19 rfl rfl)
theorem dX10_advance_231 : decode cX10_advance 231 = .ok (.getfield 166, 3) := dk_180 0 166 (dk_at dksX10_advance_9 20 rfl rfl)
theorem dX10_advance_234 : decode cX10_advance 234 = .ok (.iconst 1, 1) := dk_4 (dk_at dksX10_advance_9 23 rfl rfl)
theorem dX10_advance_235 : decode cX10_advance 235 = .ok (.iadd, 1) := dk_96 (dk_at dksX10_advance_10 0 rfl rfl)
theorem dX10_advance_236 : decode cX10_advance 236 = .ok (.putfield 166, 3) := dk_181 0 166 (dk_at dksX10_advance_10 1 rfl rfl)
theorem dX10_advance_239 : decode cX10_advance 239 = .ok (.return_, 1) := dk_177 (dk_at dksX10_advance_10 4 rfl rfl)
abbrev cX10_see : ByteArray := prog_18_method_18_code
def yX10_see : MethodName := ⟨RX10, "see", "(I)I"⟩
def dkwX10_see_0 : List UInt8 := [27, 42, 180, 0, 163, 162, 0, 16, 42, 180, 0, 20, 27, 51, 17, 0, 255, 126, 167, 0, 4, 2, 172]
abbrev dktX10_see_0 : List UInt8 := dkwX10_see_0 ++ []
theorem dksX10_see_0 : cX10_see.data.toList.drop 0 = dktX10_see_0 := by decide +kernel
theorem dX10_see_0 : decode cX10_see 0 = .ok (.iload_n 1, 1) := dk_27 (dk_at dksX10_see_0 0 rfl rfl)
theorem dX10_see_1 : decode cX10_see 1 = .ok (.aload_n 0, 1) := dk_42 (dk_at dksX10_see_0 1 rfl rfl)
theorem dX10_see_2 : decode cX10_see 2 = .ok (.getfield 163, 3) := dk_180 0 163 (dk_at dksX10_see_0 2 rfl rfl)
theorem dX10_see_5 : decode cX10_see 5 = .ok (.if_icmp .ge 16, 3) := dk_162 0 16 (dk_at dksX10_see_0 5 rfl rfl)
theorem dX10_see_8 : decode cX10_see 8 = .ok (.aload_n 0, 1) := dk_42 (dk_at dksX10_see_0 8 rfl rfl)
theorem dX10_see_9 : decode cX10_see 9 = .ok (.getfield 20, 3) := dk_180 0 20 (dk_at dksX10_see_0 9 rfl rfl)
theorem dX10_see_12 : decode cX10_see 12 = .ok (.iload_n 1, 1) := dk_27 (dk_at dksX10_see_0 12 rfl rfl)
theorem dX10_see_13 : decode cX10_see 13 = .ok (.baload, 1) := dk_51 (dk_at dksX10_see_0 13 rfl rfl)
theorem dX10_see_14 : decode cX10_see 14 = .ok (.sipush 255, 3) := dk_17 0 255 (dk_at dksX10_see_0 14 rfl rfl)
theorem dX10_see_17 : decode cX10_see 17 = .ok (.iand, 1) := dk_126 (dk_at dksX10_see_0 17 rfl rfl)
theorem dX10_see_18 : decode cX10_see 18 = .ok (.goto 4, 3) := dk_167 0 4 (dk_at dksX10_see_0 18 rfl rfl)
theorem dX10_see_21 : decode cX10_see 21 = .ok (.iconst (-1), 1) := dk_2 (dk_at dksX10_see_0 21 rfl rfl)
theorem dX10_see_22 : decode cX10_see 22 = .ok (.ireturn, 1) := dk_172 (dk_at dksX10_see_0 22 rfl rfl)
abbrev cX10_good : ByteArray := prog_18_method_20_code
def yX10_good : MethodName := ⟨RX10, "good", "()Z"⟩
def dkwX10_good_0 : List UInt8 := [42, 180, 0, 196, 154, 0, 7, 4, 167, 0, 4, 3, 172]
abbrev dktX10_good_0 : List UInt8 := dkwX10_good_0 ++ []
theorem dksX10_good_0 : cX10_good.data.toList.drop 0 = dktX10_good_0 := by decide +kernel
theorem dX10_good_0 : decode cX10_good 0 = .ok (.aload_n 0, 1) := dk_42 (dk_at dksX10_good_0 0 rfl rfl)
theorem dX10_good_1 : decode cX10_good 1 = .ok (.getfield 196, 3) := dk_180 0 196 (dk_at dksX10_good_0 1 rfl rfl)
theorem dX10_good_4 : decode cX10_good 4 = .ok (.ifCond .ne 7, 3) := dk_154 0 7 (dk_at dksX10_good_0 4 rfl rfl)
theorem dX10_good_7 : decode cX10_good 7 = .ok (.iconst 1, 1) := dk_4 (dk_at dksX10_good_0 7 rfl rfl)
theorem dX10_good_8 : decode cX10_good 8 = .ok (.goto 4, 3) := dk_167 0 4 (dk_at dksX10_good_0 8 rfl rfl)
theorem dX10_good_11 : decode cX10_good 11 = .ok (.iconst 0, 1) := dk_3 (dk_at dksX10_good_0 11 rfl rfl)
theorem dX10_good_12 : decode cX10_good 12 = .ok (.ireturn, 1) := dk_172 (dk_at dksX10_good_0 12 rfl rfl)
abbrev cX10_readText : ByteArray := prog_18_method_37_code
def yX10_readText : MethodName := ⟨RX10, "readText", "()V"⟩
def dkwX10_readText_5 : List UInt8 := [153, 0, 7, 42, 182, 0, 217, 42, 180, 0, 31, 16, 7, 92, 46, 4, 96, 79, 177]
abbrev dktX10_readText_5 : List UInt8 := dkwX10_readText_5 ++ []
def dkwX10_readText_4 : List UInt8 := [182, 0, 199, 153, 0, 16, 42, 180, 0, 176, 6, 159, 0, 8, 42, 4, 182, 0, 220, 42, 182, 0, 199]
abbrev dktX10_readText_4 : List UInt8 := dkwX10_readText_4 ++ dktX10_readText_5
def dkwX10_readText_3 : List UInt8 := [167, 0, 21, 27, 2, 159, 0, 11, 42, 27, 182, 1, 55, 167, 0, 8, 42, 4, 182, 0, 220, 42]
abbrev dktX10_readText_3 : List UInt8 := dkwX10_readText_3 ++ dktX10_readText_4
def dkwX10_readText_2 : List UInt8 := [153, 0, 10, 42, 182, 1, 49, 167, 0, 38, 42, 19, 1, 28, 182, 0, 213, 153, 0, 10, 42, 182, 1, 52]
abbrev dktX10_readText_2 : List UInt8 := dkwX10_readText_2 ++ dktX10_readText_3
def dkwX10_readText_1 : List UInt8 := [19, 1, 42, 182, 0, 213, 153, 0, 10, 42, 182, 1, 44, 167, 0, 55, 42, 19, 1, 47, 182, 0, 213]
abbrev dktX10_readText_1 : List UInt8 := dkwX10_readText_1 ++ dktX10_readText_2
def dkwX10_readText_0 : List UInt8 := [42, 182, 1, 36, 60, 42, 180, 0, 31, 16, 7, 46, 154, 0, 10, 42, 182, 1, 39, 167, 0, 72, 42]
abbrev dktX10_readText_0 : List UInt8 := dkwX10_readText_0 ++ dktX10_readText_1
theorem dksX10_readText_0 : cX10_readText.data.toList.drop 0 = dktX10_readText_0 := by decide +kernel
theorem dksX10_readText_1 : cX10_readText.data.toList.drop 23 = dktX10_readText_1 := dk_seg dksX10_readText_0 23 rfl rfl
theorem dksX10_readText_2 : cX10_readText.data.toList.drop 46 = dktX10_readText_2 := dk_seg dksX10_readText_1 23 rfl rfl
theorem dksX10_readText_3 : cX10_readText.data.toList.drop 70 = dktX10_readText_3 := dk_seg dksX10_readText_2 24 rfl rfl
theorem dksX10_readText_4 : cX10_readText.data.toList.drop 92 = dktX10_readText_4 := dk_seg dksX10_readText_3 22 rfl rfl
theorem dksX10_readText_5 : cX10_readText.data.toList.drop 115 = dktX10_readText_5 := dk_seg dksX10_readText_4 23 rfl rfl
theorem dX10_readText_0 : decode cX10_readText 0 = .ok (.aload_n 0, 1) := dk_42 (dk_at dksX10_readText_0 0 rfl rfl)
theorem dX10_readText_1 : decode cX10_readText 1 = .ok (.invokevirtual 292, 3) := dk_182 1 36 (dk_at dksX10_readText_0 1 rfl rfl)
theorem dX10_readText_4 : decode cX10_readText 4 = .ok (.istore_n 1, 1) := dk_60 (dk_at dksX10_readText_0 4 rfl rfl)
theorem dX10_readText_5 : decode cX10_readText 5 = .ok (.aload_n 0, 1) := dk_42 (dk_at dksX10_readText_0 5 rfl rfl)
theorem dX10_readText_6 : decode cX10_readText 6 = .ok (.getfield 31, 3) := dk_180 0 31 (dk_at dksX10_readText_0 6 rfl rfl)
theorem dX10_readText_9 : decode cX10_readText 9 = .ok (.bipush 7, 2) := dk_16 7 (dk_at dksX10_readText_0 9 rfl rfl)
theorem dX10_readText_11 : decode cX10_readText 11 = .ok (.iaload, 1) := dk_46 (dk_at dksX10_readText_0 11 rfl rfl)
theorem dX10_readText_12 : decode cX10_readText 12 = .ok (.ifCond .ne 10, 3) := dk_154 0 10 (dk_at dksX10_readText_0 12 rfl rfl)
theorem dX10_readText_15 : decode cX10_readText 15 = .ok (.aload_n 0, 1) := dk_42 (dk_at dksX10_readText_0 15 rfl rfl)
theorem dX10_readText_16 : decode cX10_readText 16 = .ok (.invokevirtual 295, 3) := dk_182 1 39 (dk_at dksX10_readText_0 16 rfl rfl)
theorem dX10_readText_19 : decode cX10_readText 19 = .ok (.goto 72, 3) := dk_167 0 72 (dk_at dksX10_readText_0 19 rfl rfl)
theorem dX10_readText_22 : decode cX10_readText 22 = .ok (.aload_n 0, 1) := dk_42 (dk_at dksX10_readText_0 22 rfl rfl)
theorem dX10_readText_23 : decode cX10_readText 23 = .ok (.ldc_w 298, 3) := dk_19 1 42 (dk_at dksX10_readText_1 0 rfl rfl)
theorem dX10_readText_26 : decode cX10_readText 26 = .ok (.invokevirtual 213, 3) := dk_182 0 213 (dk_at dksX10_readText_1 3 rfl rfl)
theorem dX10_readText_29 : decode cX10_readText 29 = .ok (.ifCond .eq 10, 3) := dk_153 0 10 (dk_at dksX10_readText_1 6 rfl rfl)
theorem dX10_readText_32 : decode cX10_readText 32 = .ok (.aload_n 0, 1) := dk_42 (dk_at dksX10_readText_1 9 rfl rfl)
theorem dX10_readText_33 : decode cX10_readText 33 = .ok (.invokevirtual 300, 3) := dk_182 1 44 (dk_at dksX10_readText_1 10 rfl rfl)
theorem dX10_readText_36 : decode cX10_readText 36 = .ok (.goto 55, 3) := dk_167 0 55 (dk_at dksX10_readText_1 13 rfl rfl)
theorem dX10_readText_39 : decode cX10_readText 39 = .ok (.aload_n 0, 1) := dk_42 (dk_at dksX10_readText_1 16 rfl rfl)
theorem dX10_readText_40 : decode cX10_readText 40 = .ok (.ldc_w 303, 3) := dk_19 1 47 (dk_at dksX10_readText_1 17 rfl rfl)
theorem dX10_readText_43 : decode cX10_readText 43 = .ok (.invokevirtual 213, 3) := dk_182 0 213 (dk_at dksX10_readText_1 20 rfl rfl)
theorem dX10_readText_46 : decode cX10_readText 46 = .ok (.ifCond .eq 10, 3) := dk_153 0 10 (dk_at dksX10_readText_2 0 rfl rfl)
theorem dX10_readText_49 : decode cX10_readText 49 = .ok (.aload_n 0, 1) := dk_42 (dk_at dksX10_readText_2 3 rfl rfl)
theorem dX10_readText_50 : decode cX10_readText 50 = .ok (.invokevirtual 305, 3) := dk_182 1 49 (dk_at dksX10_readText_2 4 rfl rfl)
theorem dX10_readText_53 : decode cX10_readText 53 = .ok (.goto 38, 3) := dk_167 0 38 (dk_at dksX10_readText_2 7 rfl rfl)
theorem dX10_readText_56 : decode cX10_readText 56 = .ok (.aload_n 0, 1) := dk_42 (dk_at dksX10_readText_2 10 rfl rfl)
theorem dX10_readText_57 : decode cX10_readText 57 = .ok (.ldc_w 284, 3) := dk_19 1 28 (dk_at dksX10_readText_2 11 rfl rfl)
theorem dX10_readText_60 : decode cX10_readText 60 = .ok (.invokevirtual 213, 3) := dk_182 0 213 (dk_at dksX10_readText_2 14 rfl rfl)
theorem dX10_readText_63 : decode cX10_readText 63 = .ok (.ifCond .eq 10, 3) := dk_153 0 10 (dk_at dksX10_readText_2 17 rfl rfl)
theorem dX10_readText_66 : decode cX10_readText 66 = .ok (.aload_n 0, 1) := dk_42 (dk_at dksX10_readText_2 20 rfl rfl)
theorem dX10_readText_67 : decode cX10_readText 67 = .ok (.invokevirtual 308, 3) := dk_182 1 52 (dk_at dksX10_readText_2 21 rfl rfl)
theorem dX10_readText_70 : decode cX10_readText 70 = .ok (.goto 21, 3) := dk_167 0 21 (dk_at dksX10_readText_3 0 rfl rfl)
theorem dX10_readText_73 : decode cX10_readText 73 = .ok (.iload_n 1, 1) := dk_27 (dk_at dksX10_readText_3 3 rfl rfl)
theorem dX10_readText_74 : decode cX10_readText 74 = .ok (.iconst (-1), 1) := dk_2 (dk_at dksX10_readText_3 4 rfl rfl)
theorem dX10_readText_75 : decode cX10_readText 75 = .ok (.if_icmp .eq 11, 3) := dk_159 0 11 (dk_at dksX10_readText_3 5 rfl rfl)
theorem dX10_readText_78 : decode cX10_readText 78 = .ok (.aload_n 0, 1) := dk_42 (dk_at dksX10_readText_3 8 rfl rfl)
theorem dX10_readText_79 : decode cX10_readText 79 = .ok (.iload_n 1, 1) := dk_27 (dk_at dksX10_readText_3 9 rfl rfl)
theorem dX10_readText_80 : decode cX10_readText 80 = .ok (.invokevirtual 311, 3) := dk_182 1 55 (dk_at dksX10_readText_3 10 rfl rfl)
theorem dX10_readText_83 : decode cX10_readText 83 = .ok (.goto 8, 3) := dk_167 0 8 (dk_at dksX10_readText_3 13 rfl rfl)
theorem dX10_readText_86 : decode cX10_readText 86 = .ok (.aload_n 0, 1) := dk_42 (dk_at dksX10_readText_3 16 rfl rfl)
theorem dX10_readText_87 : decode cX10_readText 87 = .ok (.iconst 1, 1) := dk_4 (dk_at dksX10_readText_3 17 rfl rfl)
theorem dX10_readText_88 : decode cX10_readText 88 = .ok (.invokevirtual 220, 3) := dk_182 0 220 (dk_at dksX10_readText_3 18 rfl rfl)
theorem dX10_readText_91 : decode cX10_readText 91 = .ok (.aload_n 0, 1) := dk_42 (dk_at dksX10_readText_3 21 rfl rfl)
theorem dX10_readText_92 : decode cX10_readText 92 = .ok (.invokevirtual 199, 3) := dk_182 0 199 (dk_at dksX10_readText_4 0 rfl rfl)
theorem dX10_readText_95 : decode cX10_readText 95 = .ok (.ifCond .eq 16, 3) := dk_153 0 16 (dk_at dksX10_readText_4 3 rfl rfl)
theorem dX10_readText_98 : decode cX10_readText 98 = .ok (.aload_n 0, 1) := dk_42 (dk_at dksX10_readText_4 6 rfl rfl)
theorem dX10_readText_99 : decode cX10_readText 99 = .ok (.getfield 176, 3) := dk_180 0 176 (dk_at dksX10_readText_4 7 rfl rfl)
theorem dX10_readText_102 : decode cX10_readText 102 = .ok (.iconst 3, 1) := dk_6 (dk_at dksX10_readText_4 10 rfl rfl)
theorem dX10_readText_103 : decode cX10_readText 103 = .ok (.if_icmp .eq 8, 3) := dk_159 0 8 (dk_at dksX10_readText_4 11 rfl rfl)
theorem dX10_readText_106 : decode cX10_readText 106 = .ok (.aload_n 0, 1) := dk_42 (dk_at dksX10_readText_4 14 rfl rfl)
theorem dX10_readText_107 : decode cX10_readText 107 = .ok (.iconst 1, 1) := dk_4 (dk_at dksX10_readText_4 15 rfl rfl)
theorem dX10_readText_108 : decode cX10_readText 108 = .ok (.invokevirtual 220, 3) := dk_182 0 220 (dk_at dksX10_readText_4 16 rfl rfl)
theorem dX10_readText_111 : decode cX10_readText 111 = .ok (.aload_n 0, 1) := dk_42 (dk_at dksX10_readText_4 19 rfl rfl)
theorem dX10_readText_112 : decode cX10_readText 112 = .ok (.invokevirtual 199, 3) := dk_182 0 199 (dk_at dksX10_readText_4 20 rfl rfl)
theorem dX10_readText_115 : decode cX10_readText 115 = .ok (.ifCond .eq 7, 3) := dk_153 0 7 (dk_at dksX10_readText_5 0 rfl rfl)
theorem dX10_readText_118 : decode cX10_readText 118 = .ok (.aload_n 0, 1) := dk_42 (dk_at dksX10_readText_5 3 rfl rfl)
theorem dX10_readText_119 : decode cX10_readText 119 = .ok (.invokevirtual 217, 3) := dk_182 0 217 (dk_at dksX10_readText_5 4 rfl rfl)
theorem dX10_readText_122 : decode cX10_readText 122 = .ok (.aload_n 0, 1) := dk_42 (dk_at dksX10_readText_5 7 rfl rfl)
theorem dX10_readText_123 : decode cX10_readText 123 = .ok (.getfield 31, 3) := dk_180 0 31 (dk_at dksX10_readText_5 8 rfl rfl)
theorem dX10_readText_126 : decode cX10_readText 126 = .ok (.bipush 7, 2) := dk_16 7 (dk_at dksX10_readText_5 11 rfl rfl)
theorem dX10_readText_128 : decode cX10_readText 128 = .ok (.dup2, 1) := dk_92 (dk_at dksX10_readText_5 13 rfl rfl)
theorem dX10_readText_129 : decode cX10_readText 129 = .ok (.iaload, 1) := dk_46 (dk_at dksX10_readText_5 14 rfl rfl)
theorem dX10_readText_130 : decode cX10_readText 130 = .ok (.iconst 1, 1) := dk_4 (dk_at dksX10_readText_5 15 rfl rfl)
theorem dX10_readText_131 : decode cX10_readText 131 = .ok (.iadd, 1) := dk_96 (dk_at dksX10_readText_5 16 rfl rfl)
theorem dX10_readText_132 : decode cX10_readText 132 = .ok (.iastore, 1) := dk_79 (dk_at dksX10_readText_5 17 rfl rfl)
theorem dX10_readText_133 : decode cX10_readText 133 = .ok (.return_, 1) := dk_177 (dk_at dksX10_readText_5 18 rfl rfl)
abbrev cX10_kindRead : ByteArray := prog_18_method_36_code
def yX10_kindRead : MethodName := ⟨RX10, "kindRead", "()I"⟩
def dkwX10_kindRead_1 : List UInt8 := [167, 255, 235, 2, 172]
abbrev dktX10_kindRead_1 : List UInt8 := dkwX10_kindRead_1 ++ []
def dkwX10_kindRead_0 : List UInt8 := [3, 60, 27, 8, 163, 0, 22, 42, 27, 184, 1, 32, 182, 0, 213, 153, 0, 5, 27, 172, 132, 1, 1]
abbrev dktX10_kindRead_0 : List UInt8 := dkwX10_kindRead_0 ++ dktX10_kindRead_1
theorem dksX10_kindRead_0 : cX10_kindRead.data.toList.drop 0 = dktX10_kindRead_0 := by decide +kernel
theorem dksX10_kindRead_1 : cX10_kindRead.data.toList.drop 23 = dktX10_kindRead_1 := dk_seg dksX10_kindRead_0 23 rfl rfl
theorem dX10_kindRead_0 : decode cX10_kindRead 0 = .ok (.iconst 0, 1) := dk_3 (dk_at dksX10_kindRead_0 0 rfl rfl)
theorem dX10_kindRead_1 : decode cX10_kindRead 1 = .ok (.istore_n 1, 1) := dk_60 (dk_at dksX10_kindRead_0 1 rfl rfl)
theorem dX10_kindRead_2 : decode cX10_kindRead 2 = .ok (.iload_n 1, 1) := dk_27 (dk_at dksX10_kindRead_0 2 rfl rfl)
theorem dX10_kindRead_3 : decode cX10_kindRead 3 = .ok (.iconst 5, 1) := dk_8 (dk_at dksX10_kindRead_0 3 rfl rfl)
theorem dX10_kindRead_4 : decode cX10_kindRead 4 = .ok (.if_icmp .gt 22, 3) := dk_163 0 22 (dk_at dksX10_kindRead_0 4 rfl rfl)
theorem dX10_kindRead_7 : decode cX10_kindRead 7 = .ok (.aload_n 0, 1) := dk_42 (dk_at dksX10_kindRead_0 7 rfl rfl)
theorem dX10_kindRead_8 : decode cX10_kindRead 8 = .ok (.iload_n 1, 1) := dk_27 (dk_at dksX10_kindRead_0 8 rfl rfl)
theorem dX10_kindRead_9 : decode cX10_kindRead 9 = .ok (.invokestatic 288, 3) := dk_184 1 32 (dk_at dksX10_kindRead_0 9 rfl rfl)
theorem dX10_kindRead_12 : decode cX10_kindRead 12 = .ok (.invokevirtual 213, 3) := dk_182 0 213 (dk_at dksX10_kindRead_0 12 rfl rfl)
theorem dX10_kindRead_15 : decode cX10_kindRead 15 = .ok (.ifCond .eq 5, 3) := dk_153 0 5 (dk_at dksX10_kindRead_0 15 rfl rfl)
theorem dX10_kindRead_18 : decode cX10_kindRead 18 = .ok (.iload_n 1, 1) := dk_27 (dk_at dksX10_kindRead_0 18 rfl rfl)
theorem dX10_kindRead_19 : decode cX10_kindRead 19 = .ok (.ireturn, 1) := dk_172 (dk_at dksX10_kindRead_0 19 rfl rfl)
theorem dX10_kindRead_20 : decode cX10_kindRead 20 = .ok (.iinc 1 1, 3) := dk_132 1 1 (dk_at dksX10_kindRead_0 20 rfl rfl)
theorem dX10_kindRead_23 : decode cX10_kindRead 23 = .ok (.goto (-21), 3) := dk_167 255 235 (dk_at dksX10_kindRead_1 0 rfl rfl)
theorem dX10_kindRead_26 : decode cX10_kindRead 26 = .ok (.iconst (-1), 1) := dk_2 (dk_at dksX10_kindRead_1 3 rfl rfl)
theorem dX10_kindRead_27 : decode cX10_kindRead 27 = .ok (.ireturn, 1) := dk_172 (dk_at dksX10_kindRead_1 4 rfl rfl)
abbrev cX10_wordOf : ByteArray := prog_18_method_33_code
def yX10_wordOf : MethodName := ⟨RX10, "wordOf", "(I)Ljava/lang/String;"⟩
def dkwX10_wordOf_2 : List UInt8 := [19, 1, 10, 176, 19, 1, 12, 176, 19, 1, 14, 176, 19, 1, 16, 176, 19, 1, 18, 176, 19, 1, 20, 176]
abbrev dktX10_wordOf_2 : List UInt8 := dkwX10_wordOf_2 ++ []
def dkwX10_wordOf_1 : List UInt8 := [170, 0, 0, 0, 0, 0, 55, 0, 0, 0, 0, 0, 0, 0, 4, 0, 0, 0, 35, 0, 0, 0, 39, 0, 0, 0, 43, 0, 0, 0, 47, 0, 0, 0, 51]
abbrev dktX10_wordOf_1 : List UInt8 := dkwX10_wordOf_1 ++ dktX10_wordOf_2
def dkwX10_wordOf_0 : List UInt8 := [26]
abbrev dktX10_wordOf_0 : List UInt8 := dkwX10_wordOf_0 ++ dktX10_wordOf_1
theorem dksX10_wordOf_0 : cX10_wordOf.data.toList.drop 0 = dktX10_wordOf_0 := by decide +kernel
theorem dksX10_wordOf_1 : cX10_wordOf.data.toList.drop 1 = dktX10_wordOf_1 := dk_seg dksX10_wordOf_0 1 rfl rfl
theorem dksX10_wordOf_2 : cX10_wordOf.data.toList.drop 36 = dktX10_wordOf_2 := dk_seg dksX10_wordOf_1 35 rfl rfl
theorem dX10_wordOf_0 : decode cX10_wordOf 0 = .ok (.iload_n 0, 1) := dk_26 (dk_at dksX10_wordOf_0 0 rfl rfl)
theorem dX10_wordOf_1 : decode cX10_wordOf 1 = .ok (.tableswitch 55 0 4 #[35, 39, 43, 47, 51], 35) := by decide +kernel
theorem dX10_wordOf_36 : decode cX10_wordOf 36 = .ok (.ldc_w 266, 3) := dk_19 1 10 (dk_at dksX10_wordOf_2 0 rfl rfl)
theorem dX10_wordOf_39 : decode cX10_wordOf 39 = .ok (.areturn, 1) := dk_176 (dk_at dksX10_wordOf_2 3 rfl rfl)
theorem dX10_wordOf_40 : decode cX10_wordOf 40 = .ok (.ldc_w 268, 3) := dk_19 1 12 (dk_at dksX10_wordOf_2 4 rfl rfl)
theorem dX10_wordOf_43 : decode cX10_wordOf 43 = .ok (.areturn, 1) := dk_176 (dk_at dksX10_wordOf_2 7 rfl rfl)
theorem dX10_wordOf_44 : decode cX10_wordOf 44 = .ok (.ldc_w 270, 3) := dk_19 1 14 (dk_at dksX10_wordOf_2 8 rfl rfl)
theorem dX10_wordOf_47 : decode cX10_wordOf 47 = .ok (.areturn, 1) := dk_176 (dk_at dksX10_wordOf_2 11 rfl rfl)
theorem dX10_wordOf_48 : decode cX10_wordOf 48 = .ok (.ldc_w 272, 3) := dk_19 1 16 (dk_at dksX10_wordOf_2 12 rfl rfl)
theorem dX10_wordOf_51 : decode cX10_wordOf 51 = .ok (.areturn, 1) := dk_176 (dk_at dksX10_wordOf_2 15 rfl rfl)
theorem dX10_wordOf_52 : decode cX10_wordOf 52 = .ok (.ldc_w 274, 3) := dk_19 1 18 (dk_at dksX10_wordOf_2 16 rfl rfl)
theorem dX10_wordOf_55 : decode cX10_wordOf 55 = .ok (.areturn, 1) := dk_176 (dk_at dksX10_wordOf_2 19 rfl rfl)
theorem dX10_wordOf_56 : decode cX10_wordOf 56 = .ok (.ldc_w 276, 3) := dk_19 1 20 (dk_at dksX10_wordOf_2 20 rfl rfl)
theorem dX10_wordOf_59 : decode cX10_wordOf 59 = .ok (.areturn, 1) := dk_176 (dk_at dksX10_wordOf_2 23 rfl rfl)
abbrev cX10_is : ByteArray := prog_18_method_22_code
def yX10_is : MethodName := ⟨RX10, "is", "(Ljava/lang/String;)Z"⟩
def dkwX10_is_3 : List UInt8 := [167, 0, 4, 3, 61, 132, 3, 1, 167, 255, 216, 28, 172]
abbrev dktX10_is_3 : List UInt8 := dkwX10_is_3 ++ []
def dkwX10_is_2 : List UInt8 := [153, 0, 34, 42, 180, 0, 20, 42, 180, 0, 173, 29, 96, 51, 43, 29, 182, 0, 209, 160, 0, 7, 4]
abbrev dktX10_is_2 : List UInt8 := dkwX10_is_2 ++ dktX10_is_3
def dkwX10_is_1 : List UInt8 := [43, 182, 0, 203, 160, 0, 7, 4, 167, 0, 4, 3, 61, 3, 62, 29, 43, 182, 0, 203, 162, 0, 38, 28]
abbrev dktX10_is_1 : List UInt8 := dkwX10_is_1 ++ dktX10_is_2
def dkwX10_is_0 : List UInt8 := [42, 182, 0, 199, 153, 0, 31, 42, 180, 0, 176, 4, 160, 0, 23, 42, 180, 0, 166, 42, 180, 0, 173, 100]
abbrev dktX10_is_0 : List UInt8 := dkwX10_is_0 ++ dktX10_is_1
theorem dksX10_is_0 : cX10_is.data.toList.drop 0 = dktX10_is_0 := by decide +kernel
theorem dksX10_is_1 : cX10_is.data.toList.drop 24 = dktX10_is_1 := dk_seg dksX10_is_0 24 rfl rfl
theorem dksX10_is_2 : cX10_is.data.toList.drop 48 = dktX10_is_2 := dk_seg dksX10_is_1 24 rfl rfl
theorem dksX10_is_3 : cX10_is.data.toList.drop 71 = dktX10_is_3 := dk_seg dksX10_is_2 23 rfl rfl
theorem dX10_is_0 : decode cX10_is 0 = .ok (.aload_n 0, 1) := dk_42 (dk_at dksX10_is_0 0 rfl rfl)
theorem dX10_is_1 : decode cX10_is 1 = .ok (.invokevirtual 199, 3) := dk_182 0 199 (dk_at dksX10_is_0 1 rfl rfl)
theorem dX10_is_4 : decode cX10_is 4 = .ok (.ifCond .eq 31, 3) := dk_153 0 31 (dk_at dksX10_is_0 4 rfl rfl)
theorem dX10_is_7 : decode cX10_is 7 = .ok (.aload_n 0, 1) := dk_42 (dk_at dksX10_is_0 7 rfl rfl)
theorem dX10_is_8 : decode cX10_is 8 = .ok (.getfield 176, 3) := dk_180 0 176 (dk_at dksX10_is_0 8 rfl rfl)
theorem dX10_is_11 : decode cX10_is 11 = .ok (.iconst 1, 1) := dk_4 (dk_at dksX10_is_0 11 rfl rfl)
theorem dX10_is_12 : decode cX10_is 12 = .ok (.if_icmp .ne 23, 3) := dk_160 0 23 (dk_at dksX10_is_0 12 rfl rfl)
theorem dX10_is_15 : decode cX10_is 15 = .ok (.aload_n 0, 1) := dk_42 (dk_at dksX10_is_0 15 rfl rfl)
theorem dX10_is_16 : decode cX10_is 16 = .ok (.getfield 166, 3) := dk_180 0 166 (dk_at dksX10_is_0 16 rfl rfl)
theorem dX10_is_19 : decode cX10_is 19 = .ok (.aload_n 0, 1) := dk_42 (dk_at dksX10_is_0 19 rfl rfl)
theorem dX10_is_20 : decode cX10_is 20 = .ok (.getfield 173, 3) := dk_180 0 173 (dk_at dksX10_is_0 20 rfl rfl)
theorem dX10_is_23 : decode cX10_is 23 = .ok (.isub, 1) := dk_100 (dk_at dksX10_is_0 23 rfl rfl)
theorem dX10_is_24 : decode cX10_is 24 = .ok (.aload_n 1, 1) := dk_43 (dk_at dksX10_is_1 0 rfl rfl)
theorem dX10_is_25 : decode cX10_is 25 = .ok (.invokevirtual 203, 3) := dk_182 0 203 (dk_at dksX10_is_1 1 rfl rfl)
theorem dX10_is_28 : decode cX10_is 28 = .ok (.if_icmp .ne 7, 3) := dk_160 0 7 (dk_at dksX10_is_1 4 rfl rfl)
theorem dX10_is_31 : decode cX10_is 31 = .ok (.iconst 1, 1) := dk_4 (dk_at dksX10_is_1 7 rfl rfl)
theorem dX10_is_32 : decode cX10_is 32 = .ok (.goto 4, 3) := dk_167 0 4 (dk_at dksX10_is_1 8 rfl rfl)
theorem dX10_is_35 : decode cX10_is 35 = .ok (.iconst 0, 1) := dk_3 (dk_at dksX10_is_1 11 rfl rfl)
theorem dX10_is_36 : decode cX10_is 36 = .ok (.istore_n 2, 1) := dk_61 (dk_at dksX10_is_1 12 rfl rfl)
theorem dX10_is_37 : decode cX10_is 37 = .ok (.iconst 0, 1) := dk_3 (dk_at dksX10_is_1 13 rfl rfl)
theorem dX10_is_38 : decode cX10_is 38 = .ok (.istore_n 3, 1) := dk_62 (dk_at dksX10_is_1 14 rfl rfl)
theorem dX10_is_39 : decode cX10_is 39 = .ok (.iload_n 3, 1) := dk_29 (dk_at dksX10_is_1 15 rfl rfl)
theorem dX10_is_40 : decode cX10_is 40 = .ok (.aload_n 1, 1) := dk_43 (dk_at dksX10_is_1 16 rfl rfl)
theorem dX10_is_41 : decode cX10_is 41 = .ok (.invokevirtual 203, 3) := dk_182 0 203 (dk_at dksX10_is_1 17 rfl rfl)
theorem dX10_is_44 : decode cX10_is 44 = .ok (.if_icmp .ge 38, 3) := dk_162 0 38 (dk_at dksX10_is_1 20 rfl rfl)
theorem dX10_is_47 : decode cX10_is 47 = .ok (.iload_n 2, 1) := dk_28 (dk_at dksX10_is_1 23 rfl rfl)
theorem dX10_is_48 : decode cX10_is 48 = .ok (.ifCond .eq 34, 3) := dk_153 0 34 (dk_at dksX10_is_2 0 rfl rfl)
theorem dX10_is_51 : decode cX10_is 51 = .ok (.aload_n 0, 1) := dk_42 (dk_at dksX10_is_2 3 rfl rfl)
theorem dX10_is_52 : decode cX10_is 52 = .ok (.getfield 20, 3) := dk_180 0 20 (dk_at dksX10_is_2 4 rfl rfl)
theorem dX10_is_55 : decode cX10_is 55 = .ok (.aload_n 0, 1) := dk_42 (dk_at dksX10_is_2 7 rfl rfl)
theorem dX10_is_56 : decode cX10_is 56 = .ok (.getfield 173, 3) := dk_180 0 173 (dk_at dksX10_is_2 8 rfl rfl)
theorem dX10_is_59 : decode cX10_is 59 = .ok (.iload_n 3, 1) := dk_29 (dk_at dksX10_is_2 11 rfl rfl)
theorem dX10_is_60 : decode cX10_is 60 = .ok (.iadd, 1) := dk_96 (dk_at dksX10_is_2 12 rfl rfl)
theorem dX10_is_61 : decode cX10_is 61 = .ok (.baload, 1) := dk_51 (dk_at dksX10_is_2 13 rfl rfl)
theorem dX10_is_62 : decode cX10_is 62 = .ok (.aload_n 1, 1) := dk_43 (dk_at dksX10_is_2 14 rfl rfl)
theorem dX10_is_63 : decode cX10_is 63 = .ok (.iload_n 3, 1) := dk_29 (dk_at dksX10_is_2 15 rfl rfl)
theorem dX10_is_64 : decode cX10_is 64 = .ok (.invokevirtual 209, 3) := dk_182 0 209 (dk_at dksX10_is_2 16 rfl rfl)
theorem dX10_is_67 : decode cX10_is 67 = .ok (.if_icmp .ne 7, 3) := dk_160 0 7 (dk_at dksX10_is_2 19 rfl rfl)
theorem dX10_is_70 : decode cX10_is 70 = .ok (.iconst 1, 1) := dk_4 (dk_at dksX10_is_2 22 rfl rfl)
theorem dX10_is_71 : decode cX10_is 71 = .ok (.goto 4, 3) := dk_167 0 4 (dk_at dksX10_is_3 0 rfl rfl)
theorem dX10_is_74 : decode cX10_is 74 = .ok (.iconst 0, 1) := dk_3 (dk_at dksX10_is_3 3 rfl rfl)
theorem dX10_is_75 : decode cX10_is 75 = .ok (.istore_n 2, 1) := dk_61 (dk_at dksX10_is_3 4 rfl rfl)
theorem dX10_is_76 : decode cX10_is 76 = .ok (.iinc 3 1, 3) := dk_132 3 1 (dk_at dksX10_is_3 5 rfl rfl)
theorem dX10_is_79 : decode cX10_is 79 = .ok (.goto (-40), 3) := dk_167 255 216 (dk_at dksX10_is_3 8 rfl rfl)
theorem dX10_is_82 : decode cX10_is 82 = .ok (.iload_n 2, 1) := dk_28 (dk_at dksX10_is_3 11 rfl rfl)
theorem dX10_is_83 : decode cX10_is 83 = .ok (.ireturn, 1) := dk_172 (dk_at dksX10_is_3 12 rfl rfl)
abbrev cX10_readBoard : ByteArray := prog_18_method_27_code
def yX10_readBoard : MethodName := ⟨RX10, "readBoard", "()V"⟩
def dkwX10_readBoard_2 : List UInt8 := [16, 9, 182, 0, 235, 79, 177]
abbrev dktX10_readBoard_2 : List UInt8 := dkwX10_readBoard_2 ++ []
def dkwX10_readBoard_1 : List UInt8 := [180, 0, 31, 4, 42, 18, 239, 8, 16, 50, 182, 0, 235, 79, 42, 180, 0, 31, 5, 42, 18, 241, 3]
abbrev dktX10_readBoard_1 : List UInt8 := dkwX10_readBoard_1 ++ dktX10_readBoard_2
def dkwX10_readBoard_0 : List UInt8 := [42, 18, 231, 182, 0, 224, 42, 180, 0, 31, 3, 42, 18, 233, 16, 20, 17, 0, 200, 182, 0, 235, 79, 42]
abbrev dktX10_readBoard_0 : List UInt8 := dkwX10_readBoard_0 ++ dktX10_readBoard_1
theorem dksX10_readBoard_0 : cX10_readBoard.data.toList.drop 0 = dktX10_readBoard_0 := by decide +kernel
theorem dksX10_readBoard_1 : cX10_readBoard.data.toList.drop 24 = dktX10_readBoard_1 := dk_seg dksX10_readBoard_0 24 rfl rfl
theorem dksX10_readBoard_2 : cX10_readBoard.data.toList.drop 47 = dktX10_readBoard_2 := dk_seg dksX10_readBoard_1 23 rfl rfl
theorem dX10_readBoard_0 : decode cX10_readBoard 0 = .ok (.aload_n 0, 1) := dk_42 (dk_at dksX10_readBoard_0 0 rfl rfl)
theorem dX10_readBoard_1 : decode cX10_readBoard 1 = .ok (.ldc 231, 2) := dk_18 231 (dk_at dksX10_readBoard_0 1 rfl rfl)
theorem dX10_readBoard_3 : decode cX10_readBoard 3 = .ok (.invokevirtual 224, 3) := dk_182 0 224 (dk_at dksX10_readBoard_0 3 rfl rfl)
theorem dX10_readBoard_6 : decode cX10_readBoard 6 = .ok (.aload_n 0, 1) := dk_42 (dk_at dksX10_readBoard_0 6 rfl rfl)
theorem dX10_readBoard_7 : decode cX10_readBoard 7 = .ok (.getfield 31, 3) := dk_180 0 31 (dk_at dksX10_readBoard_0 7 rfl rfl)
theorem dX10_readBoard_10 : decode cX10_readBoard 10 = .ok (.iconst 0, 1) := dk_3 (dk_at dksX10_readBoard_0 10 rfl rfl)
theorem dX10_readBoard_11 : decode cX10_readBoard 11 = .ok (.aload_n 0, 1) := dk_42 (dk_at dksX10_readBoard_0 11 rfl rfl)
theorem dX10_readBoard_12 : decode cX10_readBoard 12 = .ok (.ldc 233, 2) := dk_18 233 (dk_at dksX10_readBoard_0 12 rfl rfl)
theorem dX10_readBoard_14 : decode cX10_readBoard 14 = .ok (.bipush 20, 2) := dk_16 20 (dk_at dksX10_readBoard_0 14 rfl rfl)
theorem dX10_readBoard_16 : decode cX10_readBoard 16 = .ok (.sipush 200, 3) := dk_17 0 200 (dk_at dksX10_readBoard_0 16 rfl rfl)
theorem dX10_readBoard_19 : decode cX10_readBoard 19 = .ok (.invokevirtual 235, 3) := dk_182 0 235 (dk_at dksX10_readBoard_0 19 rfl rfl)
theorem dX10_readBoard_22 : decode cX10_readBoard 22 = .ok (.iastore, 1) := dk_79 (dk_at dksX10_readBoard_0 22 rfl rfl)
theorem dX10_readBoard_23 : decode cX10_readBoard 23 = .ok (.aload_n 0, 1) := dk_42 (dk_at dksX10_readBoard_0 23 rfl rfl)
theorem dX10_readBoard_24 : decode cX10_readBoard 24 = .ok (.getfield 31, 3) := dk_180 0 31 (dk_at dksX10_readBoard_1 0 rfl rfl)
theorem dX10_readBoard_27 : decode cX10_readBoard 27 = .ok (.iconst 1, 1) := dk_4 (dk_at dksX10_readBoard_1 3 rfl rfl)
theorem dX10_readBoard_28 : decode cX10_readBoard 28 = .ok (.aload_n 0, 1) := dk_42 (dk_at dksX10_readBoard_1 4 rfl rfl)
theorem dX10_readBoard_29 : decode cX10_readBoard 29 = .ok (.ldc 239, 2) := dk_18 239 (dk_at dksX10_readBoard_1 5 rfl rfl)
theorem dX10_readBoard_31 : decode cX10_readBoard 31 = .ok (.iconst 5, 1) := dk_8 (dk_at dksX10_readBoard_1 7 rfl rfl)
theorem dX10_readBoard_32 : decode cX10_readBoard 32 = .ok (.bipush 50, 2) := dk_16 50 (dk_at dksX10_readBoard_1 8 rfl rfl)
theorem dX10_readBoard_34 : decode cX10_readBoard 34 = .ok (.invokevirtual 235, 3) := dk_182 0 235 (dk_at dksX10_readBoard_1 10 rfl rfl)
theorem dX10_readBoard_37 : decode cX10_readBoard 37 = .ok (.iastore, 1) := dk_79 (dk_at dksX10_readBoard_1 13 rfl rfl)
theorem dX10_readBoard_38 : decode cX10_readBoard 38 = .ok (.aload_n 0, 1) := dk_42 (dk_at dksX10_readBoard_1 14 rfl rfl)
theorem dX10_readBoard_39 : decode cX10_readBoard 39 = .ok (.getfield 31, 3) := dk_180 0 31 (dk_at dksX10_readBoard_1 15 rfl rfl)
theorem dX10_readBoard_42 : decode cX10_readBoard 42 = .ok (.iconst 2, 1) := dk_5 (dk_at dksX10_readBoard_1 18 rfl rfl)
theorem dX10_readBoard_43 : decode cX10_readBoard 43 = .ok (.aload_n 0, 1) := dk_42 (dk_at dksX10_readBoard_1 19 rfl rfl)
theorem dX10_readBoard_44 : decode cX10_readBoard 44 = .ok (.ldc 241, 2) := dk_18 241 (dk_at dksX10_readBoard_1 20 rfl rfl)
theorem dX10_readBoard_46 : decode cX10_readBoard 46 = .ok (.iconst 0, 1) := dk_3 (dk_at dksX10_readBoard_1 22 rfl rfl)
theorem dX10_readBoard_47 : decode cX10_readBoard 47 = .ok (.bipush 9, 2) := dk_16 9 (dk_at dksX10_readBoard_2 0 rfl rfl)
theorem dX10_readBoard_49 : decode cX10_readBoard 49 = .ok (.invokevirtual 235, 3) := dk_182 0 235 (dk_at dksX10_readBoard_2 2 rfl rfl)
theorem dX10_readBoard_52 : decode cX10_readBoard 52 = .ok (.iastore, 1) := dk_79 (dk_at dksX10_readBoard_2 5 rfl rfl)
theorem dX10_readBoard_53 : decode cX10_readBoard 53 = .ok (.return_, 1) := dk_177 (dk_at dksX10_readBoard_2 6 rfl rfl)
abbrev cX10_expects : ByteArray := prog_18_method_23_code
def yX10_expects : MethodName := ⟨RX10, "expects", "(Ljava/lang/String;)V"⟩
def dkwX10_expects_0 : List UInt8 := [42, 43, 182, 0, 213, 153, 0, 10, 42, 182, 0, 217, 167, 0, 8, 42, 4, 182, 0, 220, 177]
abbrev dktX10_expects_0 : List UInt8 := dkwX10_expects_0 ++ []
theorem dksX10_expects_0 : cX10_expects.data.toList.drop 0 = dktX10_expects_0 := by decide +kernel
theorem dX10_expects_0 : decode cX10_expects 0 = .ok (.aload_n 0, 1) := dk_42 (dk_at dksX10_expects_0 0 rfl rfl)
theorem dX10_expects_1 : decode cX10_expects 1 = .ok (.aload_n 1, 1) := dk_43 (dk_at dksX10_expects_0 1 rfl rfl)
theorem dX10_expects_2 : decode cX10_expects 2 = .ok (.invokevirtual 213, 3) := dk_182 0 213 (dk_at dksX10_expects_0 2 rfl rfl)
theorem dX10_expects_5 : decode cX10_expects 5 = .ok (.ifCond .eq 10, 3) := dk_153 0 10 (dk_at dksX10_expects_0 5 rfl rfl)
theorem dX10_expects_8 : decode cX10_expects 8 = .ok (.aload_n 0, 1) := dk_42 (dk_at dksX10_expects_0 8 rfl rfl)
theorem dX10_expects_9 : decode cX10_expects 9 = .ok (.invokevirtual 217, 3) := dk_182 0 217 (dk_at dksX10_expects_0 9 rfl rfl)
theorem dX10_expects_12 : decode cX10_expects 12 = .ok (.goto 8, 3) := dk_167 0 8 (dk_at dksX10_expects_0 12 rfl rfl)
theorem dX10_expects_15 : decode cX10_expects 15 = .ok (.aload_n 0, 1) := dk_42 (dk_at dksX10_expects_0 15 rfl rfl)
theorem dX10_expects_16 : decode cX10_expects 16 = .ok (.iconst 1, 1) := dk_4 (dk_at dksX10_expects_0 16 rfl rfl)
theorem dX10_expects_17 : decode cX10_expects 17 = .ok (.invokevirtual 220, 3) := dk_182 0 220 (dk_at dksX10_expects_0 17 rfl rfl)
theorem dX10_expects_20 : decode cX10_expects 20 = .ok (.return_, 1) := dk_177 (dk_at dksX10_expects_0 20 rfl rfl)
abbrev cX10_errs : ByteArray := prog_18_method_21_code
def yX10_errs : MethodName := ⟨RX10, "errs", "(I)V"⟩
def dkwX10_errs_0 : List UInt8 := [42, 182, 0, 199, 154, 0, 4, 177, 42, 27, 181, 0, 196, 42, 42, 180, 0, 173, 181, 0, 27, 177]
abbrev dktX10_errs_0 : List UInt8 := dkwX10_errs_0 ++ []
theorem dksX10_errs_0 : cX10_errs.data.toList.drop 0 = dktX10_errs_0 := by decide +kernel
theorem dX10_errs_0 : decode cX10_errs 0 = .ok (.aload_n 0, 1) := dk_42 (dk_at dksX10_errs_0 0 rfl rfl)
theorem dX10_errs_1 : decode cX10_errs 1 = .ok (.invokevirtual 199, 3) := dk_182 0 199 (dk_at dksX10_errs_0 1 rfl rfl)
theorem dX10_errs_4 : decode cX10_errs 4 = .ok (.ifCond .ne 4, 3) := dk_154 0 4 (dk_at dksX10_errs_0 4 rfl rfl)
theorem dX10_errs_7 : decode cX10_errs 7 = .ok (.return_, 1) := dk_177 (dk_at dksX10_errs_0 7 rfl rfl)
theorem dX10_errs_8 : decode cX10_errs 8 = .ok (.aload_n 0, 1) := dk_42 (dk_at dksX10_errs_0 8 rfl rfl)
theorem dX10_errs_9 : decode cX10_errs 9 = .ok (.iload_n 1, 1) := dk_27 (dk_at dksX10_errs_0 9 rfl rfl)
theorem dX10_errs_10 : decode cX10_errs 10 = .ok (.putfield 196, 3) := dk_181 0 196 (dk_at dksX10_errs_0 10 rfl rfl)
theorem dX10_errs_13 : decode cX10_errs 13 = .ok (.aload_n 0, 1) := dk_42 (dk_at dksX10_errs_0 13 rfl rfl)
theorem dX10_errs_14 : decode cX10_errs 14 = .ok (.aload_n 0, 1) := dk_42 (dk_at dksX10_errs_0 14 rfl rfl)
theorem dX10_errs_15 : decode cX10_errs 15 = .ok (.getfield 173, 3) := dk_180 0 173 (dk_at dksX10_errs_0 15 rfl rfl)
theorem dX10_errs_18 : decode cX10_errs 18 = .ok (.putfield 27, 3) := dk_181 0 27 (dk_at dksX10_errs_0 18 rfl rfl)
theorem dX10_errs_21 : decode cX10_errs 21 = .ok (.return_, 1) := dk_177 (dk_at dksX10_errs_0 21 rfl rfl)
abbrev cX10_toldBy : ByteArray := prog_18_method_25_code
def yX10_toldBy : MethodName := ⟨RX10, "toldBy", "(Ljava/lang/String;II)I"⟩
def dkwX10_toldBy_0 : List UInt8 := [42, 43, 182, 0, 224, 42, 28, 29, 182, 0, 228, 172]
abbrev dktX10_toldBy_0 : List UInt8 := dkwX10_toldBy_0 ++ []
theorem dksX10_toldBy_0 : cX10_toldBy.data.toList.drop 0 = dktX10_toldBy_0 := by decide +kernel
theorem dX10_toldBy_0 : decode cX10_toldBy 0 = .ok (.aload_n 0, 1) := dk_42 (dk_at dksX10_toldBy_0 0 rfl rfl)
theorem dX10_toldBy_1 : decode cX10_toldBy 1 = .ok (.aload_n 1, 1) := dk_43 (dk_at dksX10_toldBy_0 1 rfl rfl)
theorem dX10_toldBy_2 : decode cX10_toldBy 2 = .ok (.invokevirtual 224, 3) := dk_182 0 224 (dk_at dksX10_toldBy_0 2 rfl rfl)
theorem dX10_toldBy_5 : decode cX10_toldBy 5 = .ok (.aload_n 0, 1) := dk_42 (dk_at dksX10_toldBy_0 5 rfl rfl)
theorem dX10_toldBy_6 : decode cX10_toldBy 6 = .ok (.iload_n 2, 1) := dk_28 (dk_at dksX10_toldBy_0 6 rfl rfl)
theorem dX10_toldBy_7 : decode cX10_toldBy 7 = .ok (.iload_n 3, 1) := dk_29 (dk_at dksX10_toldBy_0 7 rfl rfl)
theorem dX10_toldBy_8 : decode cX10_toldBy 8 = .ok (.invokevirtual 228, 3) := dk_182 0 228 (dk_at dksX10_toldBy_0 8 rfl rfl)
theorem dX10_toldBy_11 : decode cX10_toldBy 11 = .ok (.ireturn, 1) := dk_172 (dk_at dksX10_toldBy_0 11 rfl rfl)
abbrev cX10_takes : ByteArray := prog_18_method_24_code
def yX10_takes : MethodName := ⟨RX10, "takes", "(II)I"⟩
def dkwX10_takes_2 : List UInt8 := [182, 0, 199, 154, 0, 5, 3, 172, 42, 180, 0, 187, 62, 42, 182, 0, 217, 29, 172]
abbrev dktX10_takes_2 : List UInt8 := dkwX10_takes_2 ++ []
def dkwX10_takes_1 : List UInt8 := [153, 0, 23, 42, 180, 0, 187, 133, 27, 133, 28, 133, 184, 0, 152, 154, 0, 8, 42, 5, 182, 0, 220, 42]
abbrev dktX10_takes_1 : List UInt8 := dkwX10_takes_1 ++ dktX10_takes_2
def dkwX10_takes_0 : List UInt8 := [42, 182, 0, 199, 153, 0, 16, 42, 180, 0, 176, 5, 159, 0, 8, 42, 4, 182, 0, 220, 42, 182, 0, 199]
abbrev dktX10_takes_0 : List UInt8 := dkwX10_takes_0 ++ dktX10_takes_1
theorem dksX10_takes_0 : cX10_takes.data.toList.drop 0 = dktX10_takes_0 := by decide +kernel
theorem dksX10_takes_1 : cX10_takes.data.toList.drop 24 = dktX10_takes_1 := dk_seg dksX10_takes_0 24 rfl rfl
theorem dksX10_takes_2 : cX10_takes.data.toList.drop 48 = dktX10_takes_2 := dk_seg dksX10_takes_1 24 rfl rfl
theorem dX10_takes_0 : decode cX10_takes 0 = .ok (.aload_n 0, 1) := dk_42 (dk_at dksX10_takes_0 0 rfl rfl)
theorem dX10_takes_1 : decode cX10_takes 1 = .ok (.invokevirtual 199, 3) := dk_182 0 199 (dk_at dksX10_takes_0 1 rfl rfl)
theorem dX10_takes_4 : decode cX10_takes 4 = .ok (.ifCond .eq 16, 3) := dk_153 0 16 (dk_at dksX10_takes_0 4 rfl rfl)
theorem dX10_takes_7 : decode cX10_takes 7 = .ok (.aload_n 0, 1) := dk_42 (dk_at dksX10_takes_0 7 rfl rfl)
theorem dX10_takes_8 : decode cX10_takes 8 = .ok (.getfield 176, 3) := dk_180 0 176 (dk_at dksX10_takes_0 8 rfl rfl)
theorem dX10_takes_11 : decode cX10_takes 11 = .ok (.iconst 2, 1) := dk_5 (dk_at dksX10_takes_0 11 rfl rfl)
theorem dX10_takes_12 : decode cX10_takes 12 = .ok (.if_icmp .eq 8, 3) := dk_159 0 8 (dk_at dksX10_takes_0 12 rfl rfl)
theorem dX10_takes_15 : decode cX10_takes 15 = .ok (.aload_n 0, 1) := dk_42 (dk_at dksX10_takes_0 15 rfl rfl)
theorem dX10_takes_16 : decode cX10_takes 16 = .ok (.iconst 1, 1) := dk_4 (dk_at dksX10_takes_0 16 rfl rfl)
theorem dX10_takes_17 : decode cX10_takes 17 = .ok (.invokevirtual 220, 3) := dk_182 0 220 (dk_at dksX10_takes_0 17 rfl rfl)
theorem dX10_takes_20 : decode cX10_takes 20 = .ok (.aload_n 0, 1) := dk_42 (dk_at dksX10_takes_0 20 rfl rfl)
theorem dX10_takes_21 : decode cX10_takes 21 = .ok (.invokevirtual 199, 3) := dk_182 0 199 (dk_at dksX10_takes_0 21 rfl rfl)
theorem dX10_takes_24 : decode cX10_takes 24 = .ok (.ifCond .eq 23, 3) := dk_153 0 23 (dk_at dksX10_takes_1 0 rfl rfl)
theorem dX10_takes_27 : decode cX10_takes 27 = .ok (.aload_n 0, 1) := dk_42 (dk_at dksX10_takes_1 3 rfl rfl)
theorem dX10_takes_28 : decode cX10_takes 28 = .ok (.getfield 187, 3) := dk_180 0 187 (dk_at dksX10_takes_1 4 rfl rfl)
theorem dX10_takes_31 : decode cX10_takes 31 = .ok (.i2l, 1) := dk_133 (dk_at dksX10_takes_1 7 rfl rfl)
theorem dX10_takes_32 : decode cX10_takes 32 = .ok (.iload_n 1, 1) := dk_27 (dk_at dksX10_takes_1 8 rfl rfl)
theorem dX10_takes_33 : decode cX10_takes 33 = .ok (.i2l, 1) := dk_133 (dk_at dksX10_takes_1 9 rfl rfl)
theorem dX10_takes_34 : decode cX10_takes 34 = .ok (.iload_n 2, 1) := dk_28 (dk_at dksX10_takes_1 10 rfl rfl)
theorem dX10_takes_35 : decode cX10_takes 35 = .ok (.i2l, 1) := dk_133 (dk_at dksX10_takes_1 11 rfl rfl)
theorem dX10_takes_36 : decode cX10_takes 36 = .ok (.invokestatic 152, 3) := dk_184 0 152 (dk_at dksX10_takes_1 12 rfl rfl)
theorem dX10_takes_39 : decode cX10_takes 39 = .ok (.ifCond .ne 8, 3) := dk_154 0 8 (dk_at dksX10_takes_1 15 rfl rfl)
theorem dX10_takes_42 : decode cX10_takes 42 = .ok (.aload_n 0, 1) := dk_42 (dk_at dksX10_takes_1 18 rfl rfl)
theorem dX10_takes_43 : decode cX10_takes 43 = .ok (.iconst 2, 1) := dk_5 (dk_at dksX10_takes_1 19 rfl rfl)
theorem dX10_takes_44 : decode cX10_takes 44 = .ok (.invokevirtual 220, 3) := dk_182 0 220 (dk_at dksX10_takes_1 20 rfl rfl)
theorem dX10_takes_47 : decode cX10_takes 47 = .ok (.aload_n 0, 1) := dk_42 (dk_at dksX10_takes_1 23 rfl rfl)
theorem dX10_takes_48 : decode cX10_takes 48 = .ok (.invokevirtual 199, 3) := dk_182 0 199 (dk_at dksX10_takes_2 0 rfl rfl)
theorem dX10_takes_51 : decode cX10_takes 51 = .ok (.ifCond .ne 5, 3) := dk_154 0 5 (dk_at dksX10_takes_2 3 rfl rfl)
theorem dX10_takes_54 : decode cX10_takes 54 = .ok (.iconst 0, 1) := dk_3 (dk_at dksX10_takes_2 6 rfl rfl)
theorem dX10_takes_55 : decode cX10_takes 55 = .ok (.ireturn, 1) := dk_172 (dk_at dksX10_takes_2 7 rfl rfl)
theorem dX10_takes_56 : decode cX10_takes 56 = .ok (.aload_n 0, 1) := dk_42 (dk_at dksX10_takes_2 8 rfl rfl)
theorem dX10_takes_57 : decode cX10_takes 57 = .ok (.getfield 187, 3) := dk_180 0 187 (dk_at dksX10_takes_2 9 rfl rfl)
theorem dX10_takes_60 : decode cX10_takes 60 = .ok (.istore_n 3, 1) := dk_62 (dk_at dksX10_takes_2 12 rfl rfl)
theorem dX10_takes_61 : decode cX10_takes 61 = .ok (.aload_n 0, 1) := dk_42 (dk_at dksX10_takes_2 13 rfl rfl)
theorem dX10_takes_62 : decode cX10_takes 62 = .ok (.invokevirtual 217, 3) := dk_182 0 217 (dk_at dksX10_takes_2 14 rfl rfl)
theorem dX10_takes_65 : decode cX10_takes 65 = .ok (.iload_n 3, 1) := dk_29 (dk_at dksX10_takes_2 17 rfl rfl)
theorem dX10_takes_66 : decode cX10_takes 66 = .ok (.ireturn, 1) := dk_172 (dk_at dksX10_takes_2 18 rfl rfl)
abbrev cX10_readWatcher : ByteArray := prog_18_method_29_code
def yX10_readWatcher : MethodName := ⟨RX10, "readWatcher", "()V"⟩
def dkwX10_readWatcher_3 : List UInt8 := [177]
abbrev dktX10_readWatcher_3 : List UInt8 := dkwX10_readWatcher_3 ++ []
def dkwX10_readWatcher_2 : List UInt8 := [180, 0, 31, 16, 8, 42, 180, 0, 31, 6, 46, 96, 27, 79, 42, 180, 0, 31, 6, 92, 46, 4, 96, 79]
abbrev dktX10_readWatcher_2 : List UInt8 := dkwX10_readWatcher_2 ++ dktX10_readWatcher_3
def dkwX10_readWatcher_1 : List UInt8 := [182, 0, 224, 167, 0, 19, 42, 18, 249, 3, 42, 180, 0, 31, 6, 46, 4, 100, 182, 0, 235, 60, 42]
abbrev dktX10_readWatcher_1 : List UInt8 := dkwX10_readWatcher_1 ++ dktX10_readWatcher_2
def dkwX10_readWatcher_0 : List UInt8 := [42, 6, 6, 182, 0, 243, 154, 0, 4, 177, 2, 60, 42, 180, 0, 31, 6, 46, 154, 0, 12, 42, 18, 247]
abbrev dktX10_readWatcher_0 : List UInt8 := dkwX10_readWatcher_0 ++ dktX10_readWatcher_1
theorem dksX10_readWatcher_0 : cX10_readWatcher.data.toList.drop 0 = dktX10_readWatcher_0 := by decide +kernel
theorem dksX10_readWatcher_1 : cX10_readWatcher.data.toList.drop 24 = dktX10_readWatcher_1 := dk_seg dksX10_readWatcher_0 24 rfl rfl
theorem dksX10_readWatcher_2 : cX10_readWatcher.data.toList.drop 47 = dktX10_readWatcher_2 := dk_seg dksX10_readWatcher_1 23 rfl rfl
theorem dksX10_readWatcher_3 : cX10_readWatcher.data.toList.drop 71 = dktX10_readWatcher_3 := dk_seg dksX10_readWatcher_2 24 rfl rfl
theorem dX10_readWatcher_0 : decode cX10_readWatcher 0 = .ok (.aload_n 0, 1) := dk_42 (dk_at dksX10_readWatcher_0 0 rfl rfl)
theorem dX10_readWatcher_1 : decode cX10_readWatcher 1 = .ok (.iconst 3, 1) := dk_6 (dk_at dksX10_readWatcher_0 1 rfl rfl)
theorem dX10_readWatcher_2 : decode cX10_readWatcher 2 = .ok (.iconst 3, 1) := dk_6 (dk_at dksX10_readWatcher_0 2 rfl rfl)
theorem dX10_readWatcher_3 : decode cX10_readWatcher 3 = .ok (.invokevirtual 243, 3) := dk_182 0 243 (dk_at dksX10_readWatcher_0 3 rfl rfl)
theorem dX10_readWatcher_6 : decode cX10_readWatcher 6 = .ok (.ifCond .ne 4, 3) := dk_154 0 4 (dk_at dksX10_readWatcher_0 6 rfl rfl)
theorem dX10_readWatcher_9 : decode cX10_readWatcher 9 = .ok (.return_, 1) := dk_177 (dk_at dksX10_readWatcher_0 9 rfl rfl)
theorem dX10_readWatcher_10 : decode cX10_readWatcher 10 = .ok (.iconst (-1), 1) := dk_2 (dk_at dksX10_readWatcher_0 10 rfl rfl)
theorem dX10_readWatcher_11 : decode cX10_readWatcher 11 = .ok (.istore_n 1, 1) := dk_60 (dk_at dksX10_readWatcher_0 11 rfl rfl)
theorem dX10_readWatcher_12 : decode cX10_readWatcher 12 = .ok (.aload_n 0, 1) := dk_42 (dk_at dksX10_readWatcher_0 12 rfl rfl)
theorem dX10_readWatcher_13 : decode cX10_readWatcher 13 = .ok (.getfield 31, 3) := dk_180 0 31 (dk_at dksX10_readWatcher_0 13 rfl rfl)
theorem dX10_readWatcher_16 : decode cX10_readWatcher 16 = .ok (.iconst 3, 1) := dk_6 (dk_at dksX10_readWatcher_0 16 rfl rfl)
theorem dX10_readWatcher_17 : decode cX10_readWatcher 17 = .ok (.iaload, 1) := dk_46 (dk_at dksX10_readWatcher_0 17 rfl rfl)
theorem dX10_readWatcher_18 : decode cX10_readWatcher 18 = .ok (.ifCond .ne 12, 3) := dk_154 0 12 (dk_at dksX10_readWatcher_0 18 rfl rfl)
theorem dX10_readWatcher_21 : decode cX10_readWatcher 21 = .ok (.aload_n 0, 1) := dk_42 (dk_at dksX10_readWatcher_0 21 rfl rfl)
theorem dX10_readWatcher_22 : decode cX10_readWatcher 22 = .ok (.ldc 247, 2) := dk_18 247 (dk_at dksX10_readWatcher_0 22 rfl rfl)
theorem dX10_readWatcher_24 : decode cX10_readWatcher 24 = .ok (.invokevirtual 224, 3) := dk_182 0 224 (dk_at dksX10_readWatcher_1 0 rfl rfl)
theorem dX10_readWatcher_27 : decode cX10_readWatcher 27 = .ok (.goto 19, 3) := dk_167 0 19 (dk_at dksX10_readWatcher_1 3 rfl rfl)
theorem dX10_readWatcher_30 : decode cX10_readWatcher 30 = .ok (.aload_n 0, 1) := dk_42 (dk_at dksX10_readWatcher_1 6 rfl rfl)
theorem dX10_readWatcher_31 : decode cX10_readWatcher 31 = .ok (.ldc 249, 2) := dk_18 249 (dk_at dksX10_readWatcher_1 7 rfl rfl)
theorem dX10_readWatcher_33 : decode cX10_readWatcher 33 = .ok (.iconst 0, 1) := dk_3 (dk_at dksX10_readWatcher_1 9 rfl rfl)
theorem dX10_readWatcher_34 : decode cX10_readWatcher 34 = .ok (.aload_n 0, 1) := dk_42 (dk_at dksX10_readWatcher_1 10 rfl rfl)
theorem dX10_readWatcher_35 : decode cX10_readWatcher 35 = .ok (.getfield 31, 3) := dk_180 0 31 (dk_at dksX10_readWatcher_1 11 rfl rfl)
theorem dX10_readWatcher_38 : decode cX10_readWatcher 38 = .ok (.iconst 3, 1) := dk_6 (dk_at dksX10_readWatcher_1 14 rfl rfl)
theorem dX10_readWatcher_39 : decode cX10_readWatcher 39 = .ok (.iaload, 1) := dk_46 (dk_at dksX10_readWatcher_1 15 rfl rfl)
theorem dX10_readWatcher_40 : decode cX10_readWatcher 40 = .ok (.iconst 1, 1) := dk_4 (dk_at dksX10_readWatcher_1 16 rfl rfl)
theorem dX10_readWatcher_41 : decode cX10_readWatcher 41 = .ok (.isub, 1) := dk_100 (dk_at dksX10_readWatcher_1 17 rfl rfl)
theorem dX10_readWatcher_42 : decode cX10_readWatcher 42 = .ok (.invokevirtual 235, 3) := dk_182 0 235 (dk_at dksX10_readWatcher_1 18 rfl rfl)
theorem dX10_readWatcher_45 : decode cX10_readWatcher 45 = .ok (.istore_n 1, 1) := dk_60 (dk_at dksX10_readWatcher_1 21 rfl rfl)
theorem dX10_readWatcher_46 : decode cX10_readWatcher 46 = .ok (.aload_n 0, 1) := dk_42 (dk_at dksX10_readWatcher_1 22 rfl rfl)
theorem dX10_readWatcher_47 : decode cX10_readWatcher 47 = .ok (.getfield 31, 3) := dk_180 0 31 (dk_at dksX10_readWatcher_2 0 rfl rfl)
theorem dX10_readWatcher_50 : decode cX10_readWatcher 50 = .ok (.bipush 8, 2) := dk_16 8 (dk_at dksX10_readWatcher_2 3 rfl rfl)
theorem dX10_readWatcher_52 : decode cX10_readWatcher 52 = .ok (.aload_n 0, 1) := dk_42 (dk_at dksX10_readWatcher_2 5 rfl rfl)
theorem dX10_readWatcher_53 : decode cX10_readWatcher 53 = .ok (.getfield 31, 3) := dk_180 0 31 (dk_at dksX10_readWatcher_2 6 rfl rfl)
theorem dX10_readWatcher_56 : decode cX10_readWatcher 56 = .ok (.iconst 3, 1) := dk_6 (dk_at dksX10_readWatcher_2 9 rfl rfl)
theorem dX10_readWatcher_57 : decode cX10_readWatcher 57 = .ok (.iaload, 1) := dk_46 (dk_at dksX10_readWatcher_2 10 rfl rfl)
theorem dX10_readWatcher_58 : decode cX10_readWatcher 58 = .ok (.iadd, 1) := dk_96 (dk_at dksX10_readWatcher_2 11 rfl rfl)
theorem dX10_readWatcher_59 : decode cX10_readWatcher 59 = .ok (.iload_n 1, 1) := dk_27 (dk_at dksX10_readWatcher_2 12 rfl rfl)
theorem dX10_readWatcher_60 : decode cX10_readWatcher 60 = .ok (.iastore, 1) := dk_79 (dk_at dksX10_readWatcher_2 13 rfl rfl)
theorem dX10_readWatcher_61 : decode cX10_readWatcher 61 = .ok (.aload_n 0, 1) := dk_42 (dk_at dksX10_readWatcher_2 14 rfl rfl)
theorem dX10_readWatcher_62 : decode cX10_readWatcher 62 = .ok (.getfield 31, 3) := dk_180 0 31 (dk_at dksX10_readWatcher_2 15 rfl rfl)
theorem dX10_readWatcher_65 : decode cX10_readWatcher 65 = .ok (.iconst 3, 1) := dk_6 (dk_at dksX10_readWatcher_2 18 rfl rfl)
theorem dX10_readWatcher_66 : decode cX10_readWatcher 66 = .ok (.dup2, 1) := dk_92 (dk_at dksX10_readWatcher_2 19 rfl rfl)
theorem dX10_readWatcher_67 : decode cX10_readWatcher 67 = .ok (.iaload, 1) := dk_46 (dk_at dksX10_readWatcher_2 20 rfl rfl)
theorem dX10_readWatcher_68 : decode cX10_readWatcher 68 = .ok (.iconst 1, 1) := dk_4 (dk_at dksX10_readWatcher_2 21 rfl rfl)
theorem dX10_readWatcher_69 : decode cX10_readWatcher 69 = .ok (.iadd, 1) := dk_96 (dk_at dksX10_readWatcher_2 22 rfl rfl)
theorem dX10_readWatcher_70 : decode cX10_readWatcher 70 = .ok (.iastore, 1) := dk_79 (dk_at dksX10_readWatcher_2 23 rfl rfl)
theorem dX10_readWatcher_71 : decode cX10_readWatcher 71 = .ok (.return_, 1) := dk_177 (dk_at dksX10_readWatcher_3 0 rfl rfl)
abbrev cX10_canTake : ByteArray := prog_18_method_28_code
def yX10_canTake : MethodName := ⟨RX10, "canTake", "(II)Z"⟩
def dkwX10_canTake_1 : List UInt8 := [182, 0, 199, 153, 0, 7, 42, 182, 0, 217, 42, 182, 0, 199, 172]
abbrev dktX10_canTake_1 : List UInt8 := dkwX10_canTake_1 ++ []
def dkwX10_canTake_0 : List UInt8 := [42, 182, 0, 199, 153, 0, 18, 42, 180, 0, 31, 27, 46, 28, 160, 0, 8, 42, 6, 182, 0, 220, 42]
abbrev dktX10_canTake_0 : List UInt8 := dkwX10_canTake_0 ++ dktX10_canTake_1
theorem dksX10_canTake_0 : cX10_canTake.data.toList.drop 0 = dktX10_canTake_0 := by decide +kernel
theorem dksX10_canTake_1 : cX10_canTake.data.toList.drop 23 = dktX10_canTake_1 := dk_seg dksX10_canTake_0 23 rfl rfl
theorem dX10_canTake_0 : decode cX10_canTake 0 = .ok (.aload_n 0, 1) := dk_42 (dk_at dksX10_canTake_0 0 rfl rfl)
theorem dX10_canTake_1 : decode cX10_canTake 1 = .ok (.invokevirtual 199, 3) := dk_182 0 199 (dk_at dksX10_canTake_0 1 rfl rfl)
theorem dX10_canTake_4 : decode cX10_canTake 4 = .ok (.ifCond .eq 18, 3) := dk_153 0 18 (dk_at dksX10_canTake_0 4 rfl rfl)
theorem dX10_canTake_7 : decode cX10_canTake 7 = .ok (.aload_n 0, 1) := dk_42 (dk_at dksX10_canTake_0 7 rfl rfl)
theorem dX10_canTake_8 : decode cX10_canTake 8 = .ok (.getfield 31, 3) := dk_180 0 31 (dk_at dksX10_canTake_0 8 rfl rfl)
theorem dX10_canTake_11 : decode cX10_canTake 11 = .ok (.iload_n 1, 1) := dk_27 (dk_at dksX10_canTake_0 11 rfl rfl)
theorem dX10_canTake_12 : decode cX10_canTake 12 = .ok (.iaload, 1) := dk_46 (dk_at dksX10_canTake_0 12 rfl rfl)
theorem dX10_canTake_13 : decode cX10_canTake 13 = .ok (.iload_n 2, 1) := dk_28 (dk_at dksX10_canTake_0 13 rfl rfl)
theorem dX10_canTake_14 : decode cX10_canTake 14 = .ok (.if_icmp .ne 8, 3) := dk_160 0 8 (dk_at dksX10_canTake_0 14 rfl rfl)
theorem dX10_canTake_17 : decode cX10_canTake 17 = .ok (.aload_n 0, 1) := dk_42 (dk_at dksX10_canTake_0 17 rfl rfl)
theorem dX10_canTake_18 : decode cX10_canTake 18 = .ok (.iconst 3, 1) := dk_6 (dk_at dksX10_canTake_0 18 rfl rfl)
theorem dX10_canTake_19 : decode cX10_canTake 19 = .ok (.invokevirtual 220, 3) := dk_182 0 220 (dk_at dksX10_canTake_0 19 rfl rfl)
theorem dX10_canTake_22 : decode cX10_canTake 22 = .ok (.aload_n 0, 1) := dk_42 (dk_at dksX10_canTake_0 22 rfl rfl)
theorem dX10_canTake_23 : decode cX10_canTake 23 = .ok (.invokevirtual 199, 3) := dk_182 0 199 (dk_at dksX10_canTake_1 0 rfl rfl)
theorem dX10_canTake_26 : decode cX10_canTake 26 = .ok (.ifCond .eq 7, 3) := dk_153 0 7 (dk_at dksX10_canTake_1 3 rfl rfl)
theorem dX10_canTake_29 : decode cX10_canTake 29 = .ok (.aload_n 0, 1) := dk_42 (dk_at dksX10_canTake_1 6 rfl rfl)
theorem dX10_canTake_30 : decode cX10_canTake 30 = .ok (.invokevirtual 217, 3) := dk_182 0 217 (dk_at dksX10_canTake_1 7 rfl rfl)
theorem dX10_canTake_33 : decode cX10_canTake 33 = .ok (.aload_n 0, 1) := dk_42 (dk_at dksX10_canTake_1 10 rfl rfl)
theorem dX10_canTake_34 : decode cX10_canTake 34 = .ok (.invokevirtual 199, 3) := dk_182 0 199 (dk_at dksX10_canTake_1 11 rfl rfl)
theorem dX10_canTake_37 : decode cX10_canTake 37 = .ok (.ireturn, 1) := dk_172 (dk_at dksX10_canTake_1 14 rfl rfl)
abbrev cX10_readTask : ByteArray := prog_18_method_30_code
def yX10_readTask : MethodName := ⟨RX10, "readTask", "()V"⟩
def dkwX10_readTask_6 : List UInt8 := [16, 40, 182, 0, 235, 79, 42, 180, 0, 31, 7, 92, 46, 4, 96, 79, 177]
abbrev dktX10_readTask_6 : List UInt8 := dkwX10_readTask_6 ++ []
def dkwX10_readTask_5 : List UInt8 := [182, 0, 235, 79, 42, 180, 0, 31, 27, 8, 96, 42, 19, 1, 3, 42, 180, 0, 31, 27, 7, 96, 46]
abbrev dktX10_readTask_5 : List UInt8 := dkwX10_readTask_5 ++ dktX10_readTask_6
def dkwX10_readTask_4 : List UInt8 := [4, 96, 16, 120, 182, 0, 235, 79, 42, 180, 0, 31, 27, 7, 96, 42, 19, 1, 1, 3, 16, 20]
abbrev dktX10_readTask_4 : List UInt8 := dkwX10_readTask_4 ++ dktX10_readTask_5
def dkwX10_readTask_3 : List UInt8 := [16, 99, 182, 0, 235, 79, 42, 180, 0, 31, 27, 6, 96, 42, 18, 255, 42, 180, 0, 31, 27, 5, 96, 46]
abbrev dktX10_readTask_3 : List UInt8 := dkwX10_readTask_3 ++ dktX10_readTask_4
def dkwX10_readTask_2 : List UInt8 := [27, 4, 96, 42, 18, 251, 7, 16, 60, 182, 0, 235, 79, 42, 180, 0, 31, 27, 5, 96, 42, 18, 253, 3]
abbrev dktX10_readTask_2 : List UInt8 := dkwX10_readTask_2 ++ dktX10_readTask_3
def dkwX10_readTask_1 : List UInt8 := [180, 0, 31, 27, 42, 18, 249, 3, 42, 180, 0, 31, 6, 46, 4, 100, 182, 0, 235, 79, 42, 180, 0, 31]
abbrev dktX10_readTask_1 : List UInt8 := dkwX10_readTask_1 ++ dktX10_readTask_2
def dkwX10_readTask_0 : List UInt8 := [42, 7, 8, 182, 0, 243, 154, 0, 4, 177, 16, 11, 16, 7, 42, 180, 0, 31, 7, 46, 104, 96, 60, 42]
abbrev dktX10_readTask_0 : List UInt8 := dkwX10_readTask_0 ++ dktX10_readTask_1
theorem dksX10_readTask_0 : cX10_readTask.data.toList.drop 0 = dktX10_readTask_0 := by decide +kernel
theorem dksX10_readTask_1 : cX10_readTask.data.toList.drop 24 = dktX10_readTask_1 := dk_seg dksX10_readTask_0 24 rfl rfl
theorem dksX10_readTask_2 : cX10_readTask.data.toList.drop 48 = dktX10_readTask_2 := dk_seg dksX10_readTask_1 24 rfl rfl
theorem dksX10_readTask_3 : cX10_readTask.data.toList.drop 72 = dktX10_readTask_3 := dk_seg dksX10_readTask_2 24 rfl rfl
theorem dksX10_readTask_4 : cX10_readTask.data.toList.drop 96 = dktX10_readTask_4 := dk_seg dksX10_readTask_3 24 rfl rfl
theorem dksX10_readTask_5 : cX10_readTask.data.toList.drop 118 = dktX10_readTask_5 := dk_seg dksX10_readTask_4 22 rfl rfl
theorem dksX10_readTask_6 : cX10_readTask.data.toList.drop 141 = dktX10_readTask_6 := dk_seg dksX10_readTask_5 23 rfl rfl
theorem dX10_readTask_0 : decode cX10_readTask 0 = .ok (.aload_n 0, 1) := dk_42 (dk_at dksX10_readTask_0 0 rfl rfl)
theorem dX10_readTask_1 : decode cX10_readTask 1 = .ok (.iconst 4, 1) := dk_7 (dk_at dksX10_readTask_0 1 rfl rfl)
theorem dX10_readTask_2 : decode cX10_readTask 2 = .ok (.iconst 5, 1) := dk_8 (dk_at dksX10_readTask_0 2 rfl rfl)
theorem dX10_readTask_3 : decode cX10_readTask 3 = .ok (.invokevirtual 243, 3) := dk_182 0 243 (dk_at dksX10_readTask_0 3 rfl rfl)
theorem dX10_readTask_6 : decode cX10_readTask 6 = .ok (.ifCond .ne 4, 3) := dk_154 0 4 (dk_at dksX10_readTask_0 6 rfl rfl)
theorem dX10_readTask_9 : decode cX10_readTask 9 = .ok (.return_, 1) := dk_177 (dk_at dksX10_readTask_0 9 rfl rfl)
theorem dX10_readTask_10 : decode cX10_readTask 10 = .ok (.bipush 11, 2) := dk_16 11 (dk_at dksX10_readTask_0 10 rfl rfl)
theorem dX10_readTask_12 : decode cX10_readTask 12 = .ok (.bipush 7, 2) := dk_16 7 (dk_at dksX10_readTask_0 12 rfl rfl)
theorem dX10_readTask_14 : decode cX10_readTask 14 = .ok (.aload_n 0, 1) := dk_42 (dk_at dksX10_readTask_0 14 rfl rfl)
theorem dX10_readTask_15 : decode cX10_readTask 15 = .ok (.getfield 31, 3) := dk_180 0 31 (dk_at dksX10_readTask_0 15 rfl rfl)
theorem dX10_readTask_18 : decode cX10_readTask 18 = .ok (.iconst 4, 1) := dk_7 (dk_at dksX10_readTask_0 18 rfl rfl)
theorem dX10_readTask_19 : decode cX10_readTask 19 = .ok (.iaload, 1) := dk_46 (dk_at dksX10_readTask_0 19 rfl rfl)
theorem dX10_readTask_20 : decode cX10_readTask 20 = .ok (.imul, 1) := dk_104 (dk_at dksX10_readTask_0 20 rfl rfl)
theorem dX10_readTask_21 : decode cX10_readTask 21 = .ok (.iadd, 1) := dk_96 (dk_at dksX10_readTask_0 21 rfl rfl)
theorem dX10_readTask_22 : decode cX10_readTask 22 = .ok (.istore_n 1, 1) := dk_60 (dk_at dksX10_readTask_0 22 rfl rfl)
theorem dX10_readTask_23 : decode cX10_readTask 23 = .ok (.aload_n 0, 1) := dk_42 (dk_at dksX10_readTask_0 23 rfl rfl)
theorem dX10_readTask_24 : decode cX10_readTask 24 = .ok (.getfield 31, 3) := dk_180 0 31 (dk_at dksX10_readTask_1 0 rfl rfl)
theorem dX10_readTask_27 : decode cX10_readTask 27 = .ok (.iload_n 1, 1) := dk_27 (dk_at dksX10_readTask_1 3 rfl rfl)
theorem dX10_readTask_28 : decode cX10_readTask 28 = .ok (.aload_n 0, 1) := dk_42 (dk_at dksX10_readTask_1 4 rfl rfl)
theorem dX10_readTask_29 : decode cX10_readTask 29 = .ok (.ldc 249, 2) := dk_18 249 (dk_at dksX10_readTask_1 5 rfl rfl)
theorem dX10_readTask_31 : decode cX10_readTask 31 = .ok (.iconst 0, 1) := dk_3 (dk_at dksX10_readTask_1 7 rfl rfl)
theorem dX10_readTask_32 : decode cX10_readTask 32 = .ok (.aload_n 0, 1) := dk_42 (dk_at dksX10_readTask_1 8 rfl rfl)
theorem dX10_readTask_33 : decode cX10_readTask 33 = .ok (.getfield 31, 3) := dk_180 0 31 (dk_at dksX10_readTask_1 9 rfl rfl)
theorem dX10_readTask_36 : decode cX10_readTask 36 = .ok (.iconst 3, 1) := dk_6 (dk_at dksX10_readTask_1 12 rfl rfl)
theorem dX10_readTask_37 : decode cX10_readTask 37 = .ok (.iaload, 1) := dk_46 (dk_at dksX10_readTask_1 13 rfl rfl)
theorem dX10_readTask_38 : decode cX10_readTask 38 = .ok (.iconst 1, 1) := dk_4 (dk_at dksX10_readTask_1 14 rfl rfl)
theorem dX10_readTask_39 : decode cX10_readTask 39 = .ok (.isub, 1) := dk_100 (dk_at dksX10_readTask_1 15 rfl rfl)
theorem dX10_readTask_40 : decode cX10_readTask 40 = .ok (.invokevirtual 235, 3) := dk_182 0 235 (dk_at dksX10_readTask_1 16 rfl rfl)
theorem dX10_readTask_43 : decode cX10_readTask 43 = .ok (.iastore, 1) := dk_79 (dk_at dksX10_readTask_1 19 rfl rfl)
theorem dX10_readTask_44 : decode cX10_readTask 44 = .ok (.aload_n 0, 1) := dk_42 (dk_at dksX10_readTask_1 20 rfl rfl)
theorem dX10_readTask_45 : decode cX10_readTask 45 = .ok (.getfield 31, 3) := dk_180 0 31 (dk_at dksX10_readTask_1 21 rfl rfl)
theorem dX10_readTask_48 : decode cX10_readTask 48 = .ok (.iload_n 1, 1) := dk_27 (dk_at dksX10_readTask_2 0 rfl rfl)
theorem dX10_readTask_49 : decode cX10_readTask 49 = .ok (.iconst 1, 1) := dk_4 (dk_at dksX10_readTask_2 1 rfl rfl)
theorem dX10_readTask_50 : decode cX10_readTask 50 = .ok (.iadd, 1) := dk_96 (dk_at dksX10_readTask_2 2 rfl rfl)
theorem dX10_readTask_51 : decode cX10_readTask 51 = .ok (.aload_n 0, 1) := dk_42 (dk_at dksX10_readTask_2 3 rfl rfl)
theorem dX10_readTask_52 : decode cX10_readTask 52 = .ok (.ldc 251, 2) := dk_18 251 (dk_at dksX10_readTask_2 4 rfl rfl)
theorem dX10_readTask_54 : decode cX10_readTask 54 = .ok (.iconst 4, 1) := dk_7 (dk_at dksX10_readTask_2 6 rfl rfl)
theorem dX10_readTask_55 : decode cX10_readTask 55 = .ok (.bipush 60, 2) := dk_16 60 (dk_at dksX10_readTask_2 7 rfl rfl)
theorem dX10_readTask_57 : decode cX10_readTask 57 = .ok (.invokevirtual 235, 3) := dk_182 0 235 (dk_at dksX10_readTask_2 9 rfl rfl)
theorem dX10_readTask_60 : decode cX10_readTask 60 = .ok (.iastore, 1) := dk_79 (dk_at dksX10_readTask_2 12 rfl rfl)
theorem dX10_readTask_61 : decode cX10_readTask 61 = .ok (.aload_n 0, 1) := dk_42 (dk_at dksX10_readTask_2 13 rfl rfl)
theorem dX10_readTask_62 : decode cX10_readTask 62 = .ok (.getfield 31, 3) := dk_180 0 31 (dk_at dksX10_readTask_2 14 rfl rfl)
theorem dX10_readTask_65 : decode cX10_readTask 65 = .ok (.iload_n 1, 1) := dk_27 (dk_at dksX10_readTask_2 17 rfl rfl)
theorem dX10_readTask_66 : decode cX10_readTask 66 = .ok (.iconst 2, 1) := dk_5 (dk_at dksX10_readTask_2 18 rfl rfl)
theorem dX10_readTask_67 : decode cX10_readTask 67 = .ok (.iadd, 1) := dk_96 (dk_at dksX10_readTask_2 19 rfl rfl)
theorem dX10_readTask_68 : decode cX10_readTask 68 = .ok (.aload_n 0, 1) := dk_42 (dk_at dksX10_readTask_2 20 rfl rfl)
theorem dX10_readTask_69 : decode cX10_readTask 69 = .ok (.ldc 253, 2) := dk_18 253 (dk_at dksX10_readTask_2 21 rfl rfl)
theorem dX10_readTask_71 : decode cX10_readTask 71 = .ok (.iconst 0, 1) := dk_3 (dk_at dksX10_readTask_2 23 rfl rfl)
theorem dX10_readTask_72 : decode cX10_readTask 72 = .ok (.bipush 99, 2) := dk_16 99 (dk_at dksX10_readTask_3 0 rfl rfl)
theorem dX10_readTask_74 : decode cX10_readTask 74 = .ok (.invokevirtual 235, 3) := dk_182 0 235 (dk_at dksX10_readTask_3 2 rfl rfl)
theorem dX10_readTask_77 : decode cX10_readTask 77 = .ok (.iastore, 1) := dk_79 (dk_at dksX10_readTask_3 5 rfl rfl)
theorem dX10_readTask_78 : decode cX10_readTask 78 = .ok (.aload_n 0, 1) := dk_42 (dk_at dksX10_readTask_3 6 rfl rfl)
theorem dX10_readTask_79 : decode cX10_readTask 79 = .ok (.getfield 31, 3) := dk_180 0 31 (dk_at dksX10_readTask_3 7 rfl rfl)
theorem dX10_readTask_82 : decode cX10_readTask 82 = .ok (.iload_n 1, 1) := dk_27 (dk_at dksX10_readTask_3 10 rfl rfl)
theorem dX10_readTask_83 : decode cX10_readTask 83 = .ok (.iconst 3, 1) := dk_6 (dk_at dksX10_readTask_3 11 rfl rfl)
theorem dX10_readTask_84 : decode cX10_readTask 84 = .ok (.iadd, 1) := dk_96 (dk_at dksX10_readTask_3 12 rfl rfl)
theorem dX10_readTask_85 : decode cX10_readTask 85 = .ok (.aload_n 0, 1) := dk_42 (dk_at dksX10_readTask_3 13 rfl rfl)
theorem dX10_readTask_86 : decode cX10_readTask 86 = .ok (.ldc 255, 2) := dk_18 255 (dk_at dksX10_readTask_3 14 rfl rfl)
theorem dX10_readTask_88 : decode cX10_readTask 88 = .ok (.aload_n 0, 1) := dk_42 (dk_at dksX10_readTask_3 16 rfl rfl)
theorem dX10_readTask_89 : decode cX10_readTask 89 = .ok (.getfield 31, 3) := dk_180 0 31 (dk_at dksX10_readTask_3 17 rfl rfl)
theorem dX10_readTask_92 : decode cX10_readTask 92 = .ok (.iload_n 1, 1) := dk_27 (dk_at dksX10_readTask_3 20 rfl rfl)
theorem dX10_readTask_93 : decode cX10_readTask 93 = .ok (.iconst 2, 1) := dk_5 (dk_at dksX10_readTask_3 21 rfl rfl)
theorem dX10_readTask_94 : decode cX10_readTask 94 = .ok (.iadd, 1) := dk_96 (dk_at dksX10_readTask_3 22 rfl rfl)
theorem dX10_readTask_95 : decode cX10_readTask 95 = .ok (.iaload, 1) := dk_46 (dk_at dksX10_readTask_3 23 rfl rfl)
theorem dX10_readTask_96 : decode cX10_readTask 96 = .ok (.iconst 1, 1) := dk_4 (dk_at dksX10_readTask_4 0 rfl rfl)
theorem dX10_readTask_97 : decode cX10_readTask 97 = .ok (.iadd, 1) := dk_96 (dk_at dksX10_readTask_4 1 rfl rfl)
theorem dX10_readTask_98 : decode cX10_readTask 98 = .ok (.bipush 120, 2) := dk_16 120 (dk_at dksX10_readTask_4 2 rfl rfl)
theorem dX10_readTask_100 : decode cX10_readTask 100 = .ok (.invokevirtual 235, 3) := dk_182 0 235 (dk_at dksX10_readTask_4 4 rfl rfl)
theorem dX10_readTask_103 : decode cX10_readTask 103 = .ok (.iastore, 1) := dk_79 (dk_at dksX10_readTask_4 7 rfl rfl)
theorem dX10_readTask_104 : decode cX10_readTask 104 = .ok (.aload_n 0, 1) := dk_42 (dk_at dksX10_readTask_4 8 rfl rfl)
theorem dX10_readTask_105 : decode cX10_readTask 105 = .ok (.getfield 31, 3) := dk_180 0 31 (dk_at dksX10_readTask_4 9 rfl rfl)
theorem dX10_readTask_108 : decode cX10_readTask 108 = .ok (.iload_n 1, 1) := dk_27 (dk_at dksX10_readTask_4 12 rfl rfl)
theorem dX10_readTask_109 : decode cX10_readTask 109 = .ok (.iconst 4, 1) := dk_7 (dk_at dksX10_readTask_4 13 rfl rfl)
theorem dX10_readTask_110 : decode cX10_readTask 110 = .ok (.iadd, 1) := dk_96 (dk_at dksX10_readTask_4 14 rfl rfl)
theorem dX10_readTask_111 : decode cX10_readTask 111 = .ok (.aload_n 0, 1) := dk_42 (dk_at dksX10_readTask_4 15 rfl rfl)
theorem dX10_readTask_112 : decode cX10_readTask 112 = .ok (.ldc_w 257, 3) := dk_19 1 1 (dk_at dksX10_readTask_4 16 rfl rfl)
theorem dX10_readTask_115 : decode cX10_readTask 115 = .ok (.iconst 0, 1) := dk_3 (dk_at dksX10_readTask_4 19 rfl rfl)
theorem dX10_readTask_116 : decode cX10_readTask 116 = .ok (.bipush 20, 2) := dk_16 20 (dk_at dksX10_readTask_4 20 rfl rfl)
theorem dX10_readTask_118 : decode cX10_readTask 118 = .ok (.invokevirtual 235, 3) := dk_182 0 235 (dk_at dksX10_readTask_5 0 rfl rfl)
theorem dX10_readTask_121 : decode cX10_readTask 121 = .ok (.iastore, 1) := dk_79 (dk_at dksX10_readTask_5 3 rfl rfl)
theorem dX10_readTask_122 : decode cX10_readTask 122 = .ok (.aload_n 0, 1) := dk_42 (dk_at dksX10_readTask_5 4 rfl rfl)
theorem dX10_readTask_123 : decode cX10_readTask 123 = .ok (.getfield 31, 3) := dk_180 0 31 (dk_at dksX10_readTask_5 5 rfl rfl)
theorem dX10_readTask_126 : decode cX10_readTask 126 = .ok (.iload_n 1, 1) := dk_27 (dk_at dksX10_readTask_5 8 rfl rfl)
theorem dX10_readTask_127 : decode cX10_readTask 127 = .ok (.iconst 5, 1) := dk_8 (dk_at dksX10_readTask_5 9 rfl rfl)
theorem dX10_readTask_128 : decode cX10_readTask 128 = .ok (.iadd, 1) := dk_96 (dk_at dksX10_readTask_5 10 rfl rfl)
theorem dX10_readTask_129 : decode cX10_readTask 129 = .ok (.aload_n 0, 1) := dk_42 (dk_at dksX10_readTask_5 11 rfl rfl)
theorem dX10_readTask_130 : decode cX10_readTask 130 = .ok (.ldc_w 259, 3) := dk_19 1 3 (dk_at dksX10_readTask_5 12 rfl rfl)
theorem dX10_readTask_133 : decode cX10_readTask 133 = .ok (.aload_n 0, 1) := dk_42 (dk_at dksX10_readTask_5 15 rfl rfl)
theorem dX10_readTask_134 : decode cX10_readTask 134 = .ok (.getfield 31, 3) := dk_180 0 31 (dk_at dksX10_readTask_5 16 rfl rfl)
theorem dX10_readTask_137 : decode cX10_readTask 137 = .ok (.iload_n 1, 1) := dk_27 (dk_at dksX10_readTask_5 19 rfl rfl)
theorem dX10_readTask_138 : decode cX10_readTask 138 = .ok (.iconst 4, 1) := dk_7 (dk_at dksX10_readTask_5 20 rfl rfl)
theorem dX10_readTask_139 : decode cX10_readTask 139 = .ok (.iadd, 1) := dk_96 (dk_at dksX10_readTask_5 21 rfl rfl)
theorem dX10_readTask_140 : decode cX10_readTask 140 = .ok (.iaload, 1) := dk_46 (dk_at dksX10_readTask_5 22 rfl rfl)
theorem dX10_readTask_141 : decode cX10_readTask 141 = .ok (.bipush 40, 2) := dk_16 40 (dk_at dksX10_readTask_6 0 rfl rfl)
theorem dX10_readTask_143 : decode cX10_readTask 143 = .ok (.invokevirtual 235, 3) := dk_182 0 235 (dk_at dksX10_readTask_6 2 rfl rfl)
theorem dX10_readTask_146 : decode cX10_readTask 146 = .ok (.iastore, 1) := dk_79 (dk_at dksX10_readTask_6 5 rfl rfl)
theorem dX10_readTask_147 : decode cX10_readTask 147 = .ok (.aload_n 0, 1) := dk_42 (dk_at dksX10_readTask_6 6 rfl rfl)
theorem dX10_readTask_148 : decode cX10_readTask 148 = .ok (.getfield 31, 3) := dk_180 0 31 (dk_at dksX10_readTask_6 7 rfl rfl)
theorem dX10_readTask_151 : decode cX10_readTask 151 = .ok (.iconst 4, 1) := dk_7 (dk_at dksX10_readTask_6 10 rfl rfl)
theorem dX10_readTask_152 : decode cX10_readTask 152 = .ok (.dup2, 1) := dk_92 (dk_at dksX10_readTask_6 11 rfl rfl)
theorem dX10_readTask_153 : decode cX10_readTask 153 = .ok (.iaload, 1) := dk_46 (dk_at dksX10_readTask_6 12 rfl rfl)
theorem dX10_readTask_154 : decode cX10_readTask 154 = .ok (.iconst 1, 1) := dk_4 (dk_at dksX10_readTask_6 13 rfl rfl)
theorem dX10_readTask_155 : decode cX10_readTask 155 = .ok (.iadd, 1) := dk_96 (dk_at dksX10_readTask_6 14 rfl rfl)
theorem dX10_readTask_156 : decode cX10_readTask 156 = .ok (.iastore, 1) := dk_79 (dk_at dksX10_readTask_6 15 rfl rfl)
theorem dX10_readTask_157 : decode cX10_readTask 157 = .ok (.return_, 1) := dk_177 (dk_at dksX10_readTask_6 16 rfl rfl)
abbrev cX10_readNode : ByteArray := prog_18_method_32_code
def yX10_readNode : MethodName := ⟨RX10, "readNode", "()V"⟩
def dkwX10_readNode_7 : List UInt8 := [21, 4, 79, 42, 180, 0, 31, 16, 11, 16, 7, 27, 104, 96, 16, 6, 96, 92, 46, 4, 96, 79, 177]
abbrev dktX10_readNode_7 : List UInt8 := dkwX10_readNode_7 ++ []
def dkwX10_readNode_6 : List UInt8 := [104, 28, 96, 104, 96, 29, 79, 42, 180, 0, 31, 16, 46, 5, 16, 6, 27, 104, 28, 96, 104, 96, 4, 96]
abbrev dktX10_readNode_6 : List UInt8 := dkwX10_readNode_6 ++ dktX10_readNode_7
def dkwX10_readNode_5 : List UInt8 := [182, 0, 199, 153, 0, 11, 42, 180, 0, 176, 5, 159, 255, 224, 42, 180, 0, 31, 16, 46, 5, 16, 6, 27]
abbrev dktX10_readNode_5 : List UInt8 := dkwX10_readNode_5 ++ dktX10_readNode_6
def dkwX10_readNode_4 : List UInt8 := [182, 0, 224, 42, 21, 4, 28, 4, 100, 182, 1, 7, 54, 5, 21, 4, 4, 21, 5, 120, 128, 54, 4, 42]
abbrev dktX10_readNode_4 : List UInt8 := dkwX10_readNode_4 ++ dktX10_readNode_5
def dkwX10_readNode_3 : List UInt8 := [16, 6, 96, 46, 61, 42, 4, 16, 9, 182, 0, 228, 62, 3, 54, 4, 28, 158, 0, 45, 42, 19, 1, 5]
abbrev dktX10_readNode_3 : List UInt8 := dkwX10_readNode_3 ++ dktX10_readNode_4
def dkwX10_readNode_2 : List UInt8 := [16, 6, 96, 16, 6, 182, 0, 243, 154, 0, 4, 177, 42, 180, 0, 31, 16, 11, 16, 7, 27, 104, 96]
abbrev dktX10_readNode_2 : List UInt8 := dkwX10_readNode_2 ++ dktX10_readNode_3
def dkwX10_readNode_1 : List UInt8 := [182, 0, 199, 154, 0, 4, 177, 42, 180, 0, 31, 7, 46, 4, 100, 60, 42, 16, 11, 16, 7, 27, 104, 96]
abbrev dktX10_readNode_1 : List UInt8 := dkwX10_readNode_1 ++ dktX10_readNode_2
def dkwX10_readNode_0 : List UInt8 := [42, 182, 0, 199, 153, 0, 17, 42, 180, 0, 31, 7, 46, 154, 0, 8, 42, 4, 182, 0, 220, 42]
abbrev dktX10_readNode_0 : List UInt8 := dkwX10_readNode_0 ++ dktX10_readNode_1
theorem dksX10_readNode_0 : cX10_readNode.data.toList.drop 0 = dktX10_readNode_0 := by decide +kernel
theorem dksX10_readNode_1 : cX10_readNode.data.toList.drop 22 = dktX10_readNode_1 := dk_seg dksX10_readNode_0 22 rfl rfl
theorem dksX10_readNode_2 : cX10_readNode.data.toList.drop 46 = dktX10_readNode_2 := dk_seg dksX10_readNode_1 24 rfl rfl
theorem dksX10_readNode_3 : cX10_readNode.data.toList.drop 69 = dktX10_readNode_3 := dk_seg dksX10_readNode_2 23 rfl rfl
theorem dksX10_readNode_4 : cX10_readNode.data.toList.drop 93 = dktX10_readNode_4 := dk_seg dksX10_readNode_3 24 rfl rfl
theorem dksX10_readNode_5 : cX10_readNode.data.toList.drop 117 = dktX10_readNode_5 := dk_seg dksX10_readNode_4 24 rfl rfl
theorem dksX10_readNode_6 : cX10_readNode.data.toList.drop 141 = dktX10_readNode_6 := dk_seg dksX10_readNode_5 24 rfl rfl
theorem dksX10_readNode_7 : cX10_readNode.data.toList.drop 165 = dktX10_readNode_7 := dk_seg dksX10_readNode_6 24 rfl rfl
theorem dX10_readNode_0 : decode cX10_readNode 0 = .ok (.aload_n 0, 1) := dk_42 (dk_at dksX10_readNode_0 0 rfl rfl)
theorem dX10_readNode_1 : decode cX10_readNode 1 = .ok (.invokevirtual 199, 3) := dk_182 0 199 (dk_at dksX10_readNode_0 1 rfl rfl)
theorem dX10_readNode_4 : decode cX10_readNode 4 = .ok (.ifCond .eq 17, 3) := dk_153 0 17 (dk_at dksX10_readNode_0 4 rfl rfl)
theorem dX10_readNode_7 : decode cX10_readNode 7 = .ok (.aload_n 0, 1) := dk_42 (dk_at dksX10_readNode_0 7 rfl rfl)
theorem dX10_readNode_8 : decode cX10_readNode 8 = .ok (.getfield 31, 3) := dk_180 0 31 (dk_at dksX10_readNode_0 8 rfl rfl)
theorem dX10_readNode_11 : decode cX10_readNode 11 = .ok (.iconst 4, 1) := dk_7 (dk_at dksX10_readNode_0 11 rfl rfl)
theorem dX10_readNode_12 : decode cX10_readNode 12 = .ok (.iaload, 1) := dk_46 (dk_at dksX10_readNode_0 12 rfl rfl)
theorem dX10_readNode_13 : decode cX10_readNode 13 = .ok (.ifCond .ne 8, 3) := dk_154 0 8 (dk_at dksX10_readNode_0 13 rfl rfl)
theorem dX10_readNode_16 : decode cX10_readNode 16 = .ok (.aload_n 0, 1) := dk_42 (dk_at dksX10_readNode_0 16 rfl rfl)
theorem dX10_readNode_17 : decode cX10_readNode 17 = .ok (.iconst 1, 1) := dk_4 (dk_at dksX10_readNode_0 17 rfl rfl)
theorem dX10_readNode_18 : decode cX10_readNode 18 = .ok (.invokevirtual 220, 3) := dk_182 0 220 (dk_at dksX10_readNode_0 18 rfl rfl)
theorem dX10_readNode_21 : decode cX10_readNode 21 = .ok (.aload_n 0, 1) := dk_42 (dk_at dksX10_readNode_0 21 rfl rfl)
theorem dX10_readNode_22 : decode cX10_readNode 22 = .ok (.invokevirtual 199, 3) := dk_182 0 199 (dk_at dksX10_readNode_1 0 rfl rfl)
theorem dX10_readNode_25 : decode cX10_readNode 25 = .ok (.ifCond .ne 4, 3) := dk_154 0 4 (dk_at dksX10_readNode_1 3 rfl rfl)
theorem dX10_readNode_28 : decode cX10_readNode 28 = .ok (.return_, 1) := dk_177 (dk_at dksX10_readNode_1 6 rfl rfl)
theorem dX10_readNode_29 : decode cX10_readNode 29 = .ok (.aload_n 0, 1) := dk_42 (dk_at dksX10_readNode_1 7 rfl rfl)
theorem dX10_readNode_30 : decode cX10_readNode 30 = .ok (.getfield 31, 3) := dk_180 0 31 (dk_at dksX10_readNode_1 8 rfl rfl)
theorem dX10_readNode_33 : decode cX10_readNode 33 = .ok (.iconst 4, 1) := dk_7 (dk_at dksX10_readNode_1 11 rfl rfl)
theorem dX10_readNode_34 : decode cX10_readNode 34 = .ok (.iaload, 1) := dk_46 (dk_at dksX10_readNode_1 12 rfl rfl)
theorem dX10_readNode_35 : decode cX10_readNode 35 = .ok (.iconst 1, 1) := dk_4 (dk_at dksX10_readNode_1 13 rfl rfl)
theorem dX10_readNode_36 : decode cX10_readNode 36 = .ok (.isub, 1) := dk_100 (dk_at dksX10_readNode_1 14 rfl rfl)
theorem dX10_readNode_37 : decode cX10_readNode 37 = .ok (.istore_n 1, 1) := dk_60 (dk_at dksX10_readNode_1 15 rfl rfl)
theorem dX10_readNode_38 : decode cX10_readNode 38 = .ok (.aload_n 0, 1) := dk_42 (dk_at dksX10_readNode_1 16 rfl rfl)
theorem dX10_readNode_39 : decode cX10_readNode 39 = .ok (.bipush 11, 2) := dk_16 11 (dk_at dksX10_readNode_1 17 rfl rfl)
theorem dX10_readNode_41 : decode cX10_readNode 41 = .ok (.bipush 7, 2) := dk_16 7 (dk_at dksX10_readNode_1 19 rfl rfl)
theorem dX10_readNode_43 : decode cX10_readNode 43 = .ok (.iload_n 1, 1) := dk_27 (dk_at dksX10_readNode_1 21 rfl rfl)
theorem dX10_readNode_44 : decode cX10_readNode 44 = .ok (.imul, 1) := dk_104 (dk_at dksX10_readNode_1 22 rfl rfl)
theorem dX10_readNode_45 : decode cX10_readNode 45 = .ok (.iadd, 1) := dk_96 (dk_at dksX10_readNode_1 23 rfl rfl)
theorem dX10_readNode_46 : decode cX10_readNode 46 = .ok (.bipush 6, 2) := dk_16 6 (dk_at dksX10_readNode_2 0 rfl rfl)
theorem dX10_readNode_48 : decode cX10_readNode 48 = .ok (.iadd, 1) := dk_96 (dk_at dksX10_readNode_2 2 rfl rfl)
theorem dX10_readNode_49 : decode cX10_readNode 49 = .ok (.bipush 6, 2) := dk_16 6 (dk_at dksX10_readNode_2 3 rfl rfl)
theorem dX10_readNode_51 : decode cX10_readNode 51 = .ok (.invokevirtual 243, 3) := dk_182 0 243 (dk_at dksX10_readNode_2 5 rfl rfl)
theorem dX10_readNode_54 : decode cX10_readNode 54 = .ok (.ifCond .ne 4, 3) := dk_154 0 4 (dk_at dksX10_readNode_2 8 rfl rfl)
theorem dX10_readNode_57 : decode cX10_readNode 57 = .ok (.return_, 1) := dk_177 (dk_at dksX10_readNode_2 11 rfl rfl)
theorem dX10_readNode_58 : decode cX10_readNode 58 = .ok (.aload_n 0, 1) := dk_42 (dk_at dksX10_readNode_2 12 rfl rfl)
theorem dX10_readNode_59 : decode cX10_readNode 59 = .ok (.getfield 31, 3) := dk_180 0 31 (dk_at dksX10_readNode_2 13 rfl rfl)
theorem dX10_readNode_62 : decode cX10_readNode 62 = .ok (.bipush 11, 2) := dk_16 11 (dk_at dksX10_readNode_2 16 rfl rfl)
theorem dX10_readNode_64 : decode cX10_readNode 64 = .ok (.bipush 7, 2) := dk_16 7 (dk_at dksX10_readNode_2 18 rfl rfl)
theorem dX10_readNode_66 : decode cX10_readNode 66 = .ok (.iload_n 1, 1) := dk_27 (dk_at dksX10_readNode_2 20 rfl rfl)
theorem dX10_readNode_67 : decode cX10_readNode 67 = .ok (.imul, 1) := dk_104 (dk_at dksX10_readNode_2 21 rfl rfl)
theorem dX10_readNode_68 : decode cX10_readNode 68 = .ok (.iadd, 1) := dk_96 (dk_at dksX10_readNode_2 22 rfl rfl)
theorem dX10_readNode_69 : decode cX10_readNode 69 = .ok (.bipush 6, 2) := dk_16 6 (dk_at dksX10_readNode_3 0 rfl rfl)
theorem dX10_readNode_71 : decode cX10_readNode 71 = .ok (.iadd, 1) := dk_96 (dk_at dksX10_readNode_3 2 rfl rfl)
theorem dX10_readNode_72 : decode cX10_readNode 72 = .ok (.iaload, 1) := dk_46 (dk_at dksX10_readNode_3 3 rfl rfl)
theorem dX10_readNode_73 : decode cX10_readNode 73 = .ok (.istore_n 2, 1) := dk_61 (dk_at dksX10_readNode_3 4 rfl rfl)
theorem dX10_readNode_74 : decode cX10_readNode 74 = .ok (.aload_n 0, 1) := dk_42 (dk_at dksX10_readNode_3 5 rfl rfl)
theorem dX10_readNode_75 : decode cX10_readNode 75 = .ok (.iconst 1, 1) := dk_4 (dk_at dksX10_readNode_3 6 rfl rfl)
theorem dX10_readNode_76 : decode cX10_readNode 76 = .ok (.bipush 9, 2) := dk_16 9 (dk_at dksX10_readNode_3 7 rfl rfl)
theorem dX10_readNode_78 : decode cX10_readNode 78 = .ok (.invokevirtual 228, 3) := dk_182 0 228 (dk_at dksX10_readNode_3 9 rfl rfl)
theorem dX10_readNode_81 : decode cX10_readNode 81 = .ok (.istore_n 3, 1) := dk_62 (dk_at dksX10_readNode_3 12 rfl rfl)
theorem dX10_readNode_82 : decode cX10_readNode 82 = .ok (.iconst 0, 1) := dk_3 (dk_at dksX10_readNode_3 13 rfl rfl)
theorem dX10_readNode_83 : decode cX10_readNode 83 = .ok (.istore 4, 2) := dk_54 4 (dk_at dksX10_readNode_3 14 rfl rfl)
theorem dX10_readNode_85 : decode cX10_readNode 85 = .ok (.iload_n 2, 1) := dk_28 (dk_at dksX10_readNode_3 16 rfl rfl)
theorem dX10_readNode_86 : decode cX10_readNode 86 = .ok (.ifCond .le 45, 3) := dk_158 0 45 (dk_at dksX10_readNode_3 17 rfl rfl)
theorem dX10_readNode_89 : decode cX10_readNode 89 = .ok (.aload_n 0, 1) := dk_42 (dk_at dksX10_readNode_3 20 rfl rfl)
theorem dX10_readNode_90 : decode cX10_readNode 90 = .ok (.ldc_w 261, 3) := dk_19 1 5 (dk_at dksX10_readNode_3 21 rfl rfl)
theorem dX10_readNode_93 : decode cX10_readNode 93 = .ok (.invokevirtual 224, 3) := dk_182 0 224 (dk_at dksX10_readNode_4 0 rfl rfl)
theorem dX10_readNode_96 : decode cX10_readNode 96 = .ok (.aload_n 0, 1) := dk_42 (dk_at dksX10_readNode_4 3 rfl rfl)
theorem dX10_readNode_97 : decode cX10_readNode 97 = .ok (.iload 4, 2) := dk_21 4 (dk_at dksX10_readNode_4 4 rfl rfl)
theorem dX10_readNode_99 : decode cX10_readNode 99 = .ok (.iload_n 2, 1) := dk_28 (dk_at dksX10_readNode_4 6 rfl rfl)
theorem dX10_readNode_100 : decode cX10_readNode 100 = .ok (.iconst 1, 1) := dk_4 (dk_at dksX10_readNode_4 7 rfl rfl)
theorem dX10_readNode_101 : decode cX10_readNode 101 = .ok (.isub, 1) := dk_100 (dk_at dksX10_readNode_4 8 rfl rfl)
theorem dX10_readNode_102 : decode cX10_readNode 102 = .ok (.invokevirtual 263, 3) := dk_182 1 7 (dk_at dksX10_readNode_4 9 rfl rfl)
theorem dX10_readNode_105 : decode cX10_readNode 105 = .ok (.istore 5, 2) := dk_54 5 (dk_at dksX10_readNode_4 12 rfl rfl)
theorem dX10_readNode_107 : decode cX10_readNode 107 = .ok (.iload 4, 2) := dk_21 4 (dk_at dksX10_readNode_4 14 rfl rfl)
theorem dX10_readNode_109 : decode cX10_readNode 109 = .ok (.iconst 1, 1) := dk_4 (dk_at dksX10_readNode_4 16 rfl rfl)
theorem dX10_readNode_110 : decode cX10_readNode 110 = .ok (.iload 5, 2) := dk_21 5 (dk_at dksX10_readNode_4 17 rfl rfl)
theorem dX10_readNode_112 : decode cX10_readNode 112 = .ok (.ishl, 1) := dk_120 (dk_at dksX10_readNode_4 19 rfl rfl)
theorem dX10_readNode_113 : decode cX10_readNode 113 = .ok (.ior, 1) := dk_128 (dk_at dksX10_readNode_4 20 rfl rfl)
theorem dX10_readNode_114 : decode cX10_readNode 114 = .ok (.istore 4, 2) := dk_54 4 (dk_at dksX10_readNode_4 21 rfl rfl)
theorem dX10_readNode_116 : decode cX10_readNode 116 = .ok (.aload_n 0, 1) := dk_42 (dk_at dksX10_readNode_4 23 rfl rfl)
theorem dX10_readNode_117 : decode cX10_readNode 117 = .ok (.invokevirtual 199, 3) := dk_182 0 199 (dk_at dksX10_readNode_5 0 rfl rfl)
theorem dX10_readNode_120 : decode cX10_readNode 120 = .ok (.ifCond .eq 11, 3) := dk_153 0 11 (dk_at dksX10_readNode_5 3 rfl rfl)
theorem dX10_readNode_123 : decode cX10_readNode 123 = .ok (.aload_n 0, 1) := dk_42 (dk_at dksX10_readNode_5 6 rfl rfl)
theorem dX10_readNode_124 : decode cX10_readNode 124 = .ok (.getfield 176, 3) := dk_180 0 176 (dk_at dksX10_readNode_5 7 rfl rfl)
theorem dX10_readNode_127 : decode cX10_readNode 127 = .ok (.iconst 2, 1) := dk_5 (dk_at dksX10_readNode_5 10 rfl rfl)
theorem dX10_readNode_128 : decode cX10_readNode 128 = .ok (.if_icmp .eq (-32), 3) := dk_159 255 224 (dk_at dksX10_readNode_5 11 rfl rfl)
theorem dX10_readNode_131 : decode cX10_readNode 131 = .ok (.aload_n 0, 1) := dk_42 (dk_at dksX10_readNode_5 14 rfl rfl)
theorem dX10_readNode_132 : decode cX10_readNode 132 = .ok (.getfield 31, 3) := dk_180 0 31 (dk_at dksX10_readNode_5 15 rfl rfl)
theorem dX10_readNode_135 : decode cX10_readNode 135 = .ok (.bipush 46, 2) := dk_16 46 (dk_at dksX10_readNode_5 18 rfl rfl)
theorem dX10_readNode_137 : decode cX10_readNode 137 = .ok (.iconst 2, 1) := dk_5 (dk_at dksX10_readNode_5 20 rfl rfl)
theorem dX10_readNode_138 : decode cX10_readNode 138 = .ok (.bipush 6, 2) := dk_16 6 (dk_at dksX10_readNode_5 21 rfl rfl)
theorem dX10_readNode_140 : decode cX10_readNode 140 = .ok (.iload_n 1, 1) := dk_27 (dk_at dksX10_readNode_5 23 rfl rfl)
theorem dX10_readNode_141 : decode cX10_readNode 141 = .ok (.imul, 1) := dk_104 (dk_at dksX10_readNode_6 0 rfl rfl)
theorem dX10_readNode_142 : decode cX10_readNode 142 = .ok (.iload_n 2, 1) := dk_28 (dk_at dksX10_readNode_6 1 rfl rfl)
theorem dX10_readNode_143 : decode cX10_readNode 143 = .ok (.iadd, 1) := dk_96 (dk_at dksX10_readNode_6 2 rfl rfl)
theorem dX10_readNode_144 : decode cX10_readNode 144 = .ok (.imul, 1) := dk_104 (dk_at dksX10_readNode_6 3 rfl rfl)
theorem dX10_readNode_145 : decode cX10_readNode 145 = .ok (.iadd, 1) := dk_96 (dk_at dksX10_readNode_6 4 rfl rfl)
theorem dX10_readNode_146 : decode cX10_readNode 146 = .ok (.iload_n 3, 1) := dk_29 (dk_at dksX10_readNode_6 5 rfl rfl)
theorem dX10_readNode_147 : decode cX10_readNode 147 = .ok (.iastore, 1) := dk_79 (dk_at dksX10_readNode_6 6 rfl rfl)
theorem dX10_readNode_148 : decode cX10_readNode 148 = .ok (.aload_n 0, 1) := dk_42 (dk_at dksX10_readNode_6 7 rfl rfl)
theorem dX10_readNode_149 : decode cX10_readNode 149 = .ok (.getfield 31, 3) := dk_180 0 31 (dk_at dksX10_readNode_6 8 rfl rfl)
theorem dX10_readNode_152 : decode cX10_readNode 152 = .ok (.bipush 46, 2) := dk_16 46 (dk_at dksX10_readNode_6 11 rfl rfl)
theorem dX10_readNode_154 : decode cX10_readNode 154 = .ok (.iconst 2, 1) := dk_5 (dk_at dksX10_readNode_6 13 rfl rfl)
theorem dX10_readNode_155 : decode cX10_readNode 155 = .ok (.bipush 6, 2) := dk_16 6 (dk_at dksX10_readNode_6 14 rfl rfl)
theorem dX10_readNode_157 : decode cX10_readNode 157 = .ok (.iload_n 1, 1) := dk_27 (dk_at dksX10_readNode_6 16 rfl rfl)
theorem dX10_readNode_158 : decode cX10_readNode 158 = .ok (.imul, 1) := dk_104 (dk_at dksX10_readNode_6 17 rfl rfl)
theorem dX10_readNode_159 : decode cX10_readNode 159 = .ok (.iload_n 2, 1) := dk_28 (dk_at dksX10_readNode_6 18 rfl rfl)
theorem dX10_readNode_160 : decode cX10_readNode 160 = .ok (.iadd, 1) := dk_96 (dk_at dksX10_readNode_6 19 rfl rfl)
theorem dX10_readNode_161 : decode cX10_readNode 161 = .ok (.imul, 1) := dk_104 (dk_at dksX10_readNode_6 20 rfl rfl)
theorem dX10_readNode_162 : decode cX10_readNode 162 = .ok (.iadd, 1) := dk_96 (dk_at dksX10_readNode_6 21 rfl rfl)
theorem dX10_readNode_163 : decode cX10_readNode 163 = .ok (.iconst 1, 1) := dk_4 (dk_at dksX10_readNode_6 22 rfl rfl)
theorem dX10_readNode_164 : decode cX10_readNode 164 = .ok (.iadd, 1) := dk_96 (dk_at dksX10_readNode_6 23 rfl rfl)
theorem dX10_readNode_165 : decode cX10_readNode 165 = .ok (.iload 4, 2) := dk_21 4 (dk_at dksX10_readNode_7 0 rfl rfl)
theorem dX10_readNode_167 : decode cX10_readNode 167 = .ok (.iastore, 1) := dk_79 (dk_at dksX10_readNode_7 2 rfl rfl)
theorem dX10_readNode_168 : decode cX10_readNode 168 = .ok (.aload_n 0, 1) := dk_42 (dk_at dksX10_readNode_7 3 rfl rfl)
theorem dX10_readNode_169 : decode cX10_readNode 169 = .ok (.getfield 31, 3) := dk_180 0 31 (dk_at dksX10_readNode_7 4 rfl rfl)
theorem dX10_readNode_172 : decode cX10_readNode 172 = .ok (.bipush 11, 2) := dk_16 11 (dk_at dksX10_readNode_7 7 rfl rfl)
theorem dX10_readNode_174 : decode cX10_readNode 174 = .ok (.bipush 7, 2) := dk_16 7 (dk_at dksX10_readNode_7 9 rfl rfl)
theorem dX10_readNode_176 : decode cX10_readNode 176 = .ok (.iload_n 1, 1) := dk_27 (dk_at dksX10_readNode_7 11 rfl rfl)
theorem dX10_readNode_177 : decode cX10_readNode 177 = .ok (.imul, 1) := dk_104 (dk_at dksX10_readNode_7 12 rfl rfl)
theorem dX10_readNode_178 : decode cX10_readNode 178 = .ok (.iadd, 1) := dk_96 (dk_at dksX10_readNode_7 13 rfl rfl)
theorem dX10_readNode_179 : decode cX10_readNode 179 = .ok (.bipush 6, 2) := dk_16 6 (dk_at dksX10_readNode_7 14 rfl rfl)
theorem dX10_readNode_181 : decode cX10_readNode 181 = .ok (.iadd, 1) := dk_96 (dk_at dksX10_readNode_7 16 rfl rfl)
theorem dX10_readNode_182 : decode cX10_readNode 182 = .ok (.dup2, 1) := dk_92 (dk_at dksX10_readNode_7 17 rfl rfl)
theorem dX10_readNode_183 : decode cX10_readNode 183 = .ok (.iaload, 1) := dk_46 (dk_at dksX10_readNode_7 18 rfl rfl)
theorem dX10_readNode_184 : decode cX10_readNode 184 = .ok (.iconst 1, 1) := dk_4 (dk_at dksX10_readNode_7 19 rfl rfl)
theorem dX10_readNode_185 : decode cX10_readNode 185 = .ok (.iadd, 1) := dk_96 (dk_at dksX10_readNode_7 20 rfl rfl)
theorem dX10_readNode_186 : decode cX10_readNode 186 = .ok (.iastore, 1) := dk_79 (dk_at dksX10_readNode_7 21 rfl rfl)
theorem dX10_readNode_187 : decode cX10_readNode 187 = .ok (.return_, 1) := dk_177 (dk_at dksX10_readNode_7 22 rfl rfl)
abbrev cX10_takesNew : ByteArray := prog_18_method_31_code
def yX10_takesNew : MethodName := ⟨RX10, "takesNew", "(II)I"⟩
def dkwX10_takesNew_1 : List UInt8 := [42, 180, 0, 187, 122, 4, 126, 4, 160, 0, 8, 42, 5, 182, 0, 220, 42, 3, 28, 182, 0, 228, 172]
abbrev dktX10_takesNew_1 : List UInt8 := dkwX10_takesNew_1 ++ []
def dkwX10_takesNew_0 : List UInt8 := [42, 182, 0, 199, 153, 0, 36, 42, 180, 0, 176, 5, 160, 0, 28, 42, 180, 0, 187, 28, 163, 0, 20, 27]
abbrev dktX10_takesNew_0 : List UInt8 := dkwX10_takesNew_0 ++ dktX10_takesNew_1
theorem dksX10_takesNew_0 : cX10_takesNew.data.toList.drop 0 = dktX10_takesNew_0 := by decide +kernel
theorem dksX10_takesNew_1 : cX10_takesNew.data.toList.drop 24 = dktX10_takesNew_1 := dk_seg dksX10_takesNew_0 24 rfl rfl
theorem dX10_takesNew_0 : decode cX10_takesNew 0 = .ok (.aload_n 0, 1) := dk_42 (dk_at dksX10_takesNew_0 0 rfl rfl)
theorem dX10_takesNew_1 : decode cX10_takesNew 1 = .ok (.invokevirtual 199, 3) := dk_182 0 199 (dk_at dksX10_takesNew_0 1 rfl rfl)
theorem dX10_takesNew_4 : decode cX10_takesNew 4 = .ok (.ifCond .eq 36, 3) := dk_153 0 36 (dk_at dksX10_takesNew_0 4 rfl rfl)
theorem dX10_takesNew_7 : decode cX10_takesNew 7 = .ok (.aload_n 0, 1) := dk_42 (dk_at dksX10_takesNew_0 7 rfl rfl)
theorem dX10_takesNew_8 : decode cX10_takesNew 8 = .ok (.getfield 176, 3) := dk_180 0 176 (dk_at dksX10_takesNew_0 8 rfl rfl)
theorem dX10_takesNew_11 : decode cX10_takesNew 11 = .ok (.iconst 2, 1) := dk_5 (dk_at dksX10_takesNew_0 11 rfl rfl)
theorem dX10_takesNew_12 : decode cX10_takesNew 12 = .ok (.if_icmp .ne 28, 3) := dk_160 0 28 (dk_at dksX10_takesNew_0 12 rfl rfl)
theorem dX10_takesNew_15 : decode cX10_takesNew 15 = .ok (.aload_n 0, 1) := dk_42 (dk_at dksX10_takesNew_0 15 rfl rfl)
theorem dX10_takesNew_16 : decode cX10_takesNew 16 = .ok (.getfield 187, 3) := dk_180 0 187 (dk_at dksX10_takesNew_0 16 rfl rfl)
theorem dX10_takesNew_19 : decode cX10_takesNew 19 = .ok (.iload_n 2, 1) := dk_28 (dk_at dksX10_takesNew_0 19 rfl rfl)
theorem dX10_takesNew_20 : decode cX10_takesNew 20 = .ok (.if_icmp .gt 20, 3) := dk_163 0 20 (dk_at dksX10_takesNew_0 20 rfl rfl)
theorem dX10_takesNew_23 : decode cX10_takesNew 23 = .ok (.iload_n 1, 1) := dk_27 (dk_at dksX10_takesNew_0 23 rfl rfl)
theorem dX10_takesNew_24 : decode cX10_takesNew 24 = .ok (.aload_n 0, 1) := dk_42 (dk_at dksX10_takesNew_1 0 rfl rfl)
theorem dX10_takesNew_25 : decode cX10_takesNew 25 = .ok (.getfield 187, 3) := dk_180 0 187 (dk_at dksX10_takesNew_1 1 rfl rfl)
theorem dX10_takesNew_28 : decode cX10_takesNew 28 = .ok (.ishr, 1) := dk_122 (dk_at dksX10_takesNew_1 4 rfl rfl)
theorem dX10_takesNew_29 : decode cX10_takesNew 29 = .ok (.iconst 1, 1) := dk_4 (dk_at dksX10_takesNew_1 5 rfl rfl)
theorem dX10_takesNew_30 : decode cX10_takesNew 30 = .ok (.iand, 1) := dk_126 (dk_at dksX10_takesNew_1 6 rfl rfl)
theorem dX10_takesNew_31 : decode cX10_takesNew 31 = .ok (.iconst 1, 1) := dk_4 (dk_at dksX10_takesNew_1 7 rfl rfl)
theorem dX10_takesNew_32 : decode cX10_takesNew 32 = .ok (.if_icmp .ne 8, 3) := dk_160 0 8 (dk_at dksX10_takesNew_1 8 rfl rfl)
theorem dX10_takesNew_35 : decode cX10_takesNew 35 = .ok (.aload_n 0, 1) := dk_42 (dk_at dksX10_takesNew_1 11 rfl rfl)
theorem dX10_takesNew_36 : decode cX10_takesNew 36 = .ok (.iconst 2, 1) := dk_5 (dk_at dksX10_takesNew_1 12 rfl rfl)
theorem dX10_takesNew_37 : decode cX10_takesNew 37 = .ok (.invokevirtual 220, 3) := dk_182 0 220 (dk_at dksX10_takesNew_1 13 rfl rfl)
theorem dX10_takesNew_40 : decode cX10_takesNew 40 = .ok (.aload_n 0, 1) := dk_42 (dk_at dksX10_takesNew_1 16 rfl rfl)
theorem dX10_takesNew_41 : decode cX10_takesNew 41 = .ok (.iconst 0, 1) := dk_3 (dk_at dksX10_takesNew_1 17 rfl rfl)
theorem dX10_takesNew_42 : decode cX10_takesNew 42 = .ok (.iload_n 2, 1) := dk_28 (dk_at dksX10_takesNew_1 18 rfl rfl)
theorem dX10_takesNew_43 : decode cX10_takesNew 43 = .ok (.invokevirtual 228, 3) := dk_182 0 228 (dk_at dksX10_takesNew_1 19 rfl rfl)
theorem dX10_takesNew_46 : decode cX10_takesNew 46 = .ok (.ireturn, 1) := dk_172 (dk_at dksX10_takesNew_1 22 rfl rfl)
abbrev cX10_readInjection : ByteArray := prog_18_method_35_code
def yX10_readInjection : MethodName := ⟨RX10, "readInjection", "(I)V"⟩
def dkwX10_readInjection_8 : List UInt8 := [182, 0, 235, 79, 42, 180, 0, 31, 8, 92, 46, 4, 96, 79, 177]
abbrev dktX10_readInjection_8 : List UInt8 := dkwX10_readInjection_8 ++ []
def dkwX10_readInjection_7 : List UInt8 := [96, 46, 4, 100, 182, 0, 235, 79, 42, 180, 0, 31, 28, 7, 96, 42, 19, 1, 30, 4, 16, 9]
abbrev dktX10_readInjection_7 : List UInt8 := dkwX10_readInjection_7 ++ dktX10_readInjection_8
def dkwX10_readInjection_6 : List UInt8 := [19, 1, 28, 3, 42, 180, 0, 31, 16, 11, 16, 7, 42, 180, 0, 31, 28, 4, 96, 46, 104, 96, 16, 6]
abbrev dktX10_readInjection_6 : List UInt8 := dkwX10_readInjection_6 ++ dktX10_readInjection_7
def dkwX10_readInjection_5 : List UInt8 := [19, 1, 27, 3, 16, 50, 182, 0, 235, 79, 27, 7, 159, 0, 43, 42, 180, 0, 31, 28, 6, 96, 42]
abbrev dktX10_readInjection_5 : List UInt8 := dkwX10_readInjection_5 ++ dktX10_readInjection_6
def dkwX10_readInjection_4 : List UInt8 := [167, 0, 96, 42, 180, 0, 31, 28, 4, 96, 42, 182, 1, 24, 79, 42, 180, 0, 31, 28, 5, 96, 42]
abbrev dktX10_readInjection_4 : List UInt8 := dkwX10_readInjection_4 ++ dktX10_readInjection_5
def dkwX10_readInjection_3 : List UInt8 := [182, 0, 228, 79, 42, 180, 0, 31, 28, 5, 96, 42, 19, 1, 22, 3, 17, 0, 199, 182, 0, 235, 79]
abbrev dktX10_readInjection_3 : List UInt8 := dkwX10_readInjection_3 ++ dktX10_readInjection_4
def dkwX10_readInjection_2 : List UInt8 := [27, 8, 160, 0, 46, 42, 180, 0, 31, 28, 4, 96, 42, 3, 42, 180, 0, 31, 6, 46, 4, 100]
abbrev dktX10_readInjection_2 : List UInt8 := dkwX10_readInjection_2 ++ dktX10_readInjection_3
def dkwX10_readInjection_1 : List UInt8 := [180, 0, 31, 28, 27, 79, 42, 180, 0, 31, 28, 6, 96, 2, 79, 42, 180, 0, 31, 28, 7, 96, 2, 79]
abbrev dktX10_readInjection_1 : List UInt8 := dkwX10_readInjection_1 ++ dktX10_readInjection_2
def dkwX10_readInjection_0 : List UInt8 := [42, 8, 16, 8, 182, 0, 243, 154, 0, 4, 177, 16, 106, 8, 42, 180, 0, 31, 8, 46, 104, 96, 61, 42]
abbrev dktX10_readInjection_0 : List UInt8 := dkwX10_readInjection_0 ++ dktX10_readInjection_1
theorem dksX10_readInjection_0 : cX10_readInjection.data.toList.drop 0 = dktX10_readInjection_0 := by decide +kernel
theorem dksX10_readInjection_1 : cX10_readInjection.data.toList.drop 24 = dktX10_readInjection_1 := dk_seg dksX10_readInjection_0 24 rfl rfl
theorem dksX10_readInjection_2 : cX10_readInjection.data.toList.drop 48 = dktX10_readInjection_2 := dk_seg dksX10_readInjection_1 24 rfl rfl
theorem dksX10_readInjection_3 : cX10_readInjection.data.toList.drop 70 = dktX10_readInjection_3 := dk_seg dksX10_readInjection_2 22 rfl rfl
theorem dksX10_readInjection_4 : cX10_readInjection.data.toList.drop 93 = dktX10_readInjection_4 := dk_seg dksX10_readInjection_3 23 rfl rfl
theorem dksX10_readInjection_5 : cX10_readInjection.data.toList.drop 116 = dktX10_readInjection_5 := dk_seg dksX10_readInjection_4 23 rfl rfl
theorem dksX10_readInjection_6 : cX10_readInjection.data.toList.drop 139 = dktX10_readInjection_6 := dk_seg dksX10_readInjection_5 23 rfl rfl
theorem dksX10_readInjection_7 : cX10_readInjection.data.toList.drop 163 = dktX10_readInjection_7 := dk_seg dksX10_readInjection_6 24 rfl rfl
theorem dksX10_readInjection_8 : cX10_readInjection.data.toList.drop 185 = dktX10_readInjection_8 := dk_seg dksX10_readInjection_7 22 rfl rfl
theorem dX10_readInjection_0 : decode cX10_readInjection 0 = .ok (.aload_n 0, 1) := dk_42 (dk_at dksX10_readInjection_0 0 rfl rfl)
theorem dX10_readInjection_1 : decode cX10_readInjection 1 = .ok (.iconst 5, 1) := dk_8 (dk_at dksX10_readInjection_0 1 rfl rfl)
theorem dX10_readInjection_2 : decode cX10_readInjection 2 = .ok (.bipush 8, 2) := dk_16 8 (dk_at dksX10_readInjection_0 2 rfl rfl)
theorem dX10_readInjection_4 : decode cX10_readInjection 4 = .ok (.invokevirtual 243, 3) := dk_182 0 243 (dk_at dksX10_readInjection_0 4 rfl rfl)
theorem dX10_readInjection_7 : decode cX10_readInjection 7 = .ok (.ifCond .ne 4, 3) := dk_154 0 4 (dk_at dksX10_readInjection_0 7 rfl rfl)
theorem dX10_readInjection_10 : decode cX10_readInjection 10 = .ok (.return_, 1) := dk_177 (dk_at dksX10_readInjection_0 10 rfl rfl)
theorem dX10_readInjection_11 : decode cX10_readInjection 11 = .ok (.bipush 106, 2) := dk_16 106 (dk_at dksX10_readInjection_0 11 rfl rfl)
theorem dX10_readInjection_13 : decode cX10_readInjection 13 = .ok (.iconst 5, 1) := dk_8 (dk_at dksX10_readInjection_0 13 rfl rfl)
theorem dX10_readInjection_14 : decode cX10_readInjection 14 = .ok (.aload_n 0, 1) := dk_42 (dk_at dksX10_readInjection_0 14 rfl rfl)
theorem dX10_readInjection_15 : decode cX10_readInjection 15 = .ok (.getfield 31, 3) := dk_180 0 31 (dk_at dksX10_readInjection_0 15 rfl rfl)
theorem dX10_readInjection_18 : decode cX10_readInjection 18 = .ok (.iconst 5, 1) := dk_8 (dk_at dksX10_readInjection_0 18 rfl rfl)
theorem dX10_readInjection_19 : decode cX10_readInjection 19 = .ok (.iaload, 1) := dk_46 (dk_at dksX10_readInjection_0 19 rfl rfl)
theorem dX10_readInjection_20 : decode cX10_readInjection 20 = .ok (.imul, 1) := dk_104 (dk_at dksX10_readInjection_0 20 rfl rfl)
theorem dX10_readInjection_21 : decode cX10_readInjection 21 = .ok (.iadd, 1) := dk_96 (dk_at dksX10_readInjection_0 21 rfl rfl)
theorem dX10_readInjection_22 : decode cX10_readInjection 22 = .ok (.istore_n 2, 1) := dk_61 (dk_at dksX10_readInjection_0 22 rfl rfl)
theorem dX10_readInjection_23 : decode cX10_readInjection 23 = .ok (.aload_n 0, 1) := dk_42 (dk_at dksX10_readInjection_0 23 rfl rfl)
theorem dX10_readInjection_24 : decode cX10_readInjection 24 = .ok (.getfield 31, 3) := dk_180 0 31 (dk_at dksX10_readInjection_1 0 rfl rfl)
theorem dX10_readInjection_27 : decode cX10_readInjection 27 = .ok (.iload_n 2, 1) := dk_28 (dk_at dksX10_readInjection_1 3 rfl rfl)
theorem dX10_readInjection_28 : decode cX10_readInjection 28 = .ok (.iload_n 1, 1) := dk_27 (dk_at dksX10_readInjection_1 4 rfl rfl)
theorem dX10_readInjection_29 : decode cX10_readInjection 29 = .ok (.iastore, 1) := dk_79 (dk_at dksX10_readInjection_1 5 rfl rfl)
theorem dX10_readInjection_30 : decode cX10_readInjection 30 = .ok (.aload_n 0, 1) := dk_42 (dk_at dksX10_readInjection_1 6 rfl rfl)
theorem dX10_readInjection_31 : decode cX10_readInjection 31 = .ok (.getfield 31, 3) := dk_180 0 31 (dk_at dksX10_readInjection_1 7 rfl rfl)
theorem dX10_readInjection_34 : decode cX10_readInjection 34 = .ok (.iload_n 2, 1) := dk_28 (dk_at dksX10_readInjection_1 10 rfl rfl)
theorem dX10_readInjection_35 : decode cX10_readInjection 35 = .ok (.iconst 3, 1) := dk_6 (dk_at dksX10_readInjection_1 11 rfl rfl)
theorem dX10_readInjection_36 : decode cX10_readInjection 36 = .ok (.iadd, 1) := dk_96 (dk_at dksX10_readInjection_1 12 rfl rfl)
theorem dX10_readInjection_37 : decode cX10_readInjection 37 = .ok (.iconst (-1), 1) := dk_2 (dk_at dksX10_readInjection_1 13 rfl rfl)
theorem dX10_readInjection_38 : decode cX10_readInjection 38 = .ok (.iastore, 1) := dk_79 (dk_at dksX10_readInjection_1 14 rfl rfl)
theorem dX10_readInjection_39 : decode cX10_readInjection 39 = .ok (.aload_n 0, 1) := dk_42 (dk_at dksX10_readInjection_1 15 rfl rfl)
theorem dX10_readInjection_40 : decode cX10_readInjection 40 = .ok (.getfield 31, 3) := dk_180 0 31 (dk_at dksX10_readInjection_1 16 rfl rfl)
theorem dX10_readInjection_43 : decode cX10_readInjection 43 = .ok (.iload_n 2, 1) := dk_28 (dk_at dksX10_readInjection_1 19 rfl rfl)
theorem dX10_readInjection_44 : decode cX10_readInjection 44 = .ok (.iconst 4, 1) := dk_7 (dk_at dksX10_readInjection_1 20 rfl rfl)
theorem dX10_readInjection_45 : decode cX10_readInjection 45 = .ok (.iadd, 1) := dk_96 (dk_at dksX10_readInjection_1 21 rfl rfl)
theorem dX10_readInjection_46 : decode cX10_readInjection 46 = .ok (.iconst (-1), 1) := dk_2 (dk_at dksX10_readInjection_1 22 rfl rfl)
theorem dX10_readInjection_47 : decode cX10_readInjection 47 = .ok (.iastore, 1) := dk_79 (dk_at dksX10_readInjection_1 23 rfl rfl)
theorem dX10_readInjection_48 : decode cX10_readInjection 48 = .ok (.iload_n 1, 1) := dk_27 (dk_at dksX10_readInjection_2 0 rfl rfl)
theorem dX10_readInjection_49 : decode cX10_readInjection 49 = .ok (.iconst 5, 1) := dk_8 (dk_at dksX10_readInjection_2 1 rfl rfl)
theorem dX10_readInjection_50 : decode cX10_readInjection 50 = .ok (.if_icmp .ne 46, 3) := dk_160 0 46 (dk_at dksX10_readInjection_2 2 rfl rfl)
theorem dX10_readInjection_53 : decode cX10_readInjection 53 = .ok (.aload_n 0, 1) := dk_42 (dk_at dksX10_readInjection_2 5 rfl rfl)
theorem dX10_readInjection_54 : decode cX10_readInjection 54 = .ok (.getfield 31, 3) := dk_180 0 31 (dk_at dksX10_readInjection_2 6 rfl rfl)
theorem dX10_readInjection_57 : decode cX10_readInjection 57 = .ok (.iload_n 2, 1) := dk_28 (dk_at dksX10_readInjection_2 9 rfl rfl)
theorem dX10_readInjection_58 : decode cX10_readInjection 58 = .ok (.iconst 1, 1) := dk_4 (dk_at dksX10_readInjection_2 10 rfl rfl)
theorem dX10_readInjection_59 : decode cX10_readInjection 59 = .ok (.iadd, 1) := dk_96 (dk_at dksX10_readInjection_2 11 rfl rfl)
theorem dX10_readInjection_60 : decode cX10_readInjection 60 = .ok (.aload_n 0, 1) := dk_42 (dk_at dksX10_readInjection_2 12 rfl rfl)
theorem dX10_readInjection_61 : decode cX10_readInjection 61 = .ok (.iconst 0, 1) := dk_3 (dk_at dksX10_readInjection_2 13 rfl rfl)
theorem dX10_readInjection_62 : decode cX10_readInjection 62 = .ok (.aload_n 0, 1) := dk_42 (dk_at dksX10_readInjection_2 14 rfl rfl)
theorem dX10_readInjection_63 : decode cX10_readInjection 63 = .ok (.getfield 31, 3) := dk_180 0 31 (dk_at dksX10_readInjection_2 15 rfl rfl)
theorem dX10_readInjection_66 : decode cX10_readInjection 66 = .ok (.iconst 3, 1) := dk_6 (dk_at dksX10_readInjection_2 18 rfl rfl)
theorem dX10_readInjection_67 : decode cX10_readInjection 67 = .ok (.iaload, 1) := dk_46 (dk_at dksX10_readInjection_2 19 rfl rfl)
theorem dX10_readInjection_68 : decode cX10_readInjection 68 = .ok (.iconst 1, 1) := dk_4 (dk_at dksX10_readInjection_2 20 rfl rfl)
theorem dX10_readInjection_69 : decode cX10_readInjection 69 = .ok (.isub, 1) := dk_100 (dk_at dksX10_readInjection_2 21 rfl rfl)
theorem dX10_readInjection_70 : decode cX10_readInjection 70 = .ok (.invokevirtual 228, 3) := dk_182 0 228 (dk_at dksX10_readInjection_3 0 rfl rfl)
theorem dX10_readInjection_73 : decode cX10_readInjection 73 = .ok (.iastore, 1) := dk_79 (dk_at dksX10_readInjection_3 3 rfl rfl)
theorem dX10_readInjection_74 : decode cX10_readInjection 74 = .ok (.aload_n 0, 1) := dk_42 (dk_at dksX10_readInjection_3 4 rfl rfl)
theorem dX10_readInjection_75 : decode cX10_readInjection 75 = .ok (.getfield 31, 3) := dk_180 0 31 (dk_at dksX10_readInjection_3 5 rfl rfl)
theorem dX10_readInjection_78 : decode cX10_readInjection 78 = .ok (.iload_n 2, 1) := dk_28 (dk_at dksX10_readInjection_3 8 rfl rfl)
theorem dX10_readInjection_79 : decode cX10_readInjection 79 = .ok (.iconst 2, 1) := dk_5 (dk_at dksX10_readInjection_3 9 rfl rfl)
theorem dX10_readInjection_80 : decode cX10_readInjection 80 = .ok (.iadd, 1) := dk_96 (dk_at dksX10_readInjection_3 10 rfl rfl)
theorem dX10_readInjection_81 : decode cX10_readInjection 81 = .ok (.aload_n 0, 1) := dk_42 (dk_at dksX10_readInjection_3 11 rfl rfl)
theorem dX10_readInjection_82 : decode cX10_readInjection 82 = .ok (.ldc_w 278, 3) := dk_19 1 22 (dk_at dksX10_readInjection_3 12 rfl rfl)
theorem dX10_readInjection_85 : decode cX10_readInjection 85 = .ok (.iconst 0, 1) := dk_3 (dk_at dksX10_readInjection_3 15 rfl rfl)
theorem dX10_readInjection_86 : decode cX10_readInjection 86 = .ok (.sipush 199, 3) := dk_17 0 199 (dk_at dksX10_readInjection_3 16 rfl rfl)
theorem dX10_readInjection_89 : decode cX10_readInjection 89 = .ok (.invokevirtual 235, 3) := dk_182 0 235 (dk_at dksX10_readInjection_3 19 rfl rfl)
theorem dX10_readInjection_92 : decode cX10_readInjection 92 = .ok (.iastore, 1) := dk_79 (dk_at dksX10_readInjection_3 22 rfl rfl)
theorem dX10_readInjection_93 : decode cX10_readInjection 93 = .ok (.goto 96, 3) := dk_167 0 96 (dk_at dksX10_readInjection_4 0 rfl rfl)
theorem dX10_readInjection_96 : decode cX10_readInjection 96 = .ok (.aload_n 0, 1) := dk_42 (dk_at dksX10_readInjection_4 3 rfl rfl)
theorem dX10_readInjection_97 : decode cX10_readInjection 97 = .ok (.getfield 31, 3) := dk_180 0 31 (dk_at dksX10_readInjection_4 4 rfl rfl)
theorem dX10_readInjection_100 : decode cX10_readInjection 100 = .ok (.iload_n 2, 1) := dk_28 (dk_at dksX10_readInjection_4 7 rfl rfl)
theorem dX10_readInjection_101 : decode cX10_readInjection 101 = .ok (.iconst 1, 1) := dk_4 (dk_at dksX10_readInjection_4 8 rfl rfl)
theorem dX10_readInjection_102 : decode cX10_readInjection 102 = .ok (.iadd, 1) := dk_96 (dk_at dksX10_readInjection_4 9 rfl rfl)
theorem dX10_readInjection_103 : decode cX10_readInjection 103 = .ok (.aload_n 0, 1) := dk_42 (dk_at dksX10_readInjection_4 10 rfl rfl)
theorem dX10_readInjection_104 : decode cX10_readInjection 104 = .ok (.invokevirtual 280, 3) := dk_182 1 24 (dk_at dksX10_readInjection_4 11 rfl rfl)
theorem dX10_readInjection_107 : decode cX10_readInjection 107 = .ok (.iastore, 1) := dk_79 (dk_at dksX10_readInjection_4 14 rfl rfl)
theorem dX10_readInjection_108 : decode cX10_readInjection 108 = .ok (.aload_n 0, 1) := dk_42 (dk_at dksX10_readInjection_4 15 rfl rfl)
theorem dX10_readInjection_109 : decode cX10_readInjection 109 = .ok (.getfield 31, 3) := dk_180 0 31 (dk_at dksX10_readInjection_4 16 rfl rfl)
theorem dX10_readInjection_112 : decode cX10_readInjection 112 = .ok (.iload_n 2, 1) := dk_28 (dk_at dksX10_readInjection_4 19 rfl rfl)
theorem dX10_readInjection_113 : decode cX10_readInjection 113 = .ok (.iconst 2, 1) := dk_5 (dk_at dksX10_readInjection_4 20 rfl rfl)
theorem dX10_readInjection_114 : decode cX10_readInjection 114 = .ok (.iadd, 1) := dk_96 (dk_at dksX10_readInjection_4 21 rfl rfl)
theorem dX10_readInjection_115 : decode cX10_readInjection 115 = .ok (.aload_n 0, 1) := dk_42 (dk_at dksX10_readInjection_4 22 rfl rfl)
theorem dX10_readInjection_116 : decode cX10_readInjection 116 = .ok (.ldc_w 283, 3) := dk_19 1 27 (dk_at dksX10_readInjection_5 0 rfl rfl)
theorem dX10_readInjection_119 : decode cX10_readInjection 119 = .ok (.iconst 0, 1) := dk_3 (dk_at dksX10_readInjection_5 3 rfl rfl)
theorem dX10_readInjection_120 : decode cX10_readInjection 120 = .ok (.bipush 50, 2) := dk_16 50 (dk_at dksX10_readInjection_5 4 rfl rfl)
theorem dX10_readInjection_122 : decode cX10_readInjection 122 = .ok (.invokevirtual 235, 3) := dk_182 0 235 (dk_at dksX10_readInjection_5 6 rfl rfl)
theorem dX10_readInjection_125 : decode cX10_readInjection 125 = .ok (.iastore, 1) := dk_79 (dk_at dksX10_readInjection_5 9 rfl rfl)
theorem dX10_readInjection_126 : decode cX10_readInjection 126 = .ok (.iload_n 1, 1) := dk_27 (dk_at dksX10_readInjection_5 10 rfl rfl)
theorem dX10_readInjection_127 : decode cX10_readInjection 127 = .ok (.iconst 4, 1) := dk_7 (dk_at dksX10_readInjection_5 11 rfl rfl)
theorem dX10_readInjection_128 : decode cX10_readInjection 128 = .ok (.if_icmp .eq 43, 3) := dk_159 0 43 (dk_at dksX10_readInjection_5 12 rfl rfl)
theorem dX10_readInjection_131 : decode cX10_readInjection 131 = .ok (.aload_n 0, 1) := dk_42 (dk_at dksX10_readInjection_5 15 rfl rfl)
theorem dX10_readInjection_132 : decode cX10_readInjection 132 = .ok (.getfield 31, 3) := dk_180 0 31 (dk_at dksX10_readInjection_5 16 rfl rfl)
theorem dX10_readInjection_135 : decode cX10_readInjection 135 = .ok (.iload_n 2, 1) := dk_28 (dk_at dksX10_readInjection_5 19 rfl rfl)
theorem dX10_readInjection_136 : decode cX10_readInjection 136 = .ok (.iconst 3, 1) := dk_6 (dk_at dksX10_readInjection_5 20 rfl rfl)
theorem dX10_readInjection_137 : decode cX10_readInjection 137 = .ok (.iadd, 1) := dk_96 (dk_at dksX10_readInjection_5 21 rfl rfl)
theorem dX10_readInjection_138 : decode cX10_readInjection 138 = .ok (.aload_n 0, 1) := dk_42 (dk_at dksX10_readInjection_5 22 rfl rfl)
theorem dX10_readInjection_139 : decode cX10_readInjection 139 = .ok (.ldc_w 284, 3) := dk_19 1 28 (dk_at dksX10_readInjection_6 0 rfl rfl)
theorem dX10_readInjection_142 : decode cX10_readInjection 142 = .ok (.iconst 0, 1) := dk_3 (dk_at dksX10_readInjection_6 3 rfl rfl)
theorem dX10_readInjection_143 : decode cX10_readInjection 143 = .ok (.aload_n 0, 1) := dk_42 (dk_at dksX10_readInjection_6 4 rfl rfl)
theorem dX10_readInjection_144 : decode cX10_readInjection 144 = .ok (.getfield 31, 3) := dk_180 0 31 (dk_at dksX10_readInjection_6 5 rfl rfl)
theorem dX10_readInjection_147 : decode cX10_readInjection 147 = .ok (.bipush 11, 2) := dk_16 11 (dk_at dksX10_readInjection_6 8 rfl rfl)
theorem dX10_readInjection_149 : decode cX10_readInjection 149 = .ok (.bipush 7, 2) := dk_16 7 (dk_at dksX10_readInjection_6 10 rfl rfl)
theorem dX10_readInjection_151 : decode cX10_readInjection 151 = .ok (.aload_n 0, 1) := dk_42 (dk_at dksX10_readInjection_6 12 rfl rfl)
theorem dX10_readInjection_152 : decode cX10_readInjection 152 = .ok (.getfield 31, 3) := dk_180 0 31 (dk_at dksX10_readInjection_6 13 rfl rfl)
theorem dX10_readInjection_155 : decode cX10_readInjection 155 = .ok (.iload_n 2, 1) := dk_28 (dk_at dksX10_readInjection_6 16 rfl rfl)
theorem dX10_readInjection_156 : decode cX10_readInjection 156 = .ok (.iconst 1, 1) := dk_4 (dk_at dksX10_readInjection_6 17 rfl rfl)
theorem dX10_readInjection_157 : decode cX10_readInjection 157 = .ok (.iadd, 1) := dk_96 (dk_at dksX10_readInjection_6 18 rfl rfl)
theorem dX10_readInjection_158 : decode cX10_readInjection 158 = .ok (.iaload, 1) := dk_46 (dk_at dksX10_readInjection_6 19 rfl rfl)
theorem dX10_readInjection_159 : decode cX10_readInjection 159 = .ok (.imul, 1) := dk_104 (dk_at dksX10_readInjection_6 20 rfl rfl)
theorem dX10_readInjection_160 : decode cX10_readInjection 160 = .ok (.iadd, 1) := dk_96 (dk_at dksX10_readInjection_6 21 rfl rfl)
theorem dX10_readInjection_161 : decode cX10_readInjection 161 = .ok (.bipush 6, 2) := dk_16 6 (dk_at dksX10_readInjection_6 22 rfl rfl)
theorem dX10_readInjection_163 : decode cX10_readInjection 163 = .ok (.iadd, 1) := dk_96 (dk_at dksX10_readInjection_7 0 rfl rfl)
theorem dX10_readInjection_164 : decode cX10_readInjection 164 = .ok (.iaload, 1) := dk_46 (dk_at dksX10_readInjection_7 1 rfl rfl)
theorem dX10_readInjection_165 : decode cX10_readInjection 165 = .ok (.iconst 1, 1) := dk_4 (dk_at dksX10_readInjection_7 2 rfl rfl)
theorem dX10_readInjection_166 : decode cX10_readInjection 166 = .ok (.isub, 1) := dk_100 (dk_at dksX10_readInjection_7 3 rfl rfl)
theorem dX10_readInjection_167 : decode cX10_readInjection 167 = .ok (.invokevirtual 235, 3) := dk_182 0 235 (dk_at dksX10_readInjection_7 4 rfl rfl)
theorem dX10_readInjection_170 : decode cX10_readInjection 170 = .ok (.iastore, 1) := dk_79 (dk_at dksX10_readInjection_7 7 rfl rfl)
theorem dX10_readInjection_171 : decode cX10_readInjection 171 = .ok (.aload_n 0, 1) := dk_42 (dk_at dksX10_readInjection_7 8 rfl rfl)
theorem dX10_readInjection_172 : decode cX10_readInjection 172 = .ok (.getfield 31, 3) := dk_180 0 31 (dk_at dksX10_readInjection_7 9 rfl rfl)
theorem dX10_readInjection_175 : decode cX10_readInjection 175 = .ok (.iload_n 2, 1) := dk_28 (dk_at dksX10_readInjection_7 12 rfl rfl)
theorem dX10_readInjection_176 : decode cX10_readInjection 176 = .ok (.iconst 4, 1) := dk_7 (dk_at dksX10_readInjection_7 13 rfl rfl)
theorem dX10_readInjection_177 : decode cX10_readInjection 177 = .ok (.iadd, 1) := dk_96 (dk_at dksX10_readInjection_7 14 rfl rfl)
theorem dX10_readInjection_178 : decode cX10_readInjection 178 = .ok (.aload_n 0, 1) := dk_42 (dk_at dksX10_readInjection_7 15 rfl rfl)
theorem dX10_readInjection_179 : decode cX10_readInjection 179 = .ok (.ldc_w 286, 3) := dk_19 1 30 (dk_at dksX10_readInjection_7 16 rfl rfl)
theorem dX10_readInjection_182 : decode cX10_readInjection 182 = .ok (.iconst 1, 1) := dk_4 (dk_at dksX10_readInjection_7 19 rfl rfl)
theorem dX10_readInjection_183 : decode cX10_readInjection 183 = .ok (.bipush 9, 2) := dk_16 9 (dk_at dksX10_readInjection_7 20 rfl rfl)
theorem dX10_readInjection_185 : decode cX10_readInjection 185 = .ok (.invokevirtual 235, 3) := dk_182 0 235 (dk_at dksX10_readInjection_8 0 rfl rfl)
theorem dX10_readInjection_188 : decode cX10_readInjection 188 = .ok (.iastore, 1) := dk_79 (dk_at dksX10_readInjection_8 3 rfl rfl)
theorem dX10_readInjection_189 : decode cX10_readInjection 189 = .ok (.aload_n 0, 1) := dk_42 (dk_at dksX10_readInjection_8 4 rfl rfl)
theorem dX10_readInjection_190 : decode cX10_readInjection 190 = .ok (.getfield 31, 3) := dk_180 0 31 (dk_at dksX10_readInjection_8 5 rfl rfl)
theorem dX10_readInjection_193 : decode cX10_readInjection 193 = .ok (.iconst 5, 1) := dk_8 (dk_at dksX10_readInjection_8 8 rfl rfl)
theorem dX10_readInjection_194 : decode cX10_readInjection 194 = .ok (.dup2, 1) := dk_92 (dk_at dksX10_readInjection_8 9 rfl rfl)
theorem dX10_readInjection_195 : decode cX10_readInjection 195 = .ok (.iaload, 1) := dk_46 (dk_at dksX10_readInjection_8 10 rfl rfl)
theorem dX10_readInjection_196 : decode cX10_readInjection 196 = .ok (.iconst 1, 1) := dk_4 (dk_at dksX10_readInjection_8 11 rfl rfl)
theorem dX10_readInjection_197 : decode cX10_readInjection 197 = .ok (.iadd, 1) := dk_96 (dk_at dksX10_readInjection_8 12 rfl rfl)
theorem dX10_readInjection_198 : decode cX10_readInjection 198 = .ok (.iastore, 1) := dk_79 (dk_at dksX10_readInjection_8 13 rfl rfl)
theorem dX10_readInjection_199 : decode cX10_readInjection 199 = .ok (.return_, 1) := dk_177 (dk_at dksX10_readInjection_8 14 rfl rfl)
abbrev cX10_taskRead : ByteArray := prog_18_method_34_code
def yX10_taskRead : MethodName := ⟨RX10, "taskRead", "()I"⟩
def dkwX10_taskRead_3 : List UInt8 := [172]
abbrev dktX10_taskRead_3 : List UInt8 := dkwX10_taskRead_3 ++ []
def dkwX10_taskRead_2 : List UInt8 := [42, 180, 0, 187, 104, 96, 16, 6, 96, 46, 154, 0, 8, 42, 5, 182, 0, 220, 42, 3, 8, 182, 0, 228]
abbrev dktX10_taskRead_2 : List UInt8 := dkwX10_taskRead_2 ++ dktX10_taskRead_3
def dkwX10_taskRead_1 : List UInt8 := [153, 0, 42, 42, 180, 0, 187, 42, 180, 0, 31, 7, 46, 162, 0, 24, 42, 180, 0, 31, 16, 11, 16, 7]
abbrev dktX10_taskRead_1 : List UInt8 := dkwX10_taskRead_1 ++ dktX10_taskRead_2
def dkwX10_taskRead_0 : List UInt8 := [42, 182, 0, 199, 153, 0, 16, 42, 180, 0, 176, 5, 159, 0, 8, 42, 4, 182, 0, 220, 42, 182, 0, 199]
abbrev dktX10_taskRead_0 : List UInt8 := dkwX10_taskRead_0 ++ dktX10_taskRead_1
theorem dksX10_taskRead_0 : cX10_taskRead.data.toList.drop 0 = dktX10_taskRead_0 := by decide +kernel
theorem dksX10_taskRead_1 : cX10_taskRead.data.toList.drop 24 = dktX10_taskRead_1 := dk_seg dksX10_taskRead_0 24 rfl rfl
theorem dksX10_taskRead_2 : cX10_taskRead.data.toList.drop 48 = dktX10_taskRead_2 := dk_seg dksX10_taskRead_1 24 rfl rfl
theorem dksX10_taskRead_3 : cX10_taskRead.data.toList.drop 72 = dktX10_taskRead_3 := dk_seg dksX10_taskRead_2 24 rfl rfl
theorem dX10_taskRead_0 : decode cX10_taskRead 0 = .ok (.aload_n 0, 1) := dk_42 (dk_at dksX10_taskRead_0 0 rfl rfl)
theorem dX10_taskRead_1 : decode cX10_taskRead 1 = .ok (.invokevirtual 199, 3) := dk_182 0 199 (dk_at dksX10_taskRead_0 1 rfl rfl)
theorem dX10_taskRead_4 : decode cX10_taskRead 4 = .ok (.ifCond .eq 16, 3) := dk_153 0 16 (dk_at dksX10_taskRead_0 4 rfl rfl)
theorem dX10_taskRead_7 : decode cX10_taskRead 7 = .ok (.aload_n 0, 1) := dk_42 (dk_at dksX10_taskRead_0 7 rfl rfl)
theorem dX10_taskRead_8 : decode cX10_taskRead 8 = .ok (.getfield 176, 3) := dk_180 0 176 (dk_at dksX10_taskRead_0 8 rfl rfl)
theorem dX10_taskRead_11 : decode cX10_taskRead 11 = .ok (.iconst 2, 1) := dk_5 (dk_at dksX10_taskRead_0 11 rfl rfl)
theorem dX10_taskRead_12 : decode cX10_taskRead 12 = .ok (.if_icmp .eq 8, 3) := dk_159 0 8 (dk_at dksX10_taskRead_0 12 rfl rfl)
theorem dX10_taskRead_15 : decode cX10_taskRead 15 = .ok (.aload_n 0, 1) := dk_42 (dk_at dksX10_taskRead_0 15 rfl rfl)
theorem dX10_taskRead_16 : decode cX10_taskRead 16 = .ok (.iconst 1, 1) := dk_4 (dk_at dksX10_taskRead_0 16 rfl rfl)
theorem dX10_taskRead_17 : decode cX10_taskRead 17 = .ok (.invokevirtual 220, 3) := dk_182 0 220 (dk_at dksX10_taskRead_0 17 rfl rfl)
theorem dX10_taskRead_20 : decode cX10_taskRead 20 = .ok (.aload_n 0, 1) := dk_42 (dk_at dksX10_taskRead_0 20 rfl rfl)
theorem dX10_taskRead_21 : decode cX10_taskRead 21 = .ok (.invokevirtual 199, 3) := dk_182 0 199 (dk_at dksX10_taskRead_0 21 rfl rfl)
theorem dX10_taskRead_24 : decode cX10_taskRead 24 = .ok (.ifCond .eq 42, 3) := dk_153 0 42 (dk_at dksX10_taskRead_1 0 rfl rfl)
theorem dX10_taskRead_27 : decode cX10_taskRead 27 = .ok (.aload_n 0, 1) := dk_42 (dk_at dksX10_taskRead_1 3 rfl rfl)
theorem dX10_taskRead_28 : decode cX10_taskRead 28 = .ok (.getfield 187, 3) := dk_180 0 187 (dk_at dksX10_taskRead_1 4 rfl rfl)
theorem dX10_taskRead_31 : decode cX10_taskRead 31 = .ok (.aload_n 0, 1) := dk_42 (dk_at dksX10_taskRead_1 7 rfl rfl)
theorem dX10_taskRead_32 : decode cX10_taskRead 32 = .ok (.getfield 31, 3) := dk_180 0 31 (dk_at dksX10_taskRead_1 8 rfl rfl)
theorem dX10_taskRead_35 : decode cX10_taskRead 35 = .ok (.iconst 4, 1) := dk_7 (dk_at dksX10_taskRead_1 11 rfl rfl)
theorem dX10_taskRead_36 : decode cX10_taskRead 36 = .ok (.iaload, 1) := dk_46 (dk_at dksX10_taskRead_1 12 rfl rfl)
theorem dX10_taskRead_37 : decode cX10_taskRead 37 = .ok (.if_icmp .ge 24, 3) := dk_162 0 24 (dk_at dksX10_taskRead_1 13 rfl rfl)
theorem dX10_taskRead_40 : decode cX10_taskRead 40 = .ok (.aload_n 0, 1) := dk_42 (dk_at dksX10_taskRead_1 16 rfl rfl)
theorem dX10_taskRead_41 : decode cX10_taskRead 41 = .ok (.getfield 31, 3) := dk_180 0 31 (dk_at dksX10_taskRead_1 17 rfl rfl)
theorem dX10_taskRead_44 : decode cX10_taskRead 44 = .ok (.bipush 11, 2) := dk_16 11 (dk_at dksX10_taskRead_1 20 rfl rfl)
theorem dX10_taskRead_46 : decode cX10_taskRead 46 = .ok (.bipush 7, 2) := dk_16 7 (dk_at dksX10_taskRead_1 22 rfl rfl)
theorem dX10_taskRead_48 : decode cX10_taskRead 48 = .ok (.aload_n 0, 1) := dk_42 (dk_at dksX10_taskRead_2 0 rfl rfl)
theorem dX10_taskRead_49 : decode cX10_taskRead 49 = .ok (.getfield 187, 3) := dk_180 0 187 (dk_at dksX10_taskRead_2 1 rfl rfl)
theorem dX10_taskRead_52 : decode cX10_taskRead 52 = .ok (.imul, 1) := dk_104 (dk_at dksX10_taskRead_2 4 rfl rfl)
theorem dX10_taskRead_53 : decode cX10_taskRead 53 = .ok (.iadd, 1) := dk_96 (dk_at dksX10_taskRead_2 5 rfl rfl)
theorem dX10_taskRead_54 : decode cX10_taskRead 54 = .ok (.bipush 6, 2) := dk_16 6 (dk_at dksX10_taskRead_2 6 rfl rfl)
theorem dX10_taskRead_56 : decode cX10_taskRead 56 = .ok (.iadd, 1) := dk_96 (dk_at dksX10_taskRead_2 8 rfl rfl)
theorem dX10_taskRead_57 : decode cX10_taskRead 57 = .ok (.iaload, 1) := dk_46 (dk_at dksX10_taskRead_2 9 rfl rfl)
theorem dX10_taskRead_58 : decode cX10_taskRead 58 = .ok (.ifCond .ne 8, 3) := dk_154 0 8 (dk_at dksX10_taskRead_2 10 rfl rfl)
theorem dX10_taskRead_61 : decode cX10_taskRead 61 = .ok (.aload_n 0, 1) := dk_42 (dk_at dksX10_taskRead_2 13 rfl rfl)
theorem dX10_taskRead_62 : decode cX10_taskRead 62 = .ok (.iconst 2, 1) := dk_5 (dk_at dksX10_taskRead_2 14 rfl rfl)
theorem dX10_taskRead_63 : decode cX10_taskRead 63 = .ok (.invokevirtual 220, 3) := dk_182 0 220 (dk_at dksX10_taskRead_2 15 rfl rfl)
theorem dX10_taskRead_66 : decode cX10_taskRead 66 = .ok (.aload_n 0, 1) := dk_42 (dk_at dksX10_taskRead_2 18 rfl rfl)
theorem dX10_taskRead_67 : decode cX10_taskRead 67 = .ok (.iconst 0, 1) := dk_3 (dk_at dksX10_taskRead_2 19 rfl rfl)
theorem dX10_taskRead_68 : decode cX10_taskRead 68 = .ok (.iconst 5, 1) := dk_8 (dk_at dksX10_taskRead_2 20 rfl rfl)
theorem dX10_taskRead_69 : decode cX10_taskRead 69 = .ok (.invokevirtual 228, 3) := dk_182 0 228 (dk_at dksX10_taskRead_2 21 rfl rfl)
theorem dX10_taskRead_72 : decode cX10_taskRead 72 = .ok (.ireturn, 1) := dk_172 (dk_at dksX10_taskRead_3 0 rfl rfl)
abbrev cX10_task : ByteArray := prog_18_method_42_code
def yX10_task : MethodName := ⟨RX10, "task", "(II)I"⟩
def dkwX10_task_1 : List UInt8 := [182, 0, 156, 167, 0, 5, 16, 254, 172]
abbrev dktX10_task_1 : List UInt8 := dkwX10_task_1 ++ []
def dkwX10_task_0 : List UInt8 := [42, 27, 182, 1, 77, 153, 0, 24, 28, 133, 9, 20, 1, 81, 184, 0, 152, 153, 0, 12, 42, 27, 28]
abbrev dktX10_task_0 : List UInt8 := dkwX10_task_0 ++ dktX10_task_1
theorem dksX10_task_0 : cX10_task.data.toList.drop 0 = dktX10_task_0 := by decide +kernel
theorem dksX10_task_1 : cX10_task.data.toList.drop 23 = dktX10_task_1 := dk_seg dksX10_task_0 23 rfl rfl
theorem dX10_task_0 : decode cX10_task 0 = .ok (.aload_n 0, 1) := dk_42 (dk_at dksX10_task_0 0 rfl rfl)
theorem dX10_task_1 : decode cX10_task 1 = .ok (.iload_n 1, 1) := dk_27 (dk_at dksX10_task_0 1 rfl rfl)
theorem dX10_task_2 : decode cX10_task 2 = .ok (.invokevirtual 333, 3) := dk_182 1 77 (dk_at dksX10_task_0 2 rfl rfl)
theorem dX10_task_5 : decode cX10_task 5 = .ok (.ifCond .eq 24, 3) := dk_153 0 24 (dk_at dksX10_task_0 5 rfl rfl)
theorem dX10_task_8 : decode cX10_task 8 = .ok (.iload_n 2, 1) := dk_28 (dk_at dksX10_task_0 8 rfl rfl)
theorem dX10_task_9 : decode cX10_task 9 = .ok (.i2l, 1) := dk_133 (dk_at dksX10_task_0 9 rfl rfl)
theorem dX10_task_10 : decode cX10_task 10 = .ok (.lconst 0, 1) := dk_9 (dk_at dksX10_task_0 10 rfl rfl)
theorem dX10_task_11 : decode cX10_task 11 = .ok (.ldc2_w 337, 3) := dk_20 1 81 (dk_at dksX10_task_0 11 rfl rfl)
theorem dX10_task_14 : decode cX10_task 14 = .ok (.invokestatic 152, 3) := dk_184 0 152 (dk_at dksX10_task_0 14 rfl rfl)
theorem dX10_task_17 : decode cX10_task 17 = .ok (.ifCond .eq 12, 3) := dk_153 0 12 (dk_at dksX10_task_0 17 rfl rfl)
theorem dX10_task_20 : decode cX10_task 20 = .ok (.aload_n 0, 1) := dk_42 (dk_at dksX10_task_0 20 rfl rfl)
theorem dX10_task_21 : decode cX10_task 21 = .ok (.iload_n 1, 1) := dk_27 (dk_at dksX10_task_0 21 rfl rfl)
theorem dX10_task_22 : decode cX10_task 22 = .ok (.iload_n 2, 1) := dk_28 (dk_at dksX10_task_0 22 rfl rfl)
theorem dX10_task_23 : decode cX10_task 23 = .ok (.invokevirtual 156, 3) := dk_182 0 156 (dk_at dksX10_task_1 0 rfl rfl)
theorem dX10_task_26 : decode cX10_task 26 = .ok (.goto 5, 3) := dk_167 0 5 (dk_at dksX10_task_1 3 rfl rfl)
theorem dX10_task_29 : decode cX10_task 29 = .ok (.bipush (-2), 2) := dk_16 254 (dk_at dksX10_task_1 6 rfl rfl)
theorem dX10_task_31 : decode cX10_task 31 = .ok (.ireturn, 1) := dk_172 (dk_at dksX10_task_1 8 rfl rfl)
abbrev cX10_isTask : ByteArray := prog_18_method_7_code
def yX10_isTask : MethodName := ⟨RX10, "isTask", "(I)Z"⟩
def dkwX10_isTask_0 : List UInt8 := [27, 133, 9, 42, 180, 0, 9, 7, 46, 4, 100, 133, 184, 0, 152, 172]
abbrev dktX10_isTask_0 : List UInt8 := dkwX10_isTask_0 ++ []
theorem dksX10_isTask_0 : cX10_isTask.data.toList.drop 0 = dktX10_isTask_0 := by decide +kernel
theorem dX10_isTask_0 : decode cX10_isTask 0 = .ok (.iload_n 1, 1) := dk_27 (dk_at dksX10_isTask_0 0 rfl rfl)
theorem dX10_isTask_1 : decode cX10_isTask 1 = .ok (.i2l, 1) := dk_133 (dk_at dksX10_isTask_0 1 rfl rfl)
theorem dX10_isTask_2 : decode cX10_isTask 2 = .ok (.lconst 0, 1) := dk_9 (dk_at dksX10_isTask_0 2 rfl rfl)
theorem dX10_isTask_3 : decode cX10_isTask 3 = .ok (.aload_n 0, 1) := dk_42 (dk_at dksX10_isTask_0 3 rfl rfl)
theorem dX10_isTask_4 : decode cX10_isTask 4 = .ok (.getfield 9, 3) := dk_180 0 9 (dk_at dksX10_isTask_0 4 rfl rfl)
theorem dX10_isTask_7 : decode cX10_isTask 7 = .ok (.iconst 4, 1) := dk_7 (dk_at dksX10_isTask_0 7 rfl rfl)
theorem dX10_isTask_8 : decode cX10_isTask 8 = .ok (.iaload, 1) := dk_46 (dk_at dksX10_isTask_0 8 rfl rfl)
theorem dX10_isTask_9 : decode cX10_isTask 9 = .ok (.iconst 1, 1) := dk_4 (dk_at dksX10_isTask_0 9 rfl rfl)
theorem dX10_isTask_10 : decode cX10_isTask 10 = .ok (.isub, 1) := dk_100 (dk_at dksX10_isTask_0 10 rfl rfl)
theorem dX10_isTask_11 : decode cX10_isTask 11 = .ok (.i2l, 1) := dk_133 (dk_at dksX10_isTask_0 11 rfl rfl)
theorem dX10_isTask_12 : decode cX10_isTask 12 = .ok (.invokestatic 152, 3) := dk_184 0 152 (dk_at dksX10_isTask_0 12 rfl rfl)
theorem dX10_isTask_15 : decode cX10_isTask 15 = .ok (.ireturn, 1) := dk_172 (dk_at dksX10_isTask_0 15 rfl rfl)
abbrev cX10_toldOf : ByteArray := prog_18_method_9_code
def yX10_toldOf : MethodName := ⟨RX10, "toldOf", "(II)I"⟩
def dkwX10_toldOf_0 : List UInt8 := [42, 180, 0, 9, 16, 11, 16, 7, 27, 104, 96, 28, 96, 46, 172]
abbrev dktX10_toldOf_0 : List UInt8 := dkwX10_toldOf_0 ++ []
theorem dksX10_toldOf_0 : cX10_toldOf.data.toList.drop 0 = dktX10_toldOf_0 := by decide +kernel
theorem dX10_toldOf_0 : decode cX10_toldOf 0 = .ok (.aload_n 0, 1) := dk_42 (dk_at dksX10_toldOf_0 0 rfl rfl)
theorem dX10_toldOf_1 : decode cX10_toldOf 1 = .ok (.getfield 9, 3) := dk_180 0 9 (dk_at dksX10_toldOf_0 1 rfl rfl)
theorem dX10_toldOf_4 : decode cX10_toldOf 4 = .ok (.bipush 11, 2) := dk_16 11 (dk_at dksX10_toldOf_0 4 rfl rfl)
theorem dX10_toldOf_6 : decode cX10_toldOf 6 = .ok (.bipush 7, 2) := dk_16 7 (dk_at dksX10_toldOf_0 6 rfl rfl)
theorem dX10_toldOf_8 : decode cX10_toldOf 8 = .ok (.iload_n 1, 1) := dk_27 (dk_at dksX10_toldOf_0 8 rfl rfl)
theorem dX10_toldOf_9 : decode cX10_toldOf 9 = .ok (.imul, 1) := dk_104 (dk_at dksX10_toldOf_0 9 rfl rfl)
theorem dX10_toldOf_10 : decode cX10_toldOf 10 = .ok (.iadd, 1) := dk_96 (dk_at dksX10_toldOf_0 10 rfl rfl)
theorem dX10_toldOf_11 : decode cX10_toldOf 11 = .ok (.iload_n 2, 1) := dk_28 (dk_at dksX10_toldOf_0 11 rfl rfl)
theorem dX10_toldOf_12 : decode cX10_toldOf 12 = .ok (.iadd, 1) := dk_96 (dk_at dksX10_toldOf_0 12 rfl rfl)
theorem dX10_toldOf_13 : decode cX10_toldOf 13 = .ok (.iaload, 1) := dk_46 (dk_at dksX10_toldOf_0 13 rfl rfl)
theorem dX10_toldOf_14 : decode cX10_toldOf 14 = .ok (.ireturn, 1) := dk_172 (dk_at dksX10_toldOf_0 14 rfl rfl)
abbrev cX10_node : ByteArray := prog_18_method_44_code
def yX10_node : MethodName := ⟨RX10, "node", "(III)I"⟩
def dkwX10_node_2 : List UInt8 := [182, 1, 74, 167, 0, 9, 42, 27, 28, 182, 1, 83, 172]
abbrev dktX10_node_2 : List UInt8 := dkwX10_node_2 ++ []
def dkwX10_node_1 : List UInt8 := [153, 0, 13, 29, 133, 9, 10, 184, 0, 152, 154, 0, 6, 16, 254, 172, 29, 154, 0, 12, 42, 27, 28]
abbrev dktX10_node_1 : List UInt8 := dkwX10_node_1 ++ dktX10_node_2
def dkwX10_node_0 : List UInt8 := [42, 27, 182, 1, 77, 153, 0, 30, 28, 133, 9, 42, 27, 182, 1, 61, 4, 100, 133, 184, 0, 152]
abbrev dktX10_node_0 : List UInt8 := dkwX10_node_0 ++ dktX10_node_1
theorem dksX10_node_0 : cX10_node.data.toList.drop 0 = dktX10_node_0 := by decide +kernel
theorem dksX10_node_1 : cX10_node.data.toList.drop 22 = dktX10_node_1 := dk_seg dksX10_node_0 22 rfl rfl
theorem dksX10_node_2 : cX10_node.data.toList.drop 45 = dktX10_node_2 := dk_seg dksX10_node_1 23 rfl rfl
theorem dX10_node_0 : decode cX10_node 0 = .ok (.aload_n 0, 1) := dk_42 (dk_at dksX10_node_0 0 rfl rfl)
theorem dX10_node_1 : decode cX10_node 1 = .ok (.iload_n 1, 1) := dk_27 (dk_at dksX10_node_0 1 rfl rfl)
theorem dX10_node_2 : decode cX10_node 2 = .ok (.invokevirtual 333, 3) := dk_182 1 77 (dk_at dksX10_node_0 2 rfl rfl)
theorem dX10_node_5 : decode cX10_node 5 = .ok (.ifCond .eq 30, 3) := dk_153 0 30 (dk_at dksX10_node_0 5 rfl rfl)
theorem dX10_node_8 : decode cX10_node 8 = .ok (.iload_n 2, 1) := dk_28 (dk_at dksX10_node_0 8 rfl rfl)
theorem dX10_node_9 : decode cX10_node 9 = .ok (.i2l, 1) := dk_133 (dk_at dksX10_node_0 9 rfl rfl)
theorem dX10_node_10 : decode cX10_node 10 = .ok (.lconst 0, 1) := dk_9 (dk_at dksX10_node_0 10 rfl rfl)
theorem dX10_node_11 : decode cX10_node 11 = .ok (.aload_n 0, 1) := dk_42 (dk_at dksX10_node_0 11 rfl rfl)
theorem dX10_node_12 : decode cX10_node 12 = .ok (.iload_n 1, 1) := dk_27 (dk_at dksX10_node_0 12 rfl rfl)
theorem dX10_node_13 : decode cX10_node 13 = .ok (.invokevirtual 317, 3) := dk_182 1 61 (dk_at dksX10_node_0 13 rfl rfl)
theorem dX10_node_16 : decode cX10_node 16 = .ok (.iconst 1, 1) := dk_4 (dk_at dksX10_node_0 16 rfl rfl)
theorem dX10_node_17 : decode cX10_node 17 = .ok (.isub, 1) := dk_100 (dk_at dksX10_node_0 17 rfl rfl)
theorem dX10_node_18 : decode cX10_node 18 = .ok (.i2l, 1) := dk_133 (dk_at dksX10_node_0 18 rfl rfl)
theorem dX10_node_19 : decode cX10_node 19 = .ok (.invokestatic 152, 3) := dk_184 0 152 (dk_at dksX10_node_0 19 rfl rfl)
theorem dX10_node_22 : decode cX10_node 22 = .ok (.ifCond .eq 13, 3) := dk_153 0 13 (dk_at dksX10_node_1 0 rfl rfl)
theorem dX10_node_25 : decode cX10_node 25 = .ok (.iload_n 3, 1) := dk_29 (dk_at dksX10_node_1 3 rfl rfl)
theorem dX10_node_26 : decode cX10_node 26 = .ok (.i2l, 1) := dk_133 (dk_at dksX10_node_1 4 rfl rfl)
theorem dX10_node_27 : decode cX10_node 27 = .ok (.lconst 0, 1) := dk_9 (dk_at dksX10_node_1 5 rfl rfl)
theorem dX10_node_28 : decode cX10_node 28 = .ok (.lconst 1, 1) := dk_10 (dk_at dksX10_node_1 6 rfl rfl)
theorem dX10_node_29 : decode cX10_node 29 = .ok (.invokestatic 152, 3) := dk_184 0 152 (dk_at dksX10_node_1 7 rfl rfl)
theorem dX10_node_32 : decode cX10_node 32 = .ok (.ifCond .ne 6, 3) := dk_154 0 6 (dk_at dksX10_node_1 10 rfl rfl)
theorem dX10_node_35 : decode cX10_node 35 = .ok (.bipush (-2), 2) := dk_16 254 (dk_at dksX10_node_1 13 rfl rfl)
theorem dX10_node_37 : decode cX10_node 37 = .ok (.ireturn, 1) := dk_172 (dk_at dksX10_node_1 15 rfl rfl)
theorem dX10_node_38 : decode cX10_node 38 = .ok (.iload_n 3, 1) := dk_29 (dk_at dksX10_node_1 16 rfl rfl)
theorem dX10_node_39 : decode cX10_node 39 = .ok (.ifCond .ne 12, 3) := dk_154 0 12 (dk_at dksX10_node_1 17 rfl rfl)
theorem dX10_node_42 : decode cX10_node 42 = .ok (.aload_n 0, 1) := dk_42 (dk_at dksX10_node_1 20 rfl rfl)
theorem dX10_node_43 : decode cX10_node 43 = .ok (.iload_n 1, 1) := dk_27 (dk_at dksX10_node_1 21 rfl rfl)
theorem dX10_node_44 : decode cX10_node 44 = .ok (.iload_n 2, 1) := dk_28 (dk_at dksX10_node_1 22 rfl rfl)
theorem dX10_node_45 : decode cX10_node 45 = .ok (.invokevirtual 330, 3) := dk_182 1 74 (dk_at dksX10_node_2 0 rfl rfl)
theorem dX10_node_48 : decode cX10_node 48 = .ok (.goto 9, 3) := dk_167 0 9 (dk_at dksX10_node_2 3 rfl rfl)
theorem dX10_node_51 : decode cX10_node 51 = .ok (.aload_n 0, 1) := dk_42 (dk_at dksX10_node_2 6 rfl rfl)
theorem dX10_node_52 : decode cX10_node 52 = .ok (.iload_n 1, 1) := dk_27 (dk_at dksX10_node_2 7 rfl rfl)
theorem dX10_node_53 : decode cX10_node 53 = .ok (.iload_n 2, 1) := dk_28 (dk_at dksX10_node_2 8 rfl rfl)
theorem dX10_node_54 : decode cX10_node 54 = .ok (.invokevirtual 339, 3) := dk_182 1 83 (dk_at dksX10_node_2 9 rfl rfl)
theorem dX10_node_57 : decode cX10_node 57 = .ok (.ireturn, 1) := dk_172 (dk_at dksX10_node_2 12 rfl rfl)
abbrev cX10_nodesOf : ByteArray := prog_18_method_11_code
def yX10_nodesOf : MethodName := ⟨RX10, "nodesOf", "(I)I"⟩
def dkwX10_nodesOf_0 : List UInt8 := [42, 27, 16, 6, 182, 0, 156, 172]
abbrev dktX10_nodesOf_0 : List UInt8 := dkwX10_nodesOf_0 ++ []
theorem dksX10_nodesOf_0 : cX10_nodesOf.data.toList.drop 0 = dktX10_nodesOf_0 := by decide +kernel
theorem dX10_nodesOf_0 : decode cX10_nodesOf 0 = .ok (.aload_n 0, 1) := dk_42 (dk_at dksX10_nodesOf_0 0 rfl rfl)
theorem dX10_nodesOf_1 : decode cX10_nodesOf 1 = .ok (.iload_n 1, 1) := dk_27 (dk_at dksX10_nodesOf_0 1 rfl rfl)
theorem dX10_nodesOf_2 : decode cX10_nodesOf 2 = .ok (.bipush 6, 2) := dk_16 6 (dk_at dksX10_nodesOf_0 2 rfl rfl)
theorem dX10_nodesOf_4 : decode cX10_nodesOf 4 = .ok (.invokevirtual 156, 3) := dk_182 0 156 (dk_at dksX10_nodesOf_0 4 rfl rfl)
theorem dX10_nodesOf_7 : decode cX10_nodesOf 7 = .ok (.ireturn, 1) := dk_172 (dk_at dksX10_nodesOf_0 7 rfl rfl)
abbrev cX10_unitsOf : ByteArray := prog_18_method_12_code
def yX10_unitsOf : MethodName := ⟨RX10, "unitsOf", "(II)I"⟩
def dkwX10_unitsOf_0 : List UInt8 := [42, 180, 0, 9, 16, 46, 5, 16, 6, 27, 104, 28, 96, 104, 96, 46, 172]
abbrev dktX10_unitsOf_0 : List UInt8 := dkwX10_unitsOf_0 ++ []
theorem dksX10_unitsOf_0 : cX10_unitsOf.data.toList.drop 0 = dktX10_unitsOf_0 := by decide +kernel
theorem dX10_unitsOf_0 : decode cX10_unitsOf 0 = .ok (.aload_n 0, 1) := dk_42 (dk_at dksX10_unitsOf_0 0 rfl rfl)
theorem dX10_unitsOf_1 : decode cX10_unitsOf 1 = .ok (.getfield 9, 3) := dk_180 0 9 (dk_at dksX10_unitsOf_0 1 rfl rfl)
theorem dX10_unitsOf_4 : decode cX10_unitsOf 4 = .ok (.bipush 46, 2) := dk_16 46 (dk_at dksX10_unitsOf_0 4 rfl rfl)
theorem dX10_unitsOf_6 : decode cX10_unitsOf 6 = .ok (.iconst 2, 1) := dk_5 (dk_at dksX10_unitsOf_0 6 rfl rfl)
theorem dX10_unitsOf_7 : decode cX10_unitsOf 7 = .ok (.bipush 6, 2) := dk_16 6 (dk_at dksX10_unitsOf_0 7 rfl rfl)
theorem dX10_unitsOf_9 : decode cX10_unitsOf 9 = .ok (.iload_n 1, 1) := dk_27 (dk_at dksX10_unitsOf_0 9 rfl rfl)
theorem dX10_unitsOf_10 : decode cX10_unitsOf 10 = .ok (.imul, 1) := dk_104 (dk_at dksX10_unitsOf_0 10 rfl rfl)
theorem dX10_unitsOf_11 : decode cX10_unitsOf 11 = .ok (.iload_n 2, 1) := dk_28 (dk_at dksX10_unitsOf_0 11 rfl rfl)
theorem dX10_unitsOf_12 : decode cX10_unitsOf 12 = .ok (.iadd, 1) := dk_96 (dk_at dksX10_unitsOf_0 12 rfl rfl)
theorem dX10_unitsOf_13 : decode cX10_unitsOf 13 = .ok (.imul, 1) := dk_104 (dk_at dksX10_unitsOf_0 13 rfl rfl)
theorem dX10_unitsOf_14 : decode cX10_unitsOf 14 = .ok (.iadd, 1) := dk_96 (dk_at dksX10_unitsOf_0 14 rfl rfl)
theorem dX10_unitsOf_15 : decode cX10_unitsOf 15 = .ok (.iaload, 1) := dk_46 (dk_at dksX10_unitsOf_0 15 rfl rfl)
theorem dX10_unitsOf_16 : decode cX10_unitsOf 16 = .ok (.ireturn, 1) := dk_172 (dk_at dksX10_unitsOf_0 16 rfl rfl)
abbrev cX10_followersOf : ByteArray := prog_18_method_43_code
def yX10_followersOf : MethodName := ⟨RX10, "followersOf", "(II)I"⟩
def dkwX10_followersOf_1 : List UInt8 := [182, 1, 64, 153, 0, 10, 4, 21, 4, 120, 167, 0, 4, 3, 128, 62, 132, 4, 1, 167, 255, 221, 29, 172]
abbrev dktX10_followersOf_1 : List UInt8 := dkwX10_followersOf_1 ++ []
def dkwX10_followersOf_0 : List UInt8 := [3, 62, 28, 4, 96, 54, 4, 21, 4, 42, 27, 182, 1, 61, 162, 0, 31, 29, 42, 27, 21, 4, 28]
abbrev dktX10_followersOf_0 : List UInt8 := dkwX10_followersOf_0 ++ dktX10_followersOf_1
theorem dksX10_followersOf_0 : cX10_followersOf.data.toList.drop 0 = dktX10_followersOf_0 := by decide +kernel
theorem dksX10_followersOf_1 : cX10_followersOf.data.toList.drop 23 = dktX10_followersOf_1 := dk_seg dksX10_followersOf_0 23 rfl rfl
theorem dX10_followersOf_0 : decode cX10_followersOf 0 = .ok (.iconst 0, 1) := dk_3 (dk_at dksX10_followersOf_0 0 rfl rfl)
theorem dX10_followersOf_1 : decode cX10_followersOf 1 = .ok (.istore_n 3, 1) := dk_62 (dk_at dksX10_followersOf_0 1 rfl rfl)
theorem dX10_followersOf_2 : decode cX10_followersOf 2 = .ok (.iload_n 2, 1) := dk_28 (dk_at dksX10_followersOf_0 2 rfl rfl)
theorem dX10_followersOf_3 : decode cX10_followersOf 3 = .ok (.iconst 1, 1) := dk_4 (dk_at dksX10_followersOf_0 3 rfl rfl)
theorem dX10_followersOf_4 : decode cX10_followersOf 4 = .ok (.iadd, 1) := dk_96 (dk_at dksX10_followersOf_0 4 rfl rfl)
theorem dX10_followersOf_5 : decode cX10_followersOf 5 = .ok (.istore 4, 2) := dk_54 4 (dk_at dksX10_followersOf_0 5 rfl rfl)
theorem dX10_followersOf_7 : decode cX10_followersOf 7 = .ok (.iload 4, 2) := dk_21 4 (dk_at dksX10_followersOf_0 7 rfl rfl)
theorem dX10_followersOf_9 : decode cX10_followersOf 9 = .ok (.aload_n 0, 1) := dk_42 (dk_at dksX10_followersOf_0 9 rfl rfl)
theorem dX10_followersOf_10 : decode cX10_followersOf 10 = .ok (.iload_n 1, 1) := dk_27 (dk_at dksX10_followersOf_0 10 rfl rfl)
theorem dX10_followersOf_11 : decode cX10_followersOf 11 = .ok (.invokevirtual 317, 3) := dk_182 1 61 (dk_at dksX10_followersOf_0 11 rfl rfl)
theorem dX10_followersOf_14 : decode cX10_followersOf 14 = .ok (.if_icmp .ge 31, 3) := dk_162 0 31 (dk_at dksX10_followersOf_0 14 rfl rfl)
theorem dX10_followersOf_17 : decode cX10_followersOf 17 = .ok (.iload_n 3, 1) := dk_29 (dk_at dksX10_followersOf_0 17 rfl rfl)
theorem dX10_followersOf_18 : decode cX10_followersOf 18 = .ok (.aload_n 0, 1) := dk_42 (dk_at dksX10_followersOf_0 18 rfl rfl)
theorem dX10_followersOf_19 : decode cX10_followersOf 19 = .ok (.iload_n 1, 1) := dk_27 (dk_at dksX10_followersOf_0 19 rfl rfl)
theorem dX10_followersOf_20 : decode cX10_followersOf 20 = .ok (.iload 4, 2) := dk_21 4 (dk_at dksX10_followersOf_0 20 rfl rfl)
theorem dX10_followersOf_22 : decode cX10_followersOf 22 = .ok (.iload_n 2, 1) := dk_28 (dk_at dksX10_followersOf_0 22 rfl rfl)
theorem dX10_followersOf_23 : decode cX10_followersOf 23 = .ok (.invokevirtual 320, 3) := dk_182 1 64 (dk_at dksX10_followersOf_1 0 rfl rfl)
theorem dX10_followersOf_26 : decode cX10_followersOf 26 = .ok (.ifCond .eq 10, 3) := dk_153 0 10 (dk_at dksX10_followersOf_1 3 rfl rfl)
theorem dX10_followersOf_29 : decode cX10_followersOf 29 = .ok (.iconst 1, 1) := dk_4 (dk_at dksX10_followersOf_1 6 rfl rfl)
theorem dX10_followersOf_30 : decode cX10_followersOf 30 = .ok (.iload 4, 2) := dk_21 4 (dk_at dksX10_followersOf_1 7 rfl rfl)
theorem dX10_followersOf_32 : decode cX10_followersOf 32 = .ok (.ishl, 1) := dk_120 (dk_at dksX10_followersOf_1 9 rfl rfl)
theorem dX10_followersOf_33 : decode cX10_followersOf 33 = .ok (.goto 4, 3) := dk_167 0 4 (dk_at dksX10_followersOf_1 10 rfl rfl)
theorem dX10_followersOf_36 : decode cX10_followersOf 36 = .ok (.iconst 0, 1) := dk_3 (dk_at dksX10_followersOf_1 13 rfl rfl)
theorem dX10_followersOf_37 : decode cX10_followersOf 37 = .ok (.ior, 1) := dk_128 (dk_at dksX10_followersOf_1 14 rfl rfl)
theorem dX10_followersOf_38 : decode cX10_followersOf 38 = .ok (.istore_n 3, 1) := dk_62 (dk_at dksX10_followersOf_1 15 rfl rfl)
theorem dX10_followersOf_39 : decode cX10_followersOf 39 = .ok (.iinc 4 1, 3) := dk_132 4 1 (dk_at dksX10_followersOf_1 16 rfl rfl)
theorem dX10_followersOf_42 : decode cX10_followersOf 42 = .ok (.goto (-35), 3) := dk_167 255 221 (dk_at dksX10_followersOf_1 19 rfl rfl)
theorem dX10_followersOf_45 : decode cX10_followersOf 45 = .ok (.iload_n 3, 1) := dk_29 (dk_at dksX10_followersOf_1 22 rfl rfl)
theorem dX10_followersOf_46 : decode cX10_followersOf 46 = .ok (.ireturn, 1) := dk_172 (dk_at dksX10_followersOf_1 23 rfl rfl)
abbrev cX10_isBehind : ByteArray := prog_18_method_13_code
def yX10_isBehind : MethodName := ⟨RX10, "isBehind", "(III)Z"⟩
def dkwX10_isBehind_1 : List UInt8 := [160, 0, 7, 4, 167, 0, 4, 3, 172]
abbrev dktX10_isBehind_1 : List UInt8 := dkwX10_isBehind_1 ++ []
def dkwX10_isBehind_0 : List UInt8 := [42, 180, 0, 9, 16, 46, 5, 16, 6, 27, 104, 28, 96, 104, 96, 4, 96, 46, 29, 122, 4, 126, 4]
abbrev dktX10_isBehind_0 : List UInt8 := dkwX10_isBehind_0 ++ dktX10_isBehind_1
theorem dksX10_isBehind_0 : cX10_isBehind.data.toList.drop 0 = dktX10_isBehind_0 := by decide +kernel
theorem dksX10_isBehind_1 : cX10_isBehind.data.toList.drop 23 = dktX10_isBehind_1 := dk_seg dksX10_isBehind_0 23 rfl rfl
theorem dX10_isBehind_0 : decode cX10_isBehind 0 = .ok (.aload_n 0, 1) := dk_42 (dk_at dksX10_isBehind_0 0 rfl rfl)
theorem dX10_isBehind_1 : decode cX10_isBehind 1 = .ok (.getfield 9, 3) := dk_180 0 9 (dk_at dksX10_isBehind_0 1 rfl rfl)
theorem dX10_isBehind_4 : decode cX10_isBehind 4 = .ok (.bipush 46, 2) := dk_16 46 (dk_at dksX10_isBehind_0 4 rfl rfl)
theorem dX10_isBehind_6 : decode cX10_isBehind 6 = .ok (.iconst 2, 1) := dk_5 (dk_at dksX10_isBehind_0 6 rfl rfl)
theorem dX10_isBehind_7 : decode cX10_isBehind 7 = .ok (.bipush 6, 2) := dk_16 6 (dk_at dksX10_isBehind_0 7 rfl rfl)
theorem dX10_isBehind_9 : decode cX10_isBehind 9 = .ok (.iload_n 1, 1) := dk_27 (dk_at dksX10_isBehind_0 9 rfl rfl)
theorem dX10_isBehind_10 : decode cX10_isBehind 10 = .ok (.imul, 1) := dk_104 (dk_at dksX10_isBehind_0 10 rfl rfl)
theorem dX10_isBehind_11 : decode cX10_isBehind 11 = .ok (.iload_n 2, 1) := dk_28 (dk_at dksX10_isBehind_0 11 rfl rfl)
theorem dX10_isBehind_12 : decode cX10_isBehind 12 = .ok (.iadd, 1) := dk_96 (dk_at dksX10_isBehind_0 12 rfl rfl)
theorem dX10_isBehind_13 : decode cX10_isBehind 13 = .ok (.imul, 1) := dk_104 (dk_at dksX10_isBehind_0 13 rfl rfl)
theorem dX10_isBehind_14 : decode cX10_isBehind 14 = .ok (.iadd, 1) := dk_96 (dk_at dksX10_isBehind_0 14 rfl rfl)
theorem dX10_isBehind_15 : decode cX10_isBehind 15 = .ok (.iconst 1, 1) := dk_4 (dk_at dksX10_isBehind_0 15 rfl rfl)
theorem dX10_isBehind_16 : decode cX10_isBehind 16 = .ok (.iadd, 1) := dk_96 (dk_at dksX10_isBehind_0 16 rfl rfl)
theorem dX10_isBehind_17 : decode cX10_isBehind 17 = .ok (.iaload, 1) := dk_46 (dk_at dksX10_isBehind_0 17 rfl rfl)
theorem dX10_isBehind_18 : decode cX10_isBehind 18 = .ok (.iload_n 3, 1) := dk_29 (dk_at dksX10_isBehind_0 18 rfl rfl)
theorem dX10_isBehind_19 : decode cX10_isBehind 19 = .ok (.ishr, 1) := dk_122 (dk_at dksX10_isBehind_0 19 rfl rfl)
theorem dX10_isBehind_20 : decode cX10_isBehind 20 = .ok (.iconst 1, 1) := dk_4 (dk_at dksX10_isBehind_0 20 rfl rfl)
theorem dX10_isBehind_21 : decode cX10_isBehind 21 = .ok (.iand, 1) := dk_126 (dk_at dksX10_isBehind_0 21 rfl rfl)
theorem dX10_isBehind_22 : decode cX10_isBehind 22 = .ok (.iconst 1, 1) := dk_4 (dk_at dksX10_isBehind_0 22 rfl rfl)
theorem dX10_isBehind_23 : decode cX10_isBehind 23 = .ok (.if_icmp .ne 7, 3) := dk_160 0 7 (dk_at dksX10_isBehind_1 0 rfl rfl)
theorem dX10_isBehind_26 : decode cX10_isBehind 26 = .ok (.iconst 1, 1) := dk_4 (dk_at dksX10_isBehind_1 3 rfl rfl)
theorem dX10_isBehind_27 : decode cX10_isBehind 27 = .ok (.goto 4, 3) := dk_167 0 4 (dk_at dksX10_isBehind_1 4 rfl rfl)
theorem dX10_isBehind_30 : decode cX10_isBehind 30 = .ok (.iconst 0, 1) := dk_3 (dk_at dksX10_isBehind_1 7 rfl rfl)
theorem dX10_isBehind_31 : decode cX10_isBehind 31 = .ok (.ireturn, 1) := dk_172 (dk_at dksX10_isBehind_1 8 rfl rfl)
abbrev cX10_watcher : ByteArray := prog_18_method_45_code
def yX10_watcher : MethodName := ⟨RX10, "watcher", "(I)I"⟩
def dkwX10_watcher_0 : List UInt8 := [42, 27, 182, 1, 86, 153, 0, 15, 42, 180, 0, 9, 16, 8, 27, 96, 46, 167, 0, 5, 16, 254, 172]
abbrev dktX10_watcher_0 : List UInt8 := dkwX10_watcher_0 ++ []
theorem dksX10_watcher_0 : cX10_watcher.data.toList.drop 0 = dktX10_watcher_0 := by decide +kernel
theorem dX10_watcher_0 : decode cX10_watcher 0 = .ok (.aload_n 0, 1) := dk_42 (dk_at dksX10_watcher_0 0 rfl rfl)
theorem dX10_watcher_1 : decode cX10_watcher 1 = .ok (.iload_n 1, 1) := dk_27 (dk_at dksX10_watcher_0 1 rfl rfl)
theorem dX10_watcher_2 : decode cX10_watcher 2 = .ok (.invokevirtual 342, 3) := dk_182 1 86 (dk_at dksX10_watcher_0 2 rfl rfl)
theorem dX10_watcher_5 : decode cX10_watcher 5 = .ok (.ifCond .eq 15, 3) := dk_153 0 15 (dk_at dksX10_watcher_0 5 rfl rfl)
theorem dX10_watcher_8 : decode cX10_watcher 8 = .ok (.aload_n 0, 1) := dk_42 (dk_at dksX10_watcher_0 8 rfl rfl)
theorem dX10_watcher_9 : decode cX10_watcher 9 = .ok (.getfield 9, 3) := dk_180 0 9 (dk_at dksX10_watcher_0 9 rfl rfl)
theorem dX10_watcher_12 : decode cX10_watcher 12 = .ok (.bipush 8, 2) := dk_16 8 (dk_at dksX10_watcher_0 12 rfl rfl)
theorem dX10_watcher_14 : decode cX10_watcher 14 = .ok (.iload_n 1, 1) := dk_27 (dk_at dksX10_watcher_0 14 rfl rfl)
theorem dX10_watcher_15 : decode cX10_watcher 15 = .ok (.iadd, 1) := dk_96 (dk_at dksX10_watcher_0 15 rfl rfl)
theorem dX10_watcher_16 : decode cX10_watcher 16 = .ok (.iaload, 1) := dk_46 (dk_at dksX10_watcher_0 16 rfl rfl)
theorem dX10_watcher_17 : decode cX10_watcher 17 = .ok (.goto 5, 3) := dk_167 0 5 (dk_at dksX10_watcher_0 17 rfl rfl)
theorem dX10_watcher_20 : decode cX10_watcher 20 = .ok (.bipush (-2), 2) := dk_16 254 (dk_at dksX10_watcher_0 20 rfl rfl)
theorem dX10_watcher_22 : decode cX10_watcher 22 = .ok (.ireturn, 1) := dk_172 (dk_at dksX10_watcher_0 22 rfl rfl)
abbrev cX10_isWatcher : ByteArray := prog_18_method_8_code
def yX10_isWatcher : MethodName := ⟨RX10, "isWatcher", "(I)Z"⟩
def dkwX10_isWatcher_0 : List UInt8 := [27, 133, 9, 42, 180, 0, 9, 6, 46, 4, 100, 133, 184, 0, 152, 172]
abbrev dktX10_isWatcher_0 : List UInt8 := dkwX10_isWatcher_0 ++ []
theorem dksX10_isWatcher_0 : cX10_isWatcher.data.toList.drop 0 = dktX10_isWatcher_0 := by decide +kernel
theorem dX10_isWatcher_0 : decode cX10_isWatcher 0 = .ok (.iload_n 1, 1) := dk_27 (dk_at dksX10_isWatcher_0 0 rfl rfl)
theorem dX10_isWatcher_1 : decode cX10_isWatcher 1 = .ok (.i2l, 1) := dk_133 (dk_at dksX10_isWatcher_0 1 rfl rfl)
theorem dX10_isWatcher_2 : decode cX10_isWatcher 2 = .ok (.lconst 0, 1) := dk_9 (dk_at dksX10_isWatcher_0 2 rfl rfl)
theorem dX10_isWatcher_3 : decode cX10_isWatcher 3 = .ok (.aload_n 0, 1) := dk_42 (dk_at dksX10_isWatcher_0 3 rfl rfl)
theorem dX10_isWatcher_4 : decode cX10_isWatcher 4 = .ok (.getfield 9, 3) := dk_180 0 9 (dk_at dksX10_isWatcher_0 4 rfl rfl)
theorem dX10_isWatcher_7 : decode cX10_isWatcher 7 = .ok (.iconst 3, 1) := dk_6 (dk_at dksX10_isWatcher_0 7 rfl rfl)
theorem dX10_isWatcher_8 : decode cX10_isWatcher 8 = .ok (.iaload, 1) := dk_46 (dk_at dksX10_isWatcher_0 8 rfl rfl)
theorem dX10_isWatcher_9 : decode cX10_isWatcher 9 = .ok (.iconst 1, 1) := dk_4 (dk_at dksX10_isWatcher_0 9 rfl rfl)
theorem dX10_isWatcher_10 : decode cX10_isWatcher 10 = .ok (.isub, 1) := dk_100 (dk_at dksX10_isWatcher_0 10 rfl rfl)
theorem dX10_isWatcher_11 : decode cX10_isWatcher 11 = .ok (.i2l, 1) := dk_133 (dk_at dksX10_isWatcher_0 11 rfl rfl)
theorem dX10_isWatcher_12 : decode cX10_isWatcher 12 = .ok (.invokestatic 152, 3) := dk_184 0 152 (dk_at dksX10_isWatcher_0 12 rfl rfl)
theorem dX10_isWatcher_15 : decode cX10_isWatcher 15 = .ok (.ireturn, 1) := dk_172 (dk_at dksX10_isWatcher_0 15 rfl rfl)
abbrev cX10_injection : ByteArray := prog_18_method_46_code
def yX10_injection : MethodName := ⟨RX10, "injection", "(II)I"⟩
def dkwX10_injection_1 : List UInt8 := [184, 0, 152, 153, 0, 12, 42, 27, 28, 182, 1, 94, 167, 0, 5, 16, 254, 172]
abbrev dktX10_injection_1 : List UInt8 := dkwX10_injection_1 ++ []
def dkwX10_injection_0 : List UInt8 := [27, 133, 9, 42, 182, 1, 89, 4, 100, 133, 184, 0, 152, 153, 0, 24, 28, 133, 9, 20, 1, 92]
abbrev dktX10_injection_0 : List UInt8 := dkwX10_injection_0 ++ dktX10_injection_1
theorem dksX10_injection_0 : cX10_injection.data.toList.drop 0 = dktX10_injection_0 := by decide +kernel
theorem dksX10_injection_1 : cX10_injection.data.toList.drop 22 = dktX10_injection_1 := dk_seg dksX10_injection_0 22 rfl rfl
theorem dX10_injection_0 : decode cX10_injection 0 = .ok (.iload_n 1, 1) := dk_27 (dk_at dksX10_injection_0 0 rfl rfl)
theorem dX10_injection_1 : decode cX10_injection 1 = .ok (.i2l, 1) := dk_133 (dk_at dksX10_injection_0 1 rfl rfl)
theorem dX10_injection_2 : decode cX10_injection 2 = .ok (.lconst 0, 1) := dk_9 (dk_at dksX10_injection_0 2 rfl rfl)
theorem dX10_injection_3 : decode cX10_injection 3 = .ok (.aload_n 0, 1) := dk_42 (dk_at dksX10_injection_0 3 rfl rfl)
theorem dX10_injection_4 : decode cX10_injection 4 = .ok (.invokevirtual 345, 3) := dk_182 1 89 (dk_at dksX10_injection_0 4 rfl rfl)
theorem dX10_injection_7 : decode cX10_injection 7 = .ok (.iconst 1, 1) := dk_4 (dk_at dksX10_injection_0 7 rfl rfl)
theorem dX10_injection_8 : decode cX10_injection 8 = .ok (.isub, 1) := dk_100 (dk_at dksX10_injection_0 8 rfl rfl)
theorem dX10_injection_9 : decode cX10_injection 9 = .ok (.i2l, 1) := dk_133 (dk_at dksX10_injection_0 9 rfl rfl)
theorem dX10_injection_10 : decode cX10_injection 10 = .ok (.invokestatic 152, 3) := dk_184 0 152 (dk_at dksX10_injection_0 10 rfl rfl)
theorem dX10_injection_13 : decode cX10_injection 13 = .ok (.ifCond .eq 24, 3) := dk_153 0 24 (dk_at dksX10_injection_0 13 rfl rfl)
theorem dX10_injection_16 : decode cX10_injection 16 = .ok (.iload_n 2, 1) := dk_28 (dk_at dksX10_injection_0 16 rfl rfl)
theorem dX10_injection_17 : decode cX10_injection 17 = .ok (.i2l, 1) := dk_133 (dk_at dksX10_injection_0 17 rfl rfl)
theorem dX10_injection_18 : decode cX10_injection 18 = .ok (.lconst 0, 1) := dk_9 (dk_at dksX10_injection_0 18 rfl rfl)
theorem dX10_injection_19 : decode cX10_injection 19 = .ok (.ldc2_w 348, 3) := dk_20 1 92 (dk_at dksX10_injection_0 19 rfl rfl)
theorem dX10_injection_22 : decode cX10_injection 22 = .ok (.invokestatic 152, 3) := dk_184 0 152 (dk_at dksX10_injection_1 0 rfl rfl)
theorem dX10_injection_25 : decode cX10_injection 25 = .ok (.ifCond .eq 12, 3) := dk_153 0 12 (dk_at dksX10_injection_1 3 rfl rfl)
theorem dX10_injection_28 : decode cX10_injection 28 = .ok (.aload_n 0, 1) := dk_42 (dk_at dksX10_injection_1 6 rfl rfl)
theorem dX10_injection_29 : decode cX10_injection 29 = .ok (.iload_n 1, 1) := dk_27 (dk_at dksX10_injection_1 7 rfl rfl)
theorem dX10_injection_30 : decode cX10_injection 30 = .ok (.iload_n 2, 1) := dk_28 (dk_at dksX10_injection_1 8 rfl rfl)
theorem dX10_injection_31 : decode cX10_injection 31 = .ok (.invokevirtual 350, 3) := dk_182 1 94 (dk_at dksX10_injection_1 9 rfl rfl)
theorem dX10_injection_34 : decode cX10_injection 34 = .ok (.goto 5, 3) := dk_167 0 5 (dk_at dksX10_injection_1 12 rfl rfl)
theorem dX10_injection_37 : decode cX10_injection 37 = .ok (.bipush (-2), 2) := dk_16 254 (dk_at dksX10_injection_1 15 rfl rfl)
theorem dX10_injection_39 : decode cX10_injection 39 = .ok (.ireturn, 1) := dk_172 (dk_at dksX10_injection_1 17 rfl rfl)
abbrev cX10_many : ByteArray := prog_18_method_14_code
def yX10_many : MethodName := ⟨RX10, "many", "()I"⟩
def dkwX10_many_0 : List UInt8 := [42, 180, 0, 9, 8, 46, 42, 180, 0, 9, 16, 6, 46, 96, 172]
abbrev dktX10_many_0 : List UInt8 := dkwX10_many_0 ++ []
theorem dksX10_many_0 : cX10_many.data.toList.drop 0 = dktX10_many_0 := by decide +kernel
theorem dX10_many_0 : decode cX10_many 0 = .ok (.aload_n 0, 1) := dk_42 (dk_at dksX10_many_0 0 rfl rfl)
theorem dX10_many_1 : decode cX10_many 1 = .ok (.getfield 9, 3) := dk_180 0 9 (dk_at dksX10_many_0 1 rfl rfl)
theorem dX10_many_4 : decode cX10_many 4 = .ok (.iconst 5, 1) := dk_8 (dk_at dksX10_many_0 4 rfl rfl)
theorem dX10_many_5 : decode cX10_many 5 = .ok (.iaload, 1) := dk_46 (dk_at dksX10_many_0 5 rfl rfl)
theorem dX10_many_6 : decode cX10_many 6 = .ok (.aload_n 0, 1) := dk_42 (dk_at dksX10_many_0 6 rfl rfl)
theorem dX10_many_7 : decode cX10_many 7 = .ok (.getfield 9, 3) := dk_180 0 9 (dk_at dksX10_many_0 7 rfl rfl)
theorem dX10_many_10 : decode cX10_many 10 = .ok (.bipush 6, 2) := dk_16 6 (dk_at dksX10_many_0 10 rfl rfl)
theorem dX10_many_12 : decode cX10_many 12 = .ok (.iaload, 1) := dk_46 (dk_at dksX10_many_0 12 rfl rfl)
theorem dX10_many_13 : decode cX10_many 13 = .ok (.iadd, 1) := dk_96 (dk_at dksX10_many_0 13 rfl rfl)
theorem dX10_many_14 : decode cX10_many 14 = .ok (.ireturn, 1) := dk_172 (dk_at dksX10_many_0 14 rfl rfl)
abbrev cX10_of : ByteArray := prog_18_method_15_code
def yX10_of : MethodName := ⟨RX10, "of", "(II)I"⟩
def dkwX10_of_0 : List UInt8 := [42, 180, 0, 9, 16, 106, 8, 27, 104, 96, 28, 96, 46, 172]
abbrev dktX10_of_0 : List UInt8 := dkwX10_of_0 ++ []
theorem dksX10_of_0 : cX10_of.data.toList.drop 0 = dktX10_of_0 := by decide +kernel
theorem dX10_of_0 : decode cX10_of 0 = .ok (.aload_n 0, 1) := dk_42 (dk_at dksX10_of_0 0 rfl rfl)
theorem dX10_of_1 : decode cX10_of 1 = .ok (.getfield 9, 3) := dk_180 0 9 (dk_at dksX10_of_0 1 rfl rfl)
theorem dX10_of_4 : decode cX10_of 4 = .ok (.bipush 106, 2) := dk_16 106 (dk_at dksX10_of_0 4 rfl rfl)
theorem dX10_of_6 : decode cX10_of 6 = .ok (.iconst 5, 1) := dk_8 (dk_at dksX10_of_0 6 rfl rfl)
theorem dX10_of_7 : decode cX10_of 7 = .ok (.iload_n 1, 1) := dk_27 (dk_at dksX10_of_0 7 rfl rfl)
theorem dX10_of_8 : decode cX10_of 8 = .ok (.imul, 1) := dk_104 (dk_at dksX10_of_0 8 rfl rfl)
theorem dX10_of_9 : decode cX10_of 9 = .ok (.iadd, 1) := dk_96 (dk_at dksX10_of_0 9 rfl rfl)
theorem dX10_of_10 : decode cX10_of 10 = .ok (.iload_n 2, 1) := dk_28 (dk_at dksX10_of_0 10 rfl rfl)
theorem dX10_of_11 : decode cX10_of 11 = .ok (.iadd, 1) := dk_96 (dk_at dksX10_of_0 11 rfl rfl)
theorem dX10_of_12 : decode cX10_of 12 = .ok (.iaload, 1) := dk_46 (dk_at dksX10_of_0 12 rfl rfl)
theorem dX10_of_13 : decode cX10_of 13 = .ok (.ireturn, 1) := dk_172 (dk_at dksX10_of_0 13 rfl rfl)
abbrev cX10_cost : ByteArray := prog_18_method_47_code
def yX10_cost : MethodName := ⟨RX10, "cost", "(II)I"⟩
def dkwX10_cost_1 : List UInt8 := [167, 0, 5, 16, 254, 172]
abbrev dktX10_cost_1 : List UInt8 := dkwX10_cost_1 ++ []
def dkwX10_cost_0 : List UInt8 := [42, 27, 182, 1, 77, 153, 0, 22, 28, 133, 9, 10, 184, 0, 152, 153, 0, 12, 42, 27, 28, 182, 1, 97]
abbrev dktX10_cost_0 : List UInt8 := dkwX10_cost_0 ++ dktX10_cost_1
theorem dksX10_cost_0 : cX10_cost.data.toList.drop 0 = dktX10_cost_0 := by decide +kernel
theorem dksX10_cost_1 : cX10_cost.data.toList.drop 24 = dktX10_cost_1 := dk_seg dksX10_cost_0 24 rfl rfl
theorem dX10_cost_0 : decode cX10_cost 0 = .ok (.aload_n 0, 1) := dk_42 (dk_at dksX10_cost_0 0 rfl rfl)
theorem dX10_cost_1 : decode cX10_cost 1 = .ok (.iload_n 1, 1) := dk_27 (dk_at dksX10_cost_0 1 rfl rfl)
theorem dX10_cost_2 : decode cX10_cost 2 = .ok (.invokevirtual 333, 3) := dk_182 1 77 (dk_at dksX10_cost_0 2 rfl rfl)
theorem dX10_cost_5 : decode cX10_cost 5 = .ok (.ifCond .eq 22, 3) := dk_153 0 22 (dk_at dksX10_cost_0 5 rfl rfl)
theorem dX10_cost_8 : decode cX10_cost 8 = .ok (.iload_n 2, 1) := dk_28 (dk_at dksX10_cost_0 8 rfl rfl)
theorem dX10_cost_9 : decode cX10_cost 9 = .ok (.i2l, 1) := dk_133 (dk_at dksX10_cost_0 9 rfl rfl)
theorem dX10_cost_10 : decode cX10_cost 10 = .ok (.lconst 0, 1) := dk_9 (dk_at dksX10_cost_0 10 rfl rfl)
theorem dX10_cost_11 : decode cX10_cost 11 = .ok (.lconst 1, 1) := dk_10 (dk_at dksX10_cost_0 11 rfl rfl)
theorem dX10_cost_12 : decode cX10_cost 12 = .ok (.invokestatic 152, 3) := dk_184 0 152 (dk_at dksX10_cost_0 12 rfl rfl)
theorem dX10_cost_15 : decode cX10_cost 15 = .ok (.ifCond .eq 12, 3) := dk_153 0 12 (dk_at dksX10_cost_0 15 rfl rfl)
theorem dX10_cost_18 : decode cX10_cost 18 = .ok (.aload_n 0, 1) := dk_42 (dk_at dksX10_cost_0 18 rfl rfl)
theorem dX10_cost_19 : decode cX10_cost 19 = .ok (.iload_n 1, 1) := dk_27 (dk_at dksX10_cost_0 19 rfl rfl)
theorem dX10_cost_20 : decode cX10_cost 20 = .ok (.iload_n 2, 1) := dk_28 (dk_at dksX10_cost_0 20 rfl rfl)
theorem dX10_cost_21 : decode cX10_cost 21 = .ok (.invokevirtual 353, 3) := dk_182 1 97 (dk_at dksX10_cost_0 21 rfl rfl)
theorem dX10_cost_24 : decode cX10_cost 24 = .ok (.goto 5, 3) := dk_167 0 5 (dk_at dksX10_cost_1 0 rfl rfl)
theorem dX10_cost_27 : decode cX10_cost 27 = .ok (.bipush (-2), 2) := dk_16 254 (dk_at dksX10_cost_1 3 rfl rfl)
theorem dX10_cost_29 : decode cX10_cost 29 = .ok (.ireturn, 1) := dk_172 (dk_at dksX10_cost_1 5 rfl rfl)
abbrev cX10_goes : ByteArray := prog_18_method_41_code
def yX10_goes : MethodName := ⟨RX10, "goes", "(II)I"⟩
def dkwX10_goes_7 : List UInt8 := [27, 29, 182, 1, 74, 96, 79, 132, 3, 255, 167, 255, 93, 42, 180, 0, 34, 3, 46, 172]
abbrev dktX10_goes_7 : List UInt8 := dkwX10_goes_7 ++ []
def dkwX10_goes_6 : List UInt8 := [132, 6, 1, 167, 255, 157, 42, 180, 0, 34, 29, 28, 5, 160, 0, 8, 21, 4, 167, 0, 12, 21, 4, 42]
abbrev dktX10_goes_6 : List UInt8 := dkwX10_goes_6 ++ dktX10_goes_7
def dkwX10_goes_5 : List UInt8 := [184, 1, 71, 167, 0, 15, 21, 4, 42, 180, 0, 34, 21, 6, 46, 184, 0, 191, 54, 4, 3, 54, 5]
abbrev dktX10_goes_5 : List UInt8 := dkwX10_goes_5 ++ dktX10_goes_6
def dkwX10_goes_4 : List UInt8 := [180, 0, 34, 21, 6, 46, 167, 0, 35, 28, 4, 160, 0, 18, 21, 4, 42, 180, 0, 34, 21, 6, 46]
abbrev dktX10_goes_4 : List UInt8 := dkwX10_goes_4 ++ dktX10_goes_5
def dkwX10_goes_3 : List UInt8 := [160, 0, 18, 21, 4, 42, 180, 0, 34, 21, 6, 46, 96, 54, 4, 167, 0, 52, 21, 5, 153, 0, 13, 42]
abbrev dktX10_goes_3 : List UInt8 := dkwX10_goes_3 ++ dktX10_goes_4
def dkwX10_goes_2 : List UInt8 := [182, 1, 61, 162, 0, 95, 42, 27, 21, 6, 29, 182, 1, 64, 154, 0, 6, 167, 0, 75, 28, 5]
abbrev dktX10_goes_2 : List UInt8 := dkwX10_goes_2 ++ dktX10_goes_3
def dkwX10_goes_1 : List UInt8 := [160, 0, 7, 4, 167, 0, 4, 3, 54, 4, 4, 54, 5, 29, 4, 96, 54, 6, 21, 6, 42, 27]
abbrev dktX10_goes_1 : List UInt8 := dkwX10_goes_1 ++ dktX10_goes_2
def dkwX10_goes_0 : List UInt8 := [42, 27, 182, 1, 61, 4, 100, 62, 29, 155, 0, 165, 42, 27, 29, 182, 1, 68, 154, 0, 12, 28, 5]
abbrev dktX10_goes_0 : List UInt8 := dkwX10_goes_0 ++ dktX10_goes_1
theorem dksX10_goes_0 : cX10_goes.data.toList.drop 0 = dktX10_goes_0 := by decide +kernel
theorem dksX10_goes_1 : cX10_goes.data.toList.drop 23 = dktX10_goes_1 := dk_seg dksX10_goes_0 23 rfl rfl
theorem dksX10_goes_2 : cX10_goes.data.toList.drop 45 = dktX10_goes_2 := dk_seg dksX10_goes_1 22 rfl rfl
theorem dksX10_goes_3 : cX10_goes.data.toList.drop 67 = dktX10_goes_3 := dk_seg dksX10_goes_2 22 rfl rfl
theorem dksX10_goes_4 : cX10_goes.data.toList.drop 91 = dktX10_goes_4 := dk_seg dksX10_goes_3 24 rfl rfl
theorem dksX10_goes_5 : cX10_goes.data.toList.drop 114 = dktX10_goes_5 := dk_seg dksX10_goes_4 23 rfl rfl
theorem dksX10_goes_6 : cX10_goes.data.toList.drop 137 = dktX10_goes_6 := dk_seg dksX10_goes_5 23 rfl rfl
theorem dksX10_goes_7 : cX10_goes.data.toList.drop 161 = dktX10_goes_7 := dk_seg dksX10_goes_6 24 rfl rfl
theorem dX10_goes_0 : decode cX10_goes 0 = .ok (.aload_n 0, 1) := dk_42 (dk_at dksX10_goes_0 0 rfl rfl)
theorem dX10_goes_1 : decode cX10_goes 1 = .ok (.iload_n 1, 1) := dk_27 (dk_at dksX10_goes_0 1 rfl rfl)
theorem dX10_goes_2 : decode cX10_goes 2 = .ok (.invokevirtual 317, 3) := dk_182 1 61 (dk_at dksX10_goes_0 2 rfl rfl)
theorem dX10_goes_5 : decode cX10_goes 5 = .ok (.iconst 1, 1) := dk_4 (dk_at dksX10_goes_0 5 rfl rfl)
theorem dX10_goes_6 : decode cX10_goes 6 = .ok (.isub, 1) := dk_100 (dk_at dksX10_goes_0 6 rfl rfl)
theorem dX10_goes_7 : decode cX10_goes 7 = .ok (.istore_n 3, 1) := dk_62 (dk_at dksX10_goes_0 7 rfl rfl)
theorem dX10_goes_8 : decode cX10_goes 8 = .ok (.iload_n 3, 1) := dk_29 (dk_at dksX10_goes_0 8 rfl rfl)
theorem dX10_goes_9 : decode cX10_goes 9 = .ok (.ifCond .lt 165, 3) := dk_155 0 165 (dk_at dksX10_goes_0 9 rfl rfl)
theorem dX10_goes_12 : decode cX10_goes 12 = .ok (.aload_n 0, 1) := dk_42 (dk_at dksX10_goes_0 12 rfl rfl)
theorem dX10_goes_13 : decode cX10_goes 13 = .ok (.iload_n 1, 1) := dk_27 (dk_at dksX10_goes_0 13 rfl rfl)
theorem dX10_goes_14 : decode cX10_goes 14 = .ok (.iload_n 3, 1) := dk_29 (dk_at dksX10_goes_0 14 rfl rfl)
theorem dX10_goes_15 : decode cX10_goes 15 = .ok (.invokevirtual 324, 3) := dk_182 1 68 (dk_at dksX10_goes_0 15 rfl rfl)
theorem dX10_goes_18 : decode cX10_goes 18 = .ok (.ifCond .ne 12, 3) := dk_154 0 12 (dk_at dksX10_goes_0 18 rfl rfl)
theorem dX10_goes_21 : decode cX10_goes 21 = .ok (.iload_n 2, 1) := dk_28 (dk_at dksX10_goes_0 21 rfl rfl)
theorem dX10_goes_22 : decode cX10_goes 22 = .ok (.iconst 2, 1) := dk_5 (dk_at dksX10_goes_0 22 rfl rfl)
theorem dX10_goes_23 : decode cX10_goes 23 = .ok (.if_icmp .ne 7, 3) := dk_160 0 7 (dk_at dksX10_goes_1 0 rfl rfl)
theorem dX10_goes_26 : decode cX10_goes 26 = .ok (.iconst 1, 1) := dk_4 (dk_at dksX10_goes_1 3 rfl rfl)
theorem dX10_goes_27 : decode cX10_goes 27 = .ok (.goto 4, 3) := dk_167 0 4 (dk_at dksX10_goes_1 4 rfl rfl)
theorem dX10_goes_30 : decode cX10_goes 30 = .ok (.iconst 0, 1) := dk_3 (dk_at dksX10_goes_1 7 rfl rfl)
theorem dX10_goes_31 : decode cX10_goes 31 = .ok (.istore 4, 2) := dk_54 4 (dk_at dksX10_goes_1 8 rfl rfl)
theorem dX10_goes_33 : decode cX10_goes 33 = .ok (.iconst 1, 1) := dk_4 (dk_at dksX10_goes_1 10 rfl rfl)
theorem dX10_goes_34 : decode cX10_goes 34 = .ok (.istore 5, 2) := dk_54 5 (dk_at dksX10_goes_1 11 rfl rfl)
theorem dX10_goes_36 : decode cX10_goes 36 = .ok (.iload_n 3, 1) := dk_29 (dk_at dksX10_goes_1 13 rfl rfl)
theorem dX10_goes_37 : decode cX10_goes 37 = .ok (.iconst 1, 1) := dk_4 (dk_at dksX10_goes_1 14 rfl rfl)
theorem dX10_goes_38 : decode cX10_goes 38 = .ok (.iadd, 1) := dk_96 (dk_at dksX10_goes_1 15 rfl rfl)
theorem dX10_goes_39 : decode cX10_goes 39 = .ok (.istore 6, 2) := dk_54 6 (dk_at dksX10_goes_1 16 rfl rfl)
theorem dX10_goes_41 : decode cX10_goes 41 = .ok (.iload 6, 2) := dk_21 6 (dk_at dksX10_goes_1 18 rfl rfl)
theorem dX10_goes_43 : decode cX10_goes 43 = .ok (.aload_n 0, 1) := dk_42 (dk_at dksX10_goes_1 20 rfl rfl)
theorem dX10_goes_44 : decode cX10_goes 44 = .ok (.iload_n 1, 1) := dk_27 (dk_at dksX10_goes_1 21 rfl rfl)
theorem dX10_goes_45 : decode cX10_goes 45 = .ok (.invokevirtual 317, 3) := dk_182 1 61 (dk_at dksX10_goes_2 0 rfl rfl)
theorem dX10_goes_48 : decode cX10_goes 48 = .ok (.if_icmp .ge 95, 3) := dk_162 0 95 (dk_at dksX10_goes_2 3 rfl rfl)
theorem dX10_goes_51 : decode cX10_goes 51 = .ok (.aload_n 0, 1) := dk_42 (dk_at dksX10_goes_2 6 rfl rfl)
theorem dX10_goes_52 : decode cX10_goes 52 = .ok (.iload_n 1, 1) := dk_27 (dk_at dksX10_goes_2 7 rfl rfl)
theorem dX10_goes_53 : decode cX10_goes 53 = .ok (.iload 6, 2) := dk_21 6 (dk_at dksX10_goes_2 8 rfl rfl)
theorem dX10_goes_55 : decode cX10_goes 55 = .ok (.iload_n 3, 1) := dk_29 (dk_at dksX10_goes_2 10 rfl rfl)
theorem dX10_goes_56 : decode cX10_goes 56 = .ok (.invokevirtual 320, 3) := dk_182 1 64 (dk_at dksX10_goes_2 11 rfl rfl)
theorem dX10_goes_59 : decode cX10_goes 59 = .ok (.ifCond .ne 6, 3) := dk_154 0 6 (dk_at dksX10_goes_2 14 rfl rfl)
theorem dX10_goes_62 : decode cX10_goes 62 = .ok (.goto 75, 3) := dk_167 0 75 (dk_at dksX10_goes_2 17 rfl rfl)
theorem dX10_goes_65 : decode cX10_goes 65 = .ok (.iload_n 2, 1) := dk_28 (dk_at dksX10_goes_2 20 rfl rfl)
theorem dX10_goes_66 : decode cX10_goes 66 = .ok (.iconst 2, 1) := dk_5 (dk_at dksX10_goes_2 21 rfl rfl)
theorem dX10_goes_67 : decode cX10_goes 67 = .ok (.if_icmp .ne 18, 3) := dk_160 0 18 (dk_at dksX10_goes_3 0 rfl rfl)
theorem dX10_goes_70 : decode cX10_goes 70 = .ok (.iload 4, 2) := dk_21 4 (dk_at dksX10_goes_3 3 rfl rfl)
theorem dX10_goes_72 : decode cX10_goes 72 = .ok (.aload_n 0, 1) := dk_42 (dk_at dksX10_goes_3 5 rfl rfl)
theorem dX10_goes_73 : decode cX10_goes 73 = .ok (.getfield 34, 3) := dk_180 0 34 (dk_at dksX10_goes_3 6 rfl rfl)
theorem dX10_goes_76 : decode cX10_goes 76 = .ok (.iload 6, 2) := dk_21 6 (dk_at dksX10_goes_3 9 rfl rfl)
theorem dX10_goes_78 : decode cX10_goes 78 = .ok (.iaload, 1) := dk_46 (dk_at dksX10_goes_3 11 rfl rfl)
theorem dX10_goes_79 : decode cX10_goes 79 = .ok (.iadd, 1) := dk_96 (dk_at dksX10_goes_3 12 rfl rfl)
theorem dX10_goes_80 : decode cX10_goes 80 = .ok (.istore 4, 2) := dk_54 4 (dk_at dksX10_goes_3 13 rfl rfl)
theorem dX10_goes_82 : decode cX10_goes 82 = .ok (.goto 52, 3) := dk_167 0 52 (dk_at dksX10_goes_3 15 rfl rfl)
theorem dX10_goes_85 : decode cX10_goes 85 = .ok (.iload 5, 2) := dk_21 5 (dk_at dksX10_goes_3 18 rfl rfl)
theorem dX10_goes_87 : decode cX10_goes 87 = .ok (.ifCond .eq 13, 3) := dk_153 0 13 (dk_at dksX10_goes_3 20 rfl rfl)
theorem dX10_goes_90 : decode cX10_goes 90 = .ok (.aload_n 0, 1) := dk_42 (dk_at dksX10_goes_3 23 rfl rfl)
theorem dX10_goes_91 : decode cX10_goes 91 = .ok (.getfield 34, 3) := dk_180 0 34 (dk_at dksX10_goes_4 0 rfl rfl)
theorem dX10_goes_94 : decode cX10_goes 94 = .ok (.iload 6, 2) := dk_21 6 (dk_at dksX10_goes_4 3 rfl rfl)
theorem dX10_goes_96 : decode cX10_goes 96 = .ok (.iaload, 1) := dk_46 (dk_at dksX10_goes_4 5 rfl rfl)
theorem dX10_goes_97 : decode cX10_goes 97 = .ok (.goto 35, 3) := dk_167 0 35 (dk_at dksX10_goes_4 6 rfl rfl)
theorem dX10_goes_100 : decode cX10_goes 100 = .ok (.iload_n 2, 1) := dk_28 (dk_at dksX10_goes_4 9 rfl rfl)
theorem dX10_goes_101 : decode cX10_goes 101 = .ok (.iconst 1, 1) := dk_4 (dk_at dksX10_goes_4 10 rfl rfl)
theorem dX10_goes_102 : decode cX10_goes 102 = .ok (.if_icmp .ne 18, 3) := dk_160 0 18 (dk_at dksX10_goes_4 11 rfl rfl)
theorem dX10_goes_105 : decode cX10_goes 105 = .ok (.iload 4, 2) := dk_21 4 (dk_at dksX10_goes_4 14 rfl rfl)
theorem dX10_goes_107 : decode cX10_goes 107 = .ok (.aload_n 0, 1) := dk_42 (dk_at dksX10_goes_4 16 rfl rfl)
theorem dX10_goes_108 : decode cX10_goes 108 = .ok (.getfield 34, 3) := dk_180 0 34 (dk_at dksX10_goes_4 17 rfl rfl)
theorem dX10_goes_111 : decode cX10_goes 111 = .ok (.iload 6, 2) := dk_21 6 (dk_at dksX10_goes_4 20 rfl rfl)
theorem dX10_goes_113 : decode cX10_goes 113 = .ok (.iaload, 1) := dk_46 (dk_at dksX10_goes_4 22 rfl rfl)
theorem dX10_goes_114 : decode cX10_goes 114 = .ok (.invokestatic 327, 3) := dk_184 1 71 (dk_at dksX10_goes_5 0 rfl rfl)
theorem dX10_goes_117 : decode cX10_goes 117 = .ok (.goto 15, 3) := dk_167 0 15 (dk_at dksX10_goes_5 3 rfl rfl)
theorem dX10_goes_120 : decode cX10_goes 120 = .ok (.iload 4, 2) := dk_21 4 (dk_at dksX10_goes_5 6 rfl rfl)
theorem dX10_goes_122 : decode cX10_goes 122 = .ok (.aload_n 0, 1) := dk_42 (dk_at dksX10_goes_5 8 rfl rfl)
theorem dX10_goes_123 : decode cX10_goes 123 = .ok (.getfield 34, 3) := dk_180 0 34 (dk_at dksX10_goes_5 9 rfl rfl)
theorem dX10_goes_126 : decode cX10_goes 126 = .ok (.iload 6, 2) := dk_21 6 (dk_at dksX10_goes_5 12 rfl rfl)
theorem dX10_goes_128 : decode cX10_goes 128 = .ok (.iaload, 1) := dk_46 (dk_at dksX10_goes_5 14 rfl rfl)
theorem dX10_goes_129 : decode cX10_goes 129 = .ok (.invokestatic 191, 3) := dk_184 0 191 (dk_at dksX10_goes_5 15 rfl rfl)
theorem dX10_goes_132 : decode cX10_goes 132 = .ok (.istore 4, 2) := dk_54 4 (dk_at dksX10_goes_5 18 rfl rfl)
theorem dX10_goes_134 : decode cX10_goes 134 = .ok (.iconst 0, 1) := dk_3 (dk_at dksX10_goes_5 20 rfl rfl)
theorem dX10_goes_135 : decode cX10_goes 135 = .ok (.istore 5, 2) := dk_54 5 (dk_at dksX10_goes_5 21 rfl rfl)
theorem dX10_goes_137 : decode cX10_goes 137 = .ok (.iinc 6 1, 3) := dk_132 6 1 (dk_at dksX10_goes_6 0 rfl rfl)
theorem dX10_goes_140 : decode cX10_goes 140 = .ok (.goto (-99), 3) := dk_167 255 157 (dk_at dksX10_goes_6 3 rfl rfl)
theorem dX10_goes_143 : decode cX10_goes 143 = .ok (.aload_n 0, 1) := dk_42 (dk_at dksX10_goes_6 6 rfl rfl)
theorem dX10_goes_144 : decode cX10_goes 144 = .ok (.getfield 34, 3) := dk_180 0 34 (dk_at dksX10_goes_6 7 rfl rfl)
theorem dX10_goes_147 : decode cX10_goes 147 = .ok (.iload_n 3, 1) := dk_29 (dk_at dksX10_goes_6 10 rfl rfl)
theorem dX10_goes_148 : decode cX10_goes 148 = .ok (.iload_n 2, 1) := dk_28 (dk_at dksX10_goes_6 11 rfl rfl)
theorem dX10_goes_149 : decode cX10_goes 149 = .ok (.iconst 2, 1) := dk_5 (dk_at dksX10_goes_6 12 rfl rfl)
theorem dX10_goes_150 : decode cX10_goes 150 = .ok (.if_icmp .ne 8, 3) := dk_160 0 8 (dk_at dksX10_goes_6 13 rfl rfl)
theorem dX10_goes_153 : decode cX10_goes 153 = .ok (.iload 4, 2) := dk_21 4 (dk_at dksX10_goes_6 16 rfl rfl)
theorem dX10_goes_155 : decode cX10_goes 155 = .ok (.goto 12, 3) := dk_167 0 12 (dk_at dksX10_goes_6 18 rfl rfl)
theorem dX10_goes_158 : decode cX10_goes 158 = .ok (.iload 4, 2) := dk_21 4 (dk_at dksX10_goes_6 21 rfl rfl)
theorem dX10_goes_160 : decode cX10_goes 160 = .ok (.aload_n 0, 1) := dk_42 (dk_at dksX10_goes_6 23 rfl rfl)
theorem dX10_goes_161 : decode cX10_goes 161 = .ok (.iload_n 1, 1) := dk_27 (dk_at dksX10_goes_7 0 rfl rfl)
theorem dX10_goes_162 : decode cX10_goes 162 = .ok (.iload_n 3, 1) := dk_29 (dk_at dksX10_goes_7 1 rfl rfl)
theorem dX10_goes_163 : decode cX10_goes 163 = .ok (.invokevirtual 330, 3) := dk_182 1 74 (dk_at dksX10_goes_7 2 rfl rfl)
theorem dX10_goes_166 : decode cX10_goes 166 = .ok (.iadd, 1) := dk_96 (dk_at dksX10_goes_7 5 rfl rfl)
theorem dX10_goes_167 : decode cX10_goes 167 = .ok (.iastore, 1) := dk_79 (dk_at dksX10_goes_7 6 rfl rfl)
theorem dX10_goes_168 : decode cX10_goes 168 = .ok (.iinc 3 (-1), 3) := dk_132 3 255 (dk_at dksX10_goes_7 7 rfl rfl)
theorem dX10_goes_171 : decode cX10_goes 171 = .ok (.goto (-163), 3) := dk_167 255 93 (dk_at dksX10_goes_7 10 rfl rfl)
theorem dX10_goes_174 : decode cX10_goes 174 = .ok (.aload_n 0, 1) := dk_42 (dk_at dksX10_goes_7 13 rfl rfl)
theorem dX10_goes_175 : decode cX10_goes 175 = .ok (.getfield 34, 3) := dk_180 0 34 (dk_at dksX10_goes_7 14 rfl rfl)
theorem dX10_goes_178 : decode cX10_goes 178 = .ok (.iconst 0, 1) := dk_3 (dk_at dksX10_goes_7 17 rfl rfl)
theorem dX10_goes_179 : decode cX10_goes 179 = .ok (.iaload, 1) := dk_46 (dk_at dksX10_goes_7 18 rfl rfl)
theorem dX10_goes_180 : decode cX10_goes 180 = .ok (.ireturn, 1) := dk_172 (dk_at dksX10_goes_7 19 rfl rfl)
abbrev cX10_followers : ByteArray := prog_18_method_39_code
def yX10_followers : MethodName := ⟨RX10, "followers", "(II)I"⟩
def dkwX10_followers_1 : List UInt8 := [182, 1, 64, 153, 0, 7, 4, 167, 0, 4, 3, 96, 62, 132, 4, 1, 167, 255, 224, 29, 172]
abbrev dktX10_followers_1 : List UInt8 := dkwX10_followers_1 ++ []
def dkwX10_followers_0 : List UInt8 := [3, 62, 28, 4, 96, 54, 4, 21, 4, 42, 27, 182, 1, 61, 162, 0, 28, 29, 42, 27, 21, 4, 28]
abbrev dktX10_followers_0 : List UInt8 := dkwX10_followers_0 ++ dktX10_followers_1
theorem dksX10_followers_0 : cX10_followers.data.toList.drop 0 = dktX10_followers_0 := by decide +kernel
theorem dksX10_followers_1 : cX10_followers.data.toList.drop 23 = dktX10_followers_1 := dk_seg dksX10_followers_0 23 rfl rfl
theorem dX10_followers_0 : decode cX10_followers 0 = .ok (.iconst 0, 1) := dk_3 (dk_at dksX10_followers_0 0 rfl rfl)
theorem dX10_followers_1 : decode cX10_followers 1 = .ok (.istore_n 3, 1) := dk_62 (dk_at dksX10_followers_0 1 rfl rfl)
theorem dX10_followers_2 : decode cX10_followers 2 = .ok (.iload_n 2, 1) := dk_28 (dk_at dksX10_followers_0 2 rfl rfl)
theorem dX10_followers_3 : decode cX10_followers 3 = .ok (.iconst 1, 1) := dk_4 (dk_at dksX10_followers_0 3 rfl rfl)
theorem dX10_followers_4 : decode cX10_followers 4 = .ok (.iadd, 1) := dk_96 (dk_at dksX10_followers_0 4 rfl rfl)
theorem dX10_followers_5 : decode cX10_followers 5 = .ok (.istore 4, 2) := dk_54 4 (dk_at dksX10_followers_0 5 rfl rfl)
theorem dX10_followers_7 : decode cX10_followers 7 = .ok (.iload 4, 2) := dk_21 4 (dk_at dksX10_followers_0 7 rfl rfl)
theorem dX10_followers_9 : decode cX10_followers 9 = .ok (.aload_n 0, 1) := dk_42 (dk_at dksX10_followers_0 9 rfl rfl)
theorem dX10_followers_10 : decode cX10_followers 10 = .ok (.iload_n 1, 1) := dk_27 (dk_at dksX10_followers_0 10 rfl rfl)
theorem dX10_followers_11 : decode cX10_followers 11 = .ok (.invokevirtual 317, 3) := dk_182 1 61 (dk_at dksX10_followers_0 11 rfl rfl)
theorem dX10_followers_14 : decode cX10_followers 14 = .ok (.if_icmp .ge 28, 3) := dk_162 0 28 (dk_at dksX10_followers_0 14 rfl rfl)
theorem dX10_followers_17 : decode cX10_followers 17 = .ok (.iload_n 3, 1) := dk_29 (dk_at dksX10_followers_0 17 rfl rfl)
theorem dX10_followers_18 : decode cX10_followers 18 = .ok (.aload_n 0, 1) := dk_42 (dk_at dksX10_followers_0 18 rfl rfl)
theorem dX10_followers_19 : decode cX10_followers 19 = .ok (.iload_n 1, 1) := dk_27 (dk_at dksX10_followers_0 19 rfl rfl)
theorem dX10_followers_20 : decode cX10_followers 20 = .ok (.iload 4, 2) := dk_21 4 (dk_at dksX10_followers_0 20 rfl rfl)
theorem dX10_followers_22 : decode cX10_followers 22 = .ok (.iload_n 2, 1) := dk_28 (dk_at dksX10_followers_0 22 rfl rfl)
theorem dX10_followers_23 : decode cX10_followers 23 = .ok (.invokevirtual 320, 3) := dk_182 1 64 (dk_at dksX10_followers_1 0 rfl rfl)
theorem dX10_followers_26 : decode cX10_followers 26 = .ok (.ifCond .eq 7, 3) := dk_153 0 7 (dk_at dksX10_followers_1 3 rfl rfl)
theorem dX10_followers_29 : decode cX10_followers 29 = .ok (.iconst 1, 1) := dk_4 (dk_at dksX10_followers_1 6 rfl rfl)
theorem dX10_followers_30 : decode cX10_followers 30 = .ok (.goto 4, 3) := dk_167 0 4 (dk_at dksX10_followers_1 7 rfl rfl)
theorem dX10_followers_33 : decode cX10_followers 33 = .ok (.iconst 0, 1) := dk_3 (dk_at dksX10_followers_1 10 rfl rfl)
theorem dX10_followers_34 : decode cX10_followers 34 = .ok (.iadd, 1) := dk_96 (dk_at dksX10_followers_1 11 rfl rfl)
theorem dX10_followers_35 : decode cX10_followers 35 = .ok (.istore_n 3, 1) := dk_62 (dk_at dksX10_followers_1 12 rfl rfl)
theorem dX10_followers_36 : decode cX10_followers 36 = .ok (.iinc 4 1, 3) := dk_132 4 1 (dk_at dksX10_followers_1 13 rfl rfl)
theorem dX10_followers_39 : decode cX10_followers 39 = .ok (.goto (-32), 3) := dk_167 255 224 (dk_at dksX10_followers_1 16 rfl rfl)
theorem dX10_followers_42 : decode cX10_followers 42 = .ok (.iload_n 3, 1) := dk_29 (dk_at dksX10_followers_1 19 rfl rfl)
theorem dX10_followers_43 : decode cX10_followers 43 = .ok (.ireturn, 1) := dk_172 (dk_at dksX10_followers_1 20 rfl rfl)
abbrev cX10_ways : ByteArray := prog_18_method_48_code
def yX10_ways : MethodName := ⟨RX10, "ways", "(I)I"⟩
def dkwX10_ways_0 : List UInt8 := [42, 27, 182, 1, 77, 153, 0, 12, 42, 27, 5, 182, 1, 97, 167, 0, 5, 16, 254, 172]
abbrev dktX10_ways_0 : List UInt8 := dkwX10_ways_0 ++ []
theorem dksX10_ways_0 : cX10_ways.data.toList.drop 0 = dktX10_ways_0 := by decide +kernel
theorem dX10_ways_0 : decode cX10_ways 0 = .ok (.aload_n 0, 1) := dk_42 (dk_at dksX10_ways_0 0 rfl rfl)
theorem dX10_ways_1 : decode cX10_ways 1 = .ok (.iload_n 1, 1) := dk_27 (dk_at dksX10_ways_0 1 rfl rfl)
theorem dX10_ways_2 : decode cX10_ways 2 = .ok (.invokevirtual 333, 3) := dk_182 1 77 (dk_at dksX10_ways_0 2 rfl rfl)
theorem dX10_ways_5 : decode cX10_ways 5 = .ok (.ifCond .eq 12, 3) := dk_153 0 12 (dk_at dksX10_ways_0 5 rfl rfl)
theorem dX10_ways_8 : decode cX10_ways 8 = .ok (.aload_n 0, 1) := dk_42 (dk_at dksX10_ways_0 8 rfl rfl)
theorem dX10_ways_9 : decode cX10_ways 9 = .ok (.iload_n 1, 1) := dk_27 (dk_at dksX10_ways_0 9 rfl rfl)
theorem dX10_ways_10 : decode cX10_ways 10 = .ok (.iconst 2, 1) := dk_5 (dk_at dksX10_ways_0 10 rfl rfl)
theorem dX10_ways_11 : decode cX10_ways 11 = .ok (.invokevirtual 353, 3) := dk_182 1 97 (dk_at dksX10_ways_0 11 rfl rfl)
theorem dX10_ways_14 : decode cX10_ways 14 = .ok (.goto 5, 3) := dk_167 0 5 (dk_at dksX10_ways_0 14 rfl rfl)
theorem dX10_ways_17 : decode cX10_ways 17 = .ok (.bipush (-2), 2) := dk_16 254 (dk_at dksX10_ways_0 17 rfl rfl)
theorem dX10_ways_19 : decode cX10_ways 19 = .ok (.ireturn, 1) := dk_172 (dk_at dksX10_ways_0 19 rfl rfl)
abbrev cX10_response : ByteArray := prog_18_method_54_code
def yX10_response : MethodName := ⟨RX10, "response", "(I)I"⟩
def dkwX10_response_0 : List UInt8 := [42, 27, 182, 1, 77, 154, 0, 6, 16, 254, 172, 42, 182, 1, 111, 42, 27, 182, 1, 102, 172]
abbrev dktX10_response_0 : List UInt8 := dkwX10_response_0 ++ []
theorem dksX10_response_0 : cX10_response.data.toList.drop 0 = dktX10_response_0 := by decide +kernel
theorem dX10_response_0 : decode cX10_response 0 = .ok (.aload_n 0, 1) := dk_42 (dk_at dksX10_response_0 0 rfl rfl)
theorem dX10_response_1 : decode cX10_response 1 = .ok (.iload_n 1, 1) := dk_27 (dk_at dksX10_response_0 1 rfl rfl)
theorem dX10_response_2 : decode cX10_response 2 = .ok (.invokevirtual 333, 3) := dk_182 1 77 (dk_at dksX10_response_0 2 rfl rfl)
theorem dX10_response_5 : decode cX10_response 5 = .ok (.ifCond .ne 6, 3) := dk_154 0 6 (dk_at dksX10_response_0 5 rfl rfl)
theorem dX10_response_8 : decode cX10_response 8 = .ok (.bipush (-2), 2) := dk_16 254 (dk_at dksX10_response_0 8 rfl rfl)
theorem dX10_response_10 : decode cX10_response 10 = .ok (.ireturn, 1) := dk_172 (dk_at dksX10_response_0 10 rfl rfl)
theorem dX10_response_11 : decode cX10_response 11 = .ok (.aload_n 0, 1) := dk_42 (dk_at dksX10_response_0 11 rfl rfl)
theorem dX10_response_12 : decode cX10_response 12 = .ok (.invokevirtual 367, 3) := dk_182 1 111 (dk_at dksX10_response_0 12 rfl rfl)
theorem dX10_response_15 : decode cX10_response 15 = .ok (.aload_n 0, 1) := dk_42 (dk_at dksX10_response_0 15 rfl rfl)
theorem dX10_response_16 : decode cX10_response 16 = .ok (.iload_n 1, 1) := dk_27 (dk_at dksX10_response_0 16 rfl rfl)
theorem dX10_response_17 : decode cX10_response 17 = .ok (.invokevirtual 358, 3) := dk_182 1 102 (dk_at dksX10_response_0 17 rfl rfl)
theorem dX10_response_20 : decode cX10_response 20 = .ok (.ireturn, 1) := dk_172 (dk_at dksX10_response_0 20 rfl rfl)
abbrev cX10_laysCosts : ByteArray := prog_18_method_49_code
def yX10_laysCosts : MethodName := ⟨RX10, "laysCosts", "()V"⟩
def dkwX10_laysCosts_2 : List UInt8 := [132, 1, 1, 167, 255, 208, 177]
abbrev dktX10_laysCosts_2 : List UInt8 := dkwX10_laysCosts_2 ++ []
def dkwX10_laysCosts_1 : List UInt8 := [42, 180, 0, 37, 27, 42, 27, 4, 182, 1, 97, 79, 42, 180, 0, 43, 27, 4, 27, 120, 4, 100, 79]
abbrev dktX10_laysCosts_1 : List UInt8 := dkwX10_laysCosts_1 ++ dktX10_laysCosts_2
def dkwX10_laysCosts_0 : List UInt8 := [3, 60, 27, 42, 180, 0, 9, 7, 46, 162, 0, 44, 42, 180, 0, 40, 27, 42, 27, 3, 182, 1, 97, 79]
abbrev dktX10_laysCosts_0 : List UInt8 := dkwX10_laysCosts_0 ++ dktX10_laysCosts_1
theorem dksX10_laysCosts_0 : cX10_laysCosts.data.toList.drop 0 = dktX10_laysCosts_0 := by decide +kernel
theorem dksX10_laysCosts_1 : cX10_laysCosts.data.toList.drop 24 = dktX10_laysCosts_1 := dk_seg dksX10_laysCosts_0 24 rfl rfl
theorem dksX10_laysCosts_2 : cX10_laysCosts.data.toList.drop 47 = dktX10_laysCosts_2 := dk_seg dksX10_laysCosts_1 23 rfl rfl
theorem dX10_laysCosts_0 : decode cX10_laysCosts 0 = .ok (.iconst 0, 1) := dk_3 (dk_at dksX10_laysCosts_0 0 rfl rfl)
theorem dX10_laysCosts_1 : decode cX10_laysCosts 1 = .ok (.istore_n 1, 1) := dk_60 (dk_at dksX10_laysCosts_0 1 rfl rfl)
theorem dX10_laysCosts_2 : decode cX10_laysCosts 2 = .ok (.iload_n 1, 1) := dk_27 (dk_at dksX10_laysCosts_0 2 rfl rfl)
theorem dX10_laysCosts_3 : decode cX10_laysCosts 3 = .ok (.aload_n 0, 1) := dk_42 (dk_at dksX10_laysCosts_0 3 rfl rfl)
theorem dX10_laysCosts_4 : decode cX10_laysCosts 4 = .ok (.getfield 9, 3) := dk_180 0 9 (dk_at dksX10_laysCosts_0 4 rfl rfl)
theorem dX10_laysCosts_7 : decode cX10_laysCosts 7 = .ok (.iconst 4, 1) := dk_7 (dk_at dksX10_laysCosts_0 7 rfl rfl)
theorem dX10_laysCosts_8 : decode cX10_laysCosts 8 = .ok (.iaload, 1) := dk_46 (dk_at dksX10_laysCosts_0 8 rfl rfl)
theorem dX10_laysCosts_9 : decode cX10_laysCosts 9 = .ok (.if_icmp .ge 44, 3) := dk_162 0 44 (dk_at dksX10_laysCosts_0 9 rfl rfl)
theorem dX10_laysCosts_12 : decode cX10_laysCosts 12 = .ok (.aload_n 0, 1) := dk_42 (dk_at dksX10_laysCosts_0 12 rfl rfl)
theorem dX10_laysCosts_13 : decode cX10_laysCosts 13 = .ok (.getfield 40, 3) := dk_180 0 40 (dk_at dksX10_laysCosts_0 13 rfl rfl)
theorem dX10_laysCosts_16 : decode cX10_laysCosts 16 = .ok (.iload_n 1, 1) := dk_27 (dk_at dksX10_laysCosts_0 16 rfl rfl)
theorem dX10_laysCosts_17 : decode cX10_laysCosts 17 = .ok (.aload_n 0, 1) := dk_42 (dk_at dksX10_laysCosts_0 17 rfl rfl)
theorem dX10_laysCosts_18 : decode cX10_laysCosts 18 = .ok (.iload_n 1, 1) := dk_27 (dk_at dksX10_laysCosts_0 18 rfl rfl)
theorem dX10_laysCosts_19 : decode cX10_laysCosts 19 = .ok (.iconst 0, 1) := dk_3 (dk_at dksX10_laysCosts_0 19 rfl rfl)
theorem dX10_laysCosts_20 : decode cX10_laysCosts 20 = .ok (.invokevirtual 353, 3) := dk_182 1 97 (dk_at dksX10_laysCosts_0 20 rfl rfl)
theorem dX10_laysCosts_23 : decode cX10_laysCosts 23 = .ok (.iastore, 1) := dk_79 (dk_at dksX10_laysCosts_0 23 rfl rfl)
theorem dX10_laysCosts_24 : decode cX10_laysCosts 24 = .ok (.aload_n 0, 1) := dk_42 (dk_at dksX10_laysCosts_1 0 rfl rfl)
theorem dX10_laysCosts_25 : decode cX10_laysCosts 25 = .ok (.getfield 37, 3) := dk_180 0 37 (dk_at dksX10_laysCosts_1 1 rfl rfl)
theorem dX10_laysCosts_28 : decode cX10_laysCosts 28 = .ok (.iload_n 1, 1) := dk_27 (dk_at dksX10_laysCosts_1 4 rfl rfl)
theorem dX10_laysCosts_29 : decode cX10_laysCosts 29 = .ok (.aload_n 0, 1) := dk_42 (dk_at dksX10_laysCosts_1 5 rfl rfl)
theorem dX10_laysCosts_30 : decode cX10_laysCosts 30 = .ok (.iload_n 1, 1) := dk_27 (dk_at dksX10_laysCosts_1 6 rfl rfl)
theorem dX10_laysCosts_31 : decode cX10_laysCosts 31 = .ok (.iconst 1, 1) := dk_4 (dk_at dksX10_laysCosts_1 7 rfl rfl)
theorem dX10_laysCosts_32 : decode cX10_laysCosts 32 = .ok (.invokevirtual 353, 3) := dk_182 1 97 (dk_at dksX10_laysCosts_1 8 rfl rfl)
theorem dX10_laysCosts_35 : decode cX10_laysCosts 35 = .ok (.iastore, 1) := dk_79 (dk_at dksX10_laysCosts_1 11 rfl rfl)
theorem dX10_laysCosts_36 : decode cX10_laysCosts 36 = .ok (.aload_n 0, 1) := dk_42 (dk_at dksX10_laysCosts_1 12 rfl rfl)
theorem dX10_laysCosts_37 : decode cX10_laysCosts 37 = .ok (.getfield 43, 3) := dk_180 0 43 (dk_at dksX10_laysCosts_1 13 rfl rfl)
theorem dX10_laysCosts_40 : decode cX10_laysCosts 40 = .ok (.iload_n 1, 1) := dk_27 (dk_at dksX10_laysCosts_1 16 rfl rfl)
theorem dX10_laysCosts_41 : decode cX10_laysCosts 41 = .ok (.iconst 1, 1) := dk_4 (dk_at dksX10_laysCosts_1 17 rfl rfl)
theorem dX10_laysCosts_42 : decode cX10_laysCosts 42 = .ok (.iload_n 1, 1) := dk_27 (dk_at dksX10_laysCosts_1 18 rfl rfl)
theorem dX10_laysCosts_43 : decode cX10_laysCosts 43 = .ok (.ishl, 1) := dk_120 (dk_at dksX10_laysCosts_1 19 rfl rfl)
theorem dX10_laysCosts_44 : decode cX10_laysCosts 44 = .ok (.iconst 1, 1) := dk_4 (dk_at dksX10_laysCosts_1 20 rfl rfl)
theorem dX10_laysCosts_45 : decode cX10_laysCosts 45 = .ok (.isub, 1) := dk_100 (dk_at dksX10_laysCosts_1 21 rfl rfl)
theorem dX10_laysCosts_46 : decode cX10_laysCosts 46 = .ok (.iastore, 1) := dk_79 (dk_at dksX10_laysCosts_1 22 rfl rfl)
theorem dX10_laysCosts_47 : decode cX10_laysCosts 47 = .ok (.iinc 1 1, 3) := dk_132 1 1 (dk_at dksX10_laysCosts_2 0 rfl rfl)
theorem dX10_laysCosts_50 : decode cX10_laysCosts 50 = .ok (.goto (-48), 3) := dk_167 255 208 (dk_at dksX10_laysCosts_2 3 rfl rfl)
theorem dX10_laysCosts_53 : decode cX10_laysCosts 53 = .ok (.return_, 1) := dk_177 (dk_at dksX10_laysCosts_2 6 rfl rfl)
abbrev cX10_responseOf : ByteArray := prog_18_method_50_code
def yX10_responseOf : MethodName := ⟨RX10, "responseOf", "(I)I"⟩
def dkwX10_responseOf_4 : List UInt8 := [28, 172, 132, 2, 1, 167, 255, 163, 2, 172]
abbrev dktX10_responseOf_4 : List UInt8 := dkwX10_responseOf_4 ++ []
def dkwX10_responseOf_3 : List UInt8 := [180, 0, 37, 21, 4, 46, 104, 167, 0, 4, 3, 96, 62, 132, 4, 1, 167, 255, 195, 29, 28, 160, 0, 5]
abbrev dktX10_responseOf_3 : List UInt8 := dkwX10_responseOf_3 ++ dktX10_responseOf_4
def dkwX10_responseOf_2 : List UInt8 := [126, 4, 160, 0, 31, 28, 42, 21, 4, 182, 1, 100, 96, 4, 100, 42, 21, 4, 182, 1, 100, 108, 42]
abbrev dktX10_responseOf_2 : List UInt8 := dkwX10_responseOf_2 ++ dktX10_responseOf_3
def dkwX10_responseOf_1 : List UInt8 := [54, 4, 21, 4, 42, 180, 0, 9, 7, 46, 162, 0, 56, 29, 42, 180, 0, 43, 27, 46, 21, 4, 122, 4]
abbrev dktX10_responseOf_1 : List UInt8 := dkwX10_responseOf_1 ++ dktX10_responseOf_2
def dkwX10_responseOf_0 : List UInt8 := [42, 180, 0, 37, 27, 46, 61, 28, 42, 27, 182, 1, 100, 163, 0, 90, 42, 180, 0, 37, 27, 46, 62, 3]
abbrev dktX10_responseOf_0 : List UInt8 := dkwX10_responseOf_0 ++ dktX10_responseOf_1
theorem dksX10_responseOf_0 : cX10_responseOf.data.toList.drop 0 = dktX10_responseOf_0 := by decide +kernel
theorem dksX10_responseOf_1 : cX10_responseOf.data.toList.drop 24 = dktX10_responseOf_1 := dk_seg dksX10_responseOf_0 24 rfl rfl
theorem dksX10_responseOf_2 : cX10_responseOf.data.toList.drop 48 = dktX10_responseOf_2 := dk_seg dksX10_responseOf_1 24 rfl rfl
theorem dksX10_responseOf_3 : cX10_responseOf.data.toList.drop 71 = dktX10_responseOf_3 := dk_seg dksX10_responseOf_2 23 rfl rfl
theorem dksX10_responseOf_4 : cX10_responseOf.data.toList.drop 95 = dktX10_responseOf_4 := dk_seg dksX10_responseOf_3 24 rfl rfl
theorem dX10_responseOf_0 : decode cX10_responseOf 0 = .ok (.aload_n 0, 1) := dk_42 (dk_at dksX10_responseOf_0 0 rfl rfl)
theorem dX10_responseOf_1 : decode cX10_responseOf 1 = .ok (.getfield 37, 3) := dk_180 0 37 (dk_at dksX10_responseOf_0 1 rfl rfl)
theorem dX10_responseOf_4 : decode cX10_responseOf 4 = .ok (.iload_n 1, 1) := dk_27 (dk_at dksX10_responseOf_0 4 rfl rfl)
theorem dX10_responseOf_5 : decode cX10_responseOf 5 = .ok (.iaload, 1) := dk_46 (dk_at dksX10_responseOf_0 5 rfl rfl)
theorem dX10_responseOf_6 : decode cX10_responseOf 6 = .ok (.istore_n 2, 1) := dk_61 (dk_at dksX10_responseOf_0 6 rfl rfl)
theorem dX10_responseOf_7 : decode cX10_responseOf 7 = .ok (.iload_n 2, 1) := dk_28 (dk_at dksX10_responseOf_0 7 rfl rfl)
theorem dX10_responseOf_8 : decode cX10_responseOf 8 = .ok (.aload_n 0, 1) := dk_42 (dk_at dksX10_responseOf_0 8 rfl rfl)
theorem dX10_responseOf_9 : decode cX10_responseOf 9 = .ok (.iload_n 1, 1) := dk_27 (dk_at dksX10_responseOf_0 9 rfl rfl)
theorem dX10_responseOf_10 : decode cX10_responseOf 10 = .ok (.invokevirtual 356, 3) := dk_182 1 100 (dk_at dksX10_responseOf_0 10 rfl rfl)
theorem dX10_responseOf_13 : decode cX10_responseOf 13 = .ok (.if_icmp .gt 90, 3) := dk_163 0 90 (dk_at dksX10_responseOf_0 13 rfl rfl)
theorem dX10_responseOf_16 : decode cX10_responseOf 16 = .ok (.aload_n 0, 1) := dk_42 (dk_at dksX10_responseOf_0 16 rfl rfl)
theorem dX10_responseOf_17 : decode cX10_responseOf 17 = .ok (.getfield 37, 3) := dk_180 0 37 (dk_at dksX10_responseOf_0 17 rfl rfl)
theorem dX10_responseOf_20 : decode cX10_responseOf 20 = .ok (.iload_n 1, 1) := dk_27 (dk_at dksX10_responseOf_0 20 rfl rfl)
theorem dX10_responseOf_21 : decode cX10_responseOf 21 = .ok (.iaload, 1) := dk_46 (dk_at dksX10_responseOf_0 21 rfl rfl)
theorem dX10_responseOf_22 : decode cX10_responseOf 22 = .ok (.istore_n 3, 1) := dk_62 (dk_at dksX10_responseOf_0 22 rfl rfl)
theorem dX10_responseOf_23 : decode cX10_responseOf 23 = .ok (.iconst 0, 1) := dk_3 (dk_at dksX10_responseOf_0 23 rfl rfl)
theorem dX10_responseOf_24 : decode cX10_responseOf 24 = .ok (.istore 4, 2) := dk_54 4 (dk_at dksX10_responseOf_1 0 rfl rfl)
theorem dX10_responseOf_26 : decode cX10_responseOf 26 = .ok (.iload 4, 2) := dk_21 4 (dk_at dksX10_responseOf_1 2 rfl rfl)
theorem dX10_responseOf_28 : decode cX10_responseOf 28 = .ok (.aload_n 0, 1) := dk_42 (dk_at dksX10_responseOf_1 4 rfl rfl)
theorem dX10_responseOf_29 : decode cX10_responseOf 29 = .ok (.getfield 9, 3) := dk_180 0 9 (dk_at dksX10_responseOf_1 5 rfl rfl)
theorem dX10_responseOf_32 : decode cX10_responseOf 32 = .ok (.iconst 4, 1) := dk_7 (dk_at dksX10_responseOf_1 8 rfl rfl)
theorem dX10_responseOf_33 : decode cX10_responseOf 33 = .ok (.iaload, 1) := dk_46 (dk_at dksX10_responseOf_1 9 rfl rfl)
theorem dX10_responseOf_34 : decode cX10_responseOf 34 = .ok (.if_icmp .ge 56, 3) := dk_162 0 56 (dk_at dksX10_responseOf_1 10 rfl rfl)
theorem dX10_responseOf_37 : decode cX10_responseOf 37 = .ok (.iload_n 3, 1) := dk_29 (dk_at dksX10_responseOf_1 13 rfl rfl)
theorem dX10_responseOf_38 : decode cX10_responseOf 38 = .ok (.aload_n 0, 1) := dk_42 (dk_at dksX10_responseOf_1 14 rfl rfl)
theorem dX10_responseOf_39 : decode cX10_responseOf 39 = .ok (.getfield 43, 3) := dk_180 0 43 (dk_at dksX10_responseOf_1 15 rfl rfl)
theorem dX10_responseOf_42 : decode cX10_responseOf 42 = .ok (.iload_n 1, 1) := dk_27 (dk_at dksX10_responseOf_1 18 rfl rfl)
theorem dX10_responseOf_43 : decode cX10_responseOf 43 = .ok (.iaload, 1) := dk_46 (dk_at dksX10_responseOf_1 19 rfl rfl)
theorem dX10_responseOf_44 : decode cX10_responseOf 44 = .ok (.iload 4, 2) := dk_21 4 (dk_at dksX10_responseOf_1 20 rfl rfl)
theorem dX10_responseOf_46 : decode cX10_responseOf 46 = .ok (.ishr, 1) := dk_122 (dk_at dksX10_responseOf_1 22 rfl rfl)
theorem dX10_responseOf_47 : decode cX10_responseOf 47 = .ok (.iconst 1, 1) := dk_4 (dk_at dksX10_responseOf_1 23 rfl rfl)
theorem dX10_responseOf_48 : decode cX10_responseOf 48 = .ok (.iand, 1) := dk_126 (dk_at dksX10_responseOf_2 0 rfl rfl)
theorem dX10_responseOf_49 : decode cX10_responseOf 49 = .ok (.iconst 1, 1) := dk_4 (dk_at dksX10_responseOf_2 1 rfl rfl)
theorem dX10_responseOf_50 : decode cX10_responseOf 50 = .ok (.if_icmp .ne 31, 3) := dk_160 0 31 (dk_at dksX10_responseOf_2 2 rfl rfl)
theorem dX10_responseOf_53 : decode cX10_responseOf 53 = .ok (.iload_n 2, 1) := dk_28 (dk_at dksX10_responseOf_2 5 rfl rfl)
theorem dX10_responseOf_54 : decode cX10_responseOf 54 = .ok (.aload_n 0, 1) := dk_42 (dk_at dksX10_responseOf_2 6 rfl rfl)
theorem dX10_responseOf_55 : decode cX10_responseOf 55 = .ok (.iload 4, 2) := dk_21 4 (dk_at dksX10_responseOf_2 7 rfl rfl)
theorem dX10_responseOf_57 : decode cX10_responseOf 57 = .ok (.invokevirtual 356, 3) := dk_182 1 100 (dk_at dksX10_responseOf_2 9 rfl rfl)
theorem dX10_responseOf_60 : decode cX10_responseOf 60 = .ok (.iadd, 1) := dk_96 (dk_at dksX10_responseOf_2 12 rfl rfl)
theorem dX10_responseOf_61 : decode cX10_responseOf 61 = .ok (.iconst 1, 1) := dk_4 (dk_at dksX10_responseOf_2 13 rfl rfl)
theorem dX10_responseOf_62 : decode cX10_responseOf 62 = .ok (.isub, 1) := dk_100 (dk_at dksX10_responseOf_2 14 rfl rfl)
theorem dX10_responseOf_63 : decode cX10_responseOf 63 = .ok (.aload_n 0, 1) := dk_42 (dk_at dksX10_responseOf_2 15 rfl rfl)
theorem dX10_responseOf_64 : decode cX10_responseOf 64 = .ok (.iload 4, 2) := dk_21 4 (dk_at dksX10_responseOf_2 16 rfl rfl)
theorem dX10_responseOf_66 : decode cX10_responseOf 66 = .ok (.invokevirtual 356, 3) := dk_182 1 100 (dk_at dksX10_responseOf_2 18 rfl rfl)
theorem dX10_responseOf_69 : decode cX10_responseOf 69 = .ok (.idiv, 1) := dk_108 (dk_at dksX10_responseOf_2 21 rfl rfl)
theorem dX10_responseOf_70 : decode cX10_responseOf 70 = .ok (.aload_n 0, 1) := dk_42 (dk_at dksX10_responseOf_2 22 rfl rfl)
theorem dX10_responseOf_71 : decode cX10_responseOf 71 = .ok (.getfield 37, 3) := dk_180 0 37 (dk_at dksX10_responseOf_3 0 rfl rfl)
theorem dX10_responseOf_74 : decode cX10_responseOf 74 = .ok (.iload 4, 2) := dk_21 4 (dk_at dksX10_responseOf_3 3 rfl rfl)
theorem dX10_responseOf_76 : decode cX10_responseOf 76 = .ok (.iaload, 1) := dk_46 (dk_at dksX10_responseOf_3 5 rfl rfl)
theorem dX10_responseOf_77 : decode cX10_responseOf 77 = .ok (.imul, 1) := dk_104 (dk_at dksX10_responseOf_3 6 rfl rfl)
theorem dX10_responseOf_78 : decode cX10_responseOf 78 = .ok (.goto 4, 3) := dk_167 0 4 (dk_at dksX10_responseOf_3 7 rfl rfl)
theorem dX10_responseOf_81 : decode cX10_responseOf 81 = .ok (.iconst 0, 1) := dk_3 (dk_at dksX10_responseOf_3 10 rfl rfl)
theorem dX10_responseOf_82 : decode cX10_responseOf 82 = .ok (.iadd, 1) := dk_96 (dk_at dksX10_responseOf_3 11 rfl rfl)
theorem dX10_responseOf_83 : decode cX10_responseOf 83 = .ok (.istore_n 3, 1) := dk_62 (dk_at dksX10_responseOf_3 12 rfl rfl)
theorem dX10_responseOf_84 : decode cX10_responseOf 84 = .ok (.iinc 4 1, 3) := dk_132 4 1 (dk_at dksX10_responseOf_3 13 rfl rfl)
theorem dX10_responseOf_87 : decode cX10_responseOf 87 = .ok (.goto (-61), 3) := dk_167 255 195 (dk_at dksX10_responseOf_3 16 rfl rfl)
theorem dX10_responseOf_90 : decode cX10_responseOf 90 = .ok (.iload_n 3, 1) := dk_29 (dk_at dksX10_responseOf_3 19 rfl rfl)
theorem dX10_responseOf_91 : decode cX10_responseOf 91 = .ok (.iload_n 2, 1) := dk_28 (dk_at dksX10_responseOf_3 20 rfl rfl)
theorem dX10_responseOf_92 : decode cX10_responseOf 92 = .ok (.if_icmp .ne 5, 3) := dk_160 0 5 (dk_at dksX10_responseOf_3 21 rfl rfl)
theorem dX10_responseOf_95 : decode cX10_responseOf 95 = .ok (.iload_n 2, 1) := dk_28 (dk_at dksX10_responseOf_4 0 rfl rfl)
theorem dX10_responseOf_96 : decode cX10_responseOf 96 = .ok (.ireturn, 1) := dk_172 (dk_at dksX10_responseOf_4 1 rfl rfl)
theorem dX10_responseOf_97 : decode cX10_responseOf 97 = .ok (.iinc 2 1, 3) := dk_132 2 1 (dk_at dksX10_responseOf_4 2 rfl rfl)
theorem dX10_responseOf_100 : decode cX10_responseOf 100 = .ok (.goto (-93), 3) := dk_167 255 163 (dk_at dksX10_responseOf_4 5 rfl rfl)
theorem dX10_responseOf_103 : decode cX10_responseOf 103 = .ok (.iconst (-1), 1) := dk_2 (dk_at dksX10_responseOf_4 8 rfl rfl)
theorem dX10_responseOf_104 : decode cX10_responseOf 104 = .ok (.ireturn, 1) := dk_172 (dk_at dksX10_responseOf_4 9 rfl rfl)
abbrev cX10_period : ByteArray := prog_18_method_10_code
def yX10_period : MethodName := ⟨RX10, "period", "(I)I"⟩
def dkwX10_period_0 : List UInt8 := [42, 27, 4, 182, 0, 156, 172]
abbrev dktX10_period_0 : List UInt8 := dkwX10_period_0 ++ []
theorem dksX10_period_0 : cX10_period.data.toList.drop 0 = dktX10_period_0 := by decide +kernel
theorem dX10_period_0 : decode cX10_period 0 = .ok (.aload_n 0, 1) := dk_42 (dk_at dksX10_period_0 0 rfl rfl)
theorem dX10_period_1 : decode cX10_period 1 = .ok (.iload_n 1, 1) := dk_27 (dk_at dksX10_period_0 1 rfl rfl)
theorem dX10_period_2 : decode cX10_period 2 = .ok (.iconst 1, 1) := dk_4 (dk_at dksX10_period_0 2 rfl rfl)
theorem dX10_period_3 : decode cX10_period 3 = .ok (.invokevirtual 156, 3) := dk_182 0 156 (dk_at dksX10_period_0 3 rfl rfl)
theorem dX10_period_6 : decode cX10_period 6 = .ok (.ireturn, 1) := dk_172 (dk_at dksX10_period_0 6 rfl rfl)
abbrev cX10_least : ByteArray := prog_18_method_55_code
def yX10_least : MethodName := ⟨RX10, "least", "(II)I"⟩
def dkwX10_least_1 : List UInt8 := [182, 1, 111, 42, 27, 182, 1, 102, 2, 160, 0, 7, 2, 167, 0, 9, 42, 27, 28, 182, 1, 105, 172]
abbrev dktX10_least_1 : List UInt8 := dkwX10_least_1 ++ []
def dkwX10_least_0 : List UInt8 := [42, 27, 182, 1, 77, 153, 0, 15, 28, 133, 9, 20, 1, 114, 184, 0, 152, 154, 0, 6, 16, 254, 172, 42]
abbrev dktX10_least_0 : List UInt8 := dkwX10_least_0 ++ dktX10_least_1
theorem dksX10_least_0 : cX10_least.data.toList.drop 0 = dktX10_least_0 := by decide +kernel
theorem dksX10_least_1 : cX10_least.data.toList.drop 24 = dktX10_least_1 := dk_seg dksX10_least_0 24 rfl rfl
theorem dX10_least_0 : decode cX10_least 0 = .ok (.aload_n 0, 1) := dk_42 (dk_at dksX10_least_0 0 rfl rfl)
theorem dX10_least_1 : decode cX10_least 1 = .ok (.iload_n 1, 1) := dk_27 (dk_at dksX10_least_0 1 rfl rfl)
theorem dX10_least_2 : decode cX10_least 2 = .ok (.invokevirtual 333, 3) := dk_182 1 77 (dk_at dksX10_least_0 2 rfl rfl)
theorem dX10_least_5 : decode cX10_least 5 = .ok (.ifCond .eq 15, 3) := dk_153 0 15 (dk_at dksX10_least_0 5 rfl rfl)
theorem dX10_least_8 : decode cX10_least 8 = .ok (.iload_n 2, 1) := dk_28 (dk_at dksX10_least_0 8 rfl rfl)
theorem dX10_least_9 : decode cX10_least 9 = .ok (.i2l, 1) := dk_133 (dk_at dksX10_least_0 9 rfl rfl)
theorem dX10_least_10 : decode cX10_least 10 = .ok (.lconst 0, 1) := dk_9 (dk_at dksX10_least_0 10 rfl rfl)
theorem dX10_least_11 : decode cX10_least 11 = .ok (.ldc2_w 370, 3) := dk_20 1 114 (dk_at dksX10_least_0 11 rfl rfl)
theorem dX10_least_14 : decode cX10_least 14 = .ok (.invokestatic 152, 3) := dk_184 0 152 (dk_at dksX10_least_0 14 rfl rfl)
theorem dX10_least_17 : decode cX10_least 17 = .ok (.ifCond .ne 6, 3) := dk_154 0 6 (dk_at dksX10_least_0 17 rfl rfl)
theorem dX10_least_20 : decode cX10_least 20 = .ok (.bipush (-2), 2) := dk_16 254 (dk_at dksX10_least_0 20 rfl rfl)
theorem dX10_least_22 : decode cX10_least 22 = .ok (.ireturn, 1) := dk_172 (dk_at dksX10_least_0 22 rfl rfl)
theorem dX10_least_23 : decode cX10_least 23 = .ok (.aload_n 0, 1) := dk_42 (dk_at dksX10_least_0 23 rfl rfl)
theorem dX10_least_24 : decode cX10_least 24 = .ok (.invokevirtual 367, 3) := dk_182 1 111 (dk_at dksX10_least_1 0 rfl rfl)
theorem dX10_least_27 : decode cX10_least 27 = .ok (.aload_n 0, 1) := dk_42 (dk_at dksX10_least_1 3 rfl rfl)
theorem dX10_least_28 : decode cX10_least 28 = .ok (.iload_n 1, 1) := dk_27 (dk_at dksX10_least_1 4 rfl rfl)
theorem dX10_least_29 : decode cX10_least 29 = .ok (.invokevirtual 358, 3) := dk_182 1 102 (dk_at dksX10_least_1 5 rfl rfl)
theorem dX10_least_32 : decode cX10_least 32 = .ok (.iconst (-1), 1) := dk_2 (dk_at dksX10_least_1 8 rfl rfl)
theorem dX10_least_33 : decode cX10_least 33 = .ok (.if_icmp .ne 7, 3) := dk_160 0 7 (dk_at dksX10_least_1 9 rfl rfl)
theorem dX10_least_36 : decode cX10_least 36 = .ok (.iconst (-1), 1) := dk_2 (dk_at dksX10_least_1 12 rfl rfl)
theorem dX10_least_37 : decode cX10_least 37 = .ok (.goto 9, 3) := dk_167 0 9 (dk_at dksX10_least_1 13 rfl rfl)
theorem dX10_least_40 : decode cX10_least 40 = .ok (.aload_n 0, 1) := dk_42 (dk_at dksX10_least_1 16 rfl rfl)
theorem dX10_least_41 : decode cX10_least 41 = .ok (.iload_n 1, 1) := dk_27 (dk_at dksX10_least_1 17 rfl rfl)
theorem dX10_least_42 : decode cX10_least 42 = .ok (.iload_n 2, 1) := dk_28 (dk_at dksX10_least_1 18 rfl rfl)
theorem dX10_least_43 : decode cX10_least 43 = .ok (.invokevirtual 361, 3) := dk_182 1 105 (dk_at dksX10_least_1 19 rfl rfl)
theorem dX10_least_46 : decode cX10_least 46 = .ok (.ireturn, 1) := dk_172 (dk_at dksX10_least_1 22 rfl rfl)
abbrev cX10_boundOf : ByteArray := prog_18_method_51_code
def yX10_boundOf : MethodName := ⟨RX10, "boundOf", "(II)I"⟩
def dkwX10_boundOf_4 : List UInt8 := [180, 0, 9, 4, 46, 29, 96, 42, 27, 182, 1, 100, 96, 4, 100, 42, 27, 182, 1, 100, 108, 172]
abbrev dktX10_boundOf_4 : List UInt8 := dkwX10_boundOf_4 ++ []
def dkwX10_boundOf_3 : List UInt8 := [162, 0, 7, 3, 167, 0, 17, 42, 180, 0, 9, 4, 46, 29, 100, 42, 27, 182, 1, 100, 108, 172, 42]
abbrev dktX10_boundOf_3 : List UInt8 := dkwX10_boundOf_3 ++ dktX10_boundOf_4
def dkwX10_boundOf_2 : List UInt8 := [42, 27, 182, 1, 100, 29, 100, 172, 42, 27, 182, 1, 100, 29, 96, 172, 42, 180, 0, 9, 4, 46, 29]
abbrev dktX10_boundOf_2 : List UInt8 := dkwX10_boundOf_2 ++ dktX10_boundOf_3
def dkwX10_boundOf_1 : List UInt8 := [170, 0, 0, 0, 0, 71, 0, 0, 0, 0, 0, 0, 0, 2, 0, 0, 0, 26, 0, 0, 0, 34, 0, 0, 0, 42]
abbrev dktX10_boundOf_1 : List UInt8 := dkwX10_boundOf_1 ++ dktX10_boundOf_2
def dkwX10_boundOf_0 : List UInt8 := [42, 27, 182, 1, 102, 42, 180, 0, 40, 27, 46, 100, 62, 28]
abbrev dktX10_boundOf_0 : List UInt8 := dkwX10_boundOf_0 ++ dktX10_boundOf_1
theorem dksX10_boundOf_0 : cX10_boundOf.data.toList.drop 0 = dktX10_boundOf_0 := by decide +kernel
theorem dksX10_boundOf_1 : cX10_boundOf.data.toList.drop 14 = dktX10_boundOf_1 := dk_seg dksX10_boundOf_0 14 rfl rfl
theorem dksX10_boundOf_2 : cX10_boundOf.data.toList.drop 40 = dktX10_boundOf_2 := dk_seg dksX10_boundOf_1 26 rfl rfl
theorem dksX10_boundOf_3 : cX10_boundOf.data.toList.drop 63 = dktX10_boundOf_3 := dk_seg dksX10_boundOf_2 23 rfl rfl
theorem dksX10_boundOf_4 : cX10_boundOf.data.toList.drop 86 = dktX10_boundOf_4 := dk_seg dksX10_boundOf_3 23 rfl rfl
theorem dX10_boundOf_0 : decode cX10_boundOf 0 = .ok (.aload_n 0, 1) := dk_42 (dk_at dksX10_boundOf_0 0 rfl rfl)
theorem dX10_boundOf_1 : decode cX10_boundOf 1 = .ok (.iload_n 1, 1) := dk_27 (dk_at dksX10_boundOf_0 1 rfl rfl)
theorem dX10_boundOf_2 : decode cX10_boundOf 2 = .ok (.invokevirtual 358, 3) := dk_182 1 102 (dk_at dksX10_boundOf_0 2 rfl rfl)
theorem dX10_boundOf_5 : decode cX10_boundOf 5 = .ok (.aload_n 0, 1) := dk_42 (dk_at dksX10_boundOf_0 5 rfl rfl)
theorem dX10_boundOf_6 : decode cX10_boundOf 6 = .ok (.getfield 40, 3) := dk_180 0 40 (dk_at dksX10_boundOf_0 6 rfl rfl)
theorem dX10_boundOf_9 : decode cX10_boundOf 9 = .ok (.iload_n 1, 1) := dk_27 (dk_at dksX10_boundOf_0 9 rfl rfl)
theorem dX10_boundOf_10 : decode cX10_boundOf 10 = .ok (.iaload, 1) := dk_46 (dk_at dksX10_boundOf_0 10 rfl rfl)
theorem dX10_boundOf_11 : decode cX10_boundOf 11 = .ok (.isub, 1) := dk_100 (dk_at dksX10_boundOf_0 11 rfl rfl)
theorem dX10_boundOf_12 : decode cX10_boundOf 12 = .ok (.istore_n 3, 1) := dk_62 (dk_at dksX10_boundOf_0 12 rfl rfl)
theorem dX10_boundOf_13 : decode cX10_boundOf 13 = .ok (.iload_n 2, 1) := dk_28 (dk_at dksX10_boundOf_0 13 rfl rfl)
theorem dX10_boundOf_14 : decode cX10_boundOf 14 = .ok (.tableswitch 71 0 2 #[26, 34, 42], 26) := by decide +kernel
theorem dX10_boundOf_40 : decode cX10_boundOf 40 = .ok (.aload_n 0, 1) := dk_42 (dk_at dksX10_boundOf_2 0 rfl rfl)
theorem dX10_boundOf_41 : decode cX10_boundOf 41 = .ok (.iload_n 1, 1) := dk_27 (dk_at dksX10_boundOf_2 1 rfl rfl)
theorem dX10_boundOf_42 : decode cX10_boundOf 42 = .ok (.invokevirtual 356, 3) := dk_182 1 100 (dk_at dksX10_boundOf_2 2 rfl rfl)
theorem dX10_boundOf_45 : decode cX10_boundOf 45 = .ok (.iload_n 3, 1) := dk_29 (dk_at dksX10_boundOf_2 5 rfl rfl)
theorem dX10_boundOf_46 : decode cX10_boundOf 46 = .ok (.isub, 1) := dk_100 (dk_at dksX10_boundOf_2 6 rfl rfl)
theorem dX10_boundOf_47 : decode cX10_boundOf 47 = .ok (.ireturn, 1) := dk_172 (dk_at dksX10_boundOf_2 7 rfl rfl)
theorem dX10_boundOf_48 : decode cX10_boundOf 48 = .ok (.aload_n 0, 1) := dk_42 (dk_at dksX10_boundOf_2 8 rfl rfl)
theorem dX10_boundOf_49 : decode cX10_boundOf 49 = .ok (.iload_n 1, 1) := dk_27 (dk_at dksX10_boundOf_2 9 rfl rfl)
theorem dX10_boundOf_50 : decode cX10_boundOf 50 = .ok (.invokevirtual 356, 3) := dk_182 1 100 (dk_at dksX10_boundOf_2 10 rfl rfl)
theorem dX10_boundOf_53 : decode cX10_boundOf 53 = .ok (.iload_n 3, 1) := dk_29 (dk_at dksX10_boundOf_2 13 rfl rfl)
theorem dX10_boundOf_54 : decode cX10_boundOf 54 = .ok (.iadd, 1) := dk_96 (dk_at dksX10_boundOf_2 14 rfl rfl)
theorem dX10_boundOf_55 : decode cX10_boundOf 55 = .ok (.ireturn, 1) := dk_172 (dk_at dksX10_boundOf_2 15 rfl rfl)
theorem dX10_boundOf_56 : decode cX10_boundOf 56 = .ok (.aload_n 0, 1) := dk_42 (dk_at dksX10_boundOf_2 16 rfl rfl)
theorem dX10_boundOf_57 : decode cX10_boundOf 57 = .ok (.getfield 9, 3) := dk_180 0 9 (dk_at dksX10_boundOf_2 17 rfl rfl)
theorem dX10_boundOf_60 : decode cX10_boundOf 60 = .ok (.iconst 1, 1) := dk_4 (dk_at dksX10_boundOf_2 20 rfl rfl)
theorem dX10_boundOf_61 : decode cX10_boundOf 61 = .ok (.iaload, 1) := dk_46 (dk_at dksX10_boundOf_2 21 rfl rfl)
theorem dX10_boundOf_62 : decode cX10_boundOf 62 = .ok (.iload_n 3, 1) := dk_29 (dk_at dksX10_boundOf_2 22 rfl rfl)
theorem dX10_boundOf_63 : decode cX10_boundOf 63 = .ok (.if_icmp .ge 7, 3) := dk_162 0 7 (dk_at dksX10_boundOf_3 0 rfl rfl)
theorem dX10_boundOf_66 : decode cX10_boundOf 66 = .ok (.iconst 0, 1) := dk_3 (dk_at dksX10_boundOf_3 3 rfl rfl)
theorem dX10_boundOf_67 : decode cX10_boundOf 67 = .ok (.goto 17, 3) := dk_167 0 17 (dk_at dksX10_boundOf_3 4 rfl rfl)
theorem dX10_boundOf_70 : decode cX10_boundOf 70 = .ok (.aload_n 0, 1) := dk_42 (dk_at dksX10_boundOf_3 7 rfl rfl)
theorem dX10_boundOf_71 : decode cX10_boundOf 71 = .ok (.getfield 9, 3) := dk_180 0 9 (dk_at dksX10_boundOf_3 8 rfl rfl)
theorem dX10_boundOf_74 : decode cX10_boundOf 74 = .ok (.iconst 1, 1) := dk_4 (dk_at dksX10_boundOf_3 11 rfl rfl)
theorem dX10_boundOf_75 : decode cX10_boundOf 75 = .ok (.iaload, 1) := dk_46 (dk_at dksX10_boundOf_3 12 rfl rfl)
theorem dX10_boundOf_76 : decode cX10_boundOf 76 = .ok (.iload_n 3, 1) := dk_29 (dk_at dksX10_boundOf_3 13 rfl rfl)
theorem dX10_boundOf_77 : decode cX10_boundOf 77 = .ok (.isub, 1) := dk_100 (dk_at dksX10_boundOf_3 14 rfl rfl)
theorem dX10_boundOf_78 : decode cX10_boundOf 78 = .ok (.aload_n 0, 1) := dk_42 (dk_at dksX10_boundOf_3 15 rfl rfl)
theorem dX10_boundOf_79 : decode cX10_boundOf 79 = .ok (.iload_n 1, 1) := dk_27 (dk_at dksX10_boundOf_3 16 rfl rfl)
theorem dX10_boundOf_80 : decode cX10_boundOf 80 = .ok (.invokevirtual 356, 3) := dk_182 1 100 (dk_at dksX10_boundOf_3 17 rfl rfl)
theorem dX10_boundOf_83 : decode cX10_boundOf 83 = .ok (.idiv, 1) := dk_108 (dk_at dksX10_boundOf_3 20 rfl rfl)
theorem dX10_boundOf_84 : decode cX10_boundOf 84 = .ok (.ireturn, 1) := dk_172 (dk_at dksX10_boundOf_3 21 rfl rfl)
theorem dX10_boundOf_85 : decode cX10_boundOf 85 = .ok (.aload_n 0, 1) := dk_42 (dk_at dksX10_boundOf_3 22 rfl rfl)
theorem dX10_boundOf_86 : decode cX10_boundOf 86 = .ok (.getfield 9, 3) := dk_180 0 9 (dk_at dksX10_boundOf_4 0 rfl rfl)
theorem dX10_boundOf_89 : decode cX10_boundOf 89 = .ok (.iconst 1, 1) := dk_4 (dk_at dksX10_boundOf_4 3 rfl rfl)
theorem dX10_boundOf_90 : decode cX10_boundOf 90 = .ok (.iaload, 1) := dk_46 (dk_at dksX10_boundOf_4 4 rfl rfl)
theorem dX10_boundOf_91 : decode cX10_boundOf 91 = .ok (.iload_n 3, 1) := dk_29 (dk_at dksX10_boundOf_4 5 rfl rfl)
theorem dX10_boundOf_92 : decode cX10_boundOf 92 = .ok (.iadd, 1) := dk_96 (dk_at dksX10_boundOf_4 6 rfl rfl)
theorem dX10_boundOf_93 : decode cX10_boundOf 93 = .ok (.aload_n 0, 1) := dk_42 (dk_at dksX10_boundOf_4 7 rfl rfl)
theorem dX10_boundOf_94 : decode cX10_boundOf 94 = .ok (.iload_n 1, 1) := dk_27 (dk_at dksX10_boundOf_4 8 rfl rfl)
theorem dX10_boundOf_95 : decode cX10_boundOf 95 = .ok (.invokevirtual 356, 3) := dk_182 1 100 (dk_at dksX10_boundOf_4 9 rfl rfl)
theorem dX10_boundOf_98 : decode cX10_boundOf 98 = .ok (.iadd, 1) := dk_96 (dk_at dksX10_boundOf_4 12 rfl rfl)
theorem dX10_boundOf_99 : decode cX10_boundOf 99 = .ok (.iconst 1, 1) := dk_4 (dk_at dksX10_boundOf_4 13 rfl rfl)
theorem dX10_boundOf_100 : decode cX10_boundOf 100 = .ok (.isub, 1) := dk_100 (dk_at dksX10_boundOf_4 14 rfl rfl)
theorem dX10_boundOf_101 : decode cX10_boundOf 101 = .ok (.aload_n 0, 1) := dk_42 (dk_at dksX10_boundOf_4 15 rfl rfl)
theorem dX10_boundOf_102 : decode cX10_boundOf 102 = .ok (.iload_n 1, 1) := dk_27 (dk_at dksX10_boundOf_4 16 rfl rfl)
theorem dX10_boundOf_103 : decode cX10_boundOf 103 = .ok (.invokevirtual 356, 3) := dk_182 1 100 (dk_at dksX10_boundOf_4 17 rfl rfl)
theorem dX10_boundOf_106 : decode cX10_boundOf 106 = .ok (.idiv, 1) := dk_108 (dk_at dksX10_boundOf_4 20 rfl rfl)
theorem dX10_boundOf_107 : decode cX10_boundOf 107 = .ok (.ireturn, 1) := dk_172 (dk_at dksX10_boundOf_4 21 rfl rfl)
abbrev cX10_lawful : ByteArray := prog_18_method_56_code
def yX10_lawful : MethodName := ⟨RX10, "lawful", "()I"⟩
def dkwX10_lawful_0 : List UInt8 := [42, 182, 1, 116, 154, 0, 6, 16, 254, 172, 42, 182, 1, 111, 42, 182, 1, 119, 172]
abbrev dktX10_lawful_0 : List UInt8 := dkwX10_lawful_0 ++ []
theorem dksX10_lawful_0 : cX10_lawful.data.toList.drop 0 = dktX10_lawful_0 := by decide +kernel
theorem dX10_lawful_0 : decode cX10_lawful 0 = .ok (.aload_n 0, 1) := dk_42 (dk_at dksX10_lawful_0 0 rfl rfl)
theorem dX10_lawful_1 : decode cX10_lawful 1 = .ok (.invokevirtual 372, 3) := dk_182 1 116 (dk_at dksX10_lawful_0 1 rfl rfl)
theorem dX10_lawful_4 : decode cX10_lawful 4 = .ok (.ifCond .ne 6, 3) := dk_154 0 6 (dk_at dksX10_lawful_0 4 rfl rfl)
theorem dX10_lawful_7 : decode cX10_lawful 7 = .ok (.bipush (-2), 2) := dk_16 254 (dk_at dksX10_lawful_0 7 rfl rfl)
theorem dX10_lawful_9 : decode cX10_lawful 9 = .ok (.ireturn, 1) := dk_172 (dk_at dksX10_lawful_0 9 rfl rfl)
theorem dX10_lawful_10 : decode cX10_lawful 10 = .ok (.aload_n 0, 1) := dk_42 (dk_at dksX10_lawful_0 10 rfl rfl)
theorem dX10_lawful_11 : decode cX10_lawful 11 = .ok (.invokevirtual 367, 3) := dk_182 1 111 (dk_at dksX10_lawful_0 11 rfl rfl)
theorem dX10_lawful_14 : decode cX10_lawful 14 = .ok (.aload_n 0, 1) := dk_42 (dk_at dksX10_lawful_0 14 rfl rfl)
theorem dX10_lawful_15 : decode cX10_lawful 15 = .ok (.invokevirtual 375, 3) := dk_182 1 119 (dk_at dksX10_lawful_0 15 rfl rfl)
theorem dX10_lawful_18 : decode cX10_lawful 18 = .ok (.ireturn, 1) := dk_172 (dk_at dksX10_lawful_0 18 rfl rfl)
abbrev cX10_isBoard : ByteArray := prog_18_method_6_code
def yX10_isBoard : MethodName := ⟨RX10, "isBoard", "()Z"⟩
def dkwX10_isBoard_0 : List UInt8 := [42, 180, 0, 9, 16, 7, 46, 158, 0, 7, 4, 167, 0, 4, 3, 172]
abbrev dktX10_isBoard_0 : List UInt8 := dkwX10_isBoard_0 ++ []
theorem dksX10_isBoard_0 : cX10_isBoard.data.toList.drop 0 = dktX10_isBoard_0 := by decide +kernel
theorem dX10_isBoard_0 : decode cX10_isBoard 0 = .ok (.aload_n 0, 1) := dk_42 (dk_at dksX10_isBoard_0 0 rfl rfl)
theorem dX10_isBoard_1 : decode cX10_isBoard 1 = .ok (.getfield 9, 3) := dk_180 0 9 (dk_at dksX10_isBoard_0 1 rfl rfl)
theorem dX10_isBoard_4 : decode cX10_isBoard 4 = .ok (.bipush 7, 2) := dk_16 7 (dk_at dksX10_isBoard_0 4 rfl rfl)
theorem dX10_isBoard_6 : decode cX10_isBoard 6 = .ok (.iaload, 1) := dk_46 (dk_at dksX10_isBoard_0 6 rfl rfl)
theorem dX10_isBoard_7 : decode cX10_isBoard 7 = .ok (.ifCond .le 7, 3) := dk_158 0 7 (dk_at dksX10_isBoard_0 7 rfl rfl)
theorem dX10_isBoard_10 : decode cX10_isBoard 10 = .ok (.iconst 1, 1) := dk_4 (dk_at dksX10_isBoard_0 10 rfl rfl)
theorem dX10_isBoard_11 : decode cX10_isBoard 11 = .ok (.goto 4, 3) := dk_167 0 4 (dk_at dksX10_isBoard_0 11 rfl rfl)
theorem dX10_isBoard_14 : decode cX10_isBoard 14 = .ok (.iconst 0, 1) := dk_3 (dk_at dksX10_isBoard_0 14 rfl rfl)
theorem dX10_isBoard_15 : decode cX10_isBoard 15 = .ok (.ireturn, 1) := dk_172 (dk_at dksX10_isBoard_0 15 rfl rfl)
abbrev cX10_lawfulNow : ByteArray := prog_18_method_53_code
def yX10_lawfulNow : MethodName := ⟨RX10, "lawfulNow", "()I"⟩
def dkwX10_lawfulNow_1 : List UInt8 := [28, 120, 167, 0, 4, 3, 128, 60, 132, 2, 1, 167, 255, 225, 27, 172]
abbrev dktX10_lawfulNow_1 : List UInt8 := dkwX10_lawfulNow_1 ++ []
def dkwX10_lawfulNow_0 : List UInt8 := [3, 60, 3, 61, 28, 42, 180, 0, 9, 7, 46, 162, 0, 27, 27, 42, 28, 182, 1, 108, 153, 0, 9, 4]
abbrev dktX10_lawfulNow_0 : List UInt8 := dkwX10_lawfulNow_0 ++ dktX10_lawfulNow_1
theorem dksX10_lawfulNow_0 : cX10_lawfulNow.data.toList.drop 0 = dktX10_lawfulNow_0 := by decide +kernel
theorem dksX10_lawfulNow_1 : cX10_lawfulNow.data.toList.drop 24 = dktX10_lawfulNow_1 := dk_seg dksX10_lawfulNow_0 24 rfl rfl
theorem dX10_lawfulNow_0 : decode cX10_lawfulNow 0 = .ok (.iconst 0, 1) := dk_3 (dk_at dksX10_lawfulNow_0 0 rfl rfl)
theorem dX10_lawfulNow_1 : decode cX10_lawfulNow 1 = .ok (.istore_n 1, 1) := dk_60 (dk_at dksX10_lawfulNow_0 1 rfl rfl)
theorem dX10_lawfulNow_2 : decode cX10_lawfulNow 2 = .ok (.iconst 0, 1) := dk_3 (dk_at dksX10_lawfulNow_0 2 rfl rfl)
theorem dX10_lawfulNow_3 : decode cX10_lawfulNow 3 = .ok (.istore_n 2, 1) := dk_61 (dk_at dksX10_lawfulNow_0 3 rfl rfl)
theorem dX10_lawfulNow_4 : decode cX10_lawfulNow 4 = .ok (.iload_n 2, 1) := dk_28 (dk_at dksX10_lawfulNow_0 4 rfl rfl)
theorem dX10_lawfulNow_5 : decode cX10_lawfulNow 5 = .ok (.aload_n 0, 1) := dk_42 (dk_at dksX10_lawfulNow_0 5 rfl rfl)
theorem dX10_lawfulNow_6 : decode cX10_lawfulNow 6 = .ok (.getfield 9, 3) := dk_180 0 9 (dk_at dksX10_lawfulNow_0 6 rfl rfl)
theorem dX10_lawfulNow_9 : decode cX10_lawfulNow 9 = .ok (.iconst 4, 1) := dk_7 (dk_at dksX10_lawfulNow_0 9 rfl rfl)
theorem dX10_lawfulNow_10 : decode cX10_lawfulNow 10 = .ok (.iaload, 1) := dk_46 (dk_at dksX10_lawfulNow_0 10 rfl rfl)
theorem dX10_lawfulNow_11 : decode cX10_lawfulNow 11 = .ok (.if_icmp .ge 27, 3) := dk_162 0 27 (dk_at dksX10_lawfulNow_0 11 rfl rfl)
theorem dX10_lawfulNow_14 : decode cX10_lawfulNow 14 = .ok (.iload_n 1, 1) := dk_27 (dk_at dksX10_lawfulNow_0 14 rfl rfl)
theorem dX10_lawfulNow_15 : decode cX10_lawfulNow 15 = .ok (.aload_n 0, 1) := dk_42 (dk_at dksX10_lawfulNow_0 15 rfl rfl)
theorem dX10_lawfulNow_16 : decode cX10_lawfulNow 16 = .ok (.iload_n 2, 1) := dk_28 (dk_at dksX10_lawfulNow_0 16 rfl rfl)
theorem dX10_lawfulNow_17 : decode cX10_lawfulNow 17 = .ok (.invokevirtual 364, 3) := dk_182 1 108 (dk_at dksX10_lawfulNow_0 17 rfl rfl)
theorem dX10_lawfulNow_20 : decode cX10_lawfulNow 20 = .ok (.ifCond .eq 9, 3) := dk_153 0 9 (dk_at dksX10_lawfulNow_0 20 rfl rfl)
theorem dX10_lawfulNow_23 : decode cX10_lawfulNow 23 = .ok (.iconst 1, 1) := dk_4 (dk_at dksX10_lawfulNow_0 23 rfl rfl)
theorem dX10_lawfulNow_24 : decode cX10_lawfulNow 24 = .ok (.iload_n 2, 1) := dk_28 (dk_at dksX10_lawfulNow_1 0 rfl rfl)
theorem dX10_lawfulNow_25 : decode cX10_lawfulNow 25 = .ok (.ishl, 1) := dk_120 (dk_at dksX10_lawfulNow_1 1 rfl rfl)
theorem dX10_lawfulNow_26 : decode cX10_lawfulNow 26 = .ok (.goto 4, 3) := dk_167 0 4 (dk_at dksX10_lawfulNow_1 2 rfl rfl)
theorem dX10_lawfulNow_29 : decode cX10_lawfulNow 29 = .ok (.iconst 0, 1) := dk_3 (dk_at dksX10_lawfulNow_1 5 rfl rfl)
theorem dX10_lawfulNow_30 : decode cX10_lawfulNow 30 = .ok (.ior, 1) := dk_128 (dk_at dksX10_lawfulNow_1 6 rfl rfl)
theorem dX10_lawfulNow_31 : decode cX10_lawfulNow 31 = .ok (.istore_n 1, 1) := dk_60 (dk_at dksX10_lawfulNow_1 7 rfl rfl)
theorem dX10_lawfulNow_32 : decode cX10_lawfulNow 32 = .ok (.iinc 2 1, 3) := dk_132 2 1 (dk_at dksX10_lawfulNow_1 8 rfl rfl)
theorem dX10_lawfulNow_35 : decode cX10_lawfulNow 35 = .ok (.goto (-31), 3) := dk_167 255 225 (dk_at dksX10_lawfulNow_1 11 rfl rfl)
theorem dX10_lawfulNow_38 : decode cX10_lawfulNow 38 = .ok (.iload_n 1, 1) := dk_27 (dk_at dksX10_lawfulNow_1 14 rfl rfl)
theorem dX10_lawfulNow_39 : decode cX10_lawfulNow 39 = .ok (.ireturn, 1) := dk_172 (dk_at dksX10_lawfulNow_1 15 rfl rfl)
abbrev cX10_isLawful : ByteArray := prog_18_method_52_code
def yX10_isLawful : MethodName := ⟨RX10, "isLawful", "(I)Z"⟩
def dkwX10_isLawful_3 : List UInt8 := [4, 167, 0, 4, 3, 172]
abbrev dktX10_isLawful_3 : List UInt8 := dkwX10_isLawful_3 ++ []
def dkwX10_isLawful_2 : List UInt8 := [42, 27, 5, 182, 1, 105, 163, 0, 22, 42, 27, 8, 182, 0, 156, 42, 27, 6, 182, 1, 105, 161, 0, 7]
abbrev dktX10_isLawful_2 : List UInt8 := dkwX10_isLawful_2 ++ dktX10_isLawful_3
def dkwX10_isLawful_1 : List UInt8 := [163, 0, 52, 42, 27, 6, 182, 0, 156, 42, 27, 4, 182, 1, 105, 161, 0, 37, 42, 27, 7, 182, 0, 156]
abbrev dktX10_isLawful_1 : List UInt8 := dkwX10_isLawful_1 ++ dktX10_isLawful_2
def dkwX10_isLawful_0 : List UInt8 := [42, 27, 182, 1, 102, 2, 160, 0, 5, 3, 172, 42, 27, 5, 182, 0, 156, 42, 27, 3, 182, 1, 105]
abbrev dktX10_isLawful_0 : List UInt8 := dkwX10_isLawful_0 ++ dktX10_isLawful_1
theorem dksX10_isLawful_0 : cX10_isLawful.data.toList.drop 0 = dktX10_isLawful_0 := by decide +kernel
theorem dksX10_isLawful_1 : cX10_isLawful.data.toList.drop 23 = dktX10_isLawful_1 := dk_seg dksX10_isLawful_0 23 rfl rfl
theorem dksX10_isLawful_2 : cX10_isLawful.data.toList.drop 47 = dktX10_isLawful_2 := dk_seg dksX10_isLawful_1 24 rfl rfl
theorem dksX10_isLawful_3 : cX10_isLawful.data.toList.drop 71 = dktX10_isLawful_3 := dk_seg dksX10_isLawful_2 24 rfl rfl
theorem dX10_isLawful_0 : decode cX10_isLawful 0 = .ok (.aload_n 0, 1) := dk_42 (dk_at dksX10_isLawful_0 0 rfl rfl)
theorem dX10_isLawful_1 : decode cX10_isLawful 1 = .ok (.iload_n 1, 1) := dk_27 (dk_at dksX10_isLawful_0 1 rfl rfl)
theorem dX10_isLawful_2 : decode cX10_isLawful 2 = .ok (.invokevirtual 358, 3) := dk_182 1 102 (dk_at dksX10_isLawful_0 2 rfl rfl)
theorem dX10_isLawful_5 : decode cX10_isLawful 5 = .ok (.iconst (-1), 1) := dk_2 (dk_at dksX10_isLawful_0 5 rfl rfl)
theorem dX10_isLawful_6 : decode cX10_isLawful 6 = .ok (.if_icmp .ne 5, 3) := dk_160 0 5 (dk_at dksX10_isLawful_0 6 rfl rfl)
theorem dX10_isLawful_9 : decode cX10_isLawful 9 = .ok (.iconst 0, 1) := dk_3 (dk_at dksX10_isLawful_0 9 rfl rfl)
theorem dX10_isLawful_10 : decode cX10_isLawful 10 = .ok (.ireturn, 1) := dk_172 (dk_at dksX10_isLawful_0 10 rfl rfl)
theorem dX10_isLawful_11 : decode cX10_isLawful 11 = .ok (.aload_n 0, 1) := dk_42 (dk_at dksX10_isLawful_0 11 rfl rfl)
theorem dX10_isLawful_12 : decode cX10_isLawful 12 = .ok (.iload_n 1, 1) := dk_27 (dk_at dksX10_isLawful_0 12 rfl rfl)
theorem dX10_isLawful_13 : decode cX10_isLawful 13 = .ok (.iconst 2, 1) := dk_5 (dk_at dksX10_isLawful_0 13 rfl rfl)
theorem dX10_isLawful_14 : decode cX10_isLawful 14 = .ok (.invokevirtual 156, 3) := dk_182 0 156 (dk_at dksX10_isLawful_0 14 rfl rfl)
theorem dX10_isLawful_17 : decode cX10_isLawful 17 = .ok (.aload_n 0, 1) := dk_42 (dk_at dksX10_isLawful_0 17 rfl rfl)
theorem dX10_isLawful_18 : decode cX10_isLawful 18 = .ok (.iload_n 1, 1) := dk_27 (dk_at dksX10_isLawful_0 18 rfl rfl)
theorem dX10_isLawful_19 : decode cX10_isLawful 19 = .ok (.iconst 0, 1) := dk_3 (dk_at dksX10_isLawful_0 19 rfl rfl)
theorem dX10_isLawful_20 : decode cX10_isLawful 20 = .ok (.invokevirtual 361, 3) := dk_182 1 105 (dk_at dksX10_isLawful_0 20 rfl rfl)
theorem dX10_isLawful_23 : decode cX10_isLawful 23 = .ok (.if_icmp .gt 52, 3) := dk_163 0 52 (dk_at dksX10_isLawful_1 0 rfl rfl)
theorem dX10_isLawful_26 : decode cX10_isLawful 26 = .ok (.aload_n 0, 1) := dk_42 (dk_at dksX10_isLawful_1 3 rfl rfl)
theorem dX10_isLawful_27 : decode cX10_isLawful 27 = .ok (.iload_n 1, 1) := dk_27 (dk_at dksX10_isLawful_1 4 rfl rfl)
theorem dX10_isLawful_28 : decode cX10_isLawful 28 = .ok (.iconst 3, 1) := dk_6 (dk_at dksX10_isLawful_1 5 rfl rfl)
theorem dX10_isLawful_29 : decode cX10_isLawful 29 = .ok (.invokevirtual 156, 3) := dk_182 0 156 (dk_at dksX10_isLawful_1 6 rfl rfl)
theorem dX10_isLawful_32 : decode cX10_isLawful 32 = .ok (.aload_n 0, 1) := dk_42 (dk_at dksX10_isLawful_1 9 rfl rfl)
theorem dX10_isLawful_33 : decode cX10_isLawful 33 = .ok (.iload_n 1, 1) := dk_27 (dk_at dksX10_isLawful_1 10 rfl rfl)
theorem dX10_isLawful_34 : decode cX10_isLawful 34 = .ok (.iconst 1, 1) := dk_4 (dk_at dksX10_isLawful_1 11 rfl rfl)
theorem dX10_isLawful_35 : decode cX10_isLawful 35 = .ok (.invokevirtual 361, 3) := dk_182 1 105 (dk_at dksX10_isLawful_1 12 rfl rfl)
theorem dX10_isLawful_38 : decode cX10_isLawful 38 = .ok (.if_icmp .lt 37, 3) := dk_161 0 37 (dk_at dksX10_isLawful_1 15 rfl rfl)
theorem dX10_isLawful_41 : decode cX10_isLawful 41 = .ok (.aload_n 0, 1) := dk_42 (dk_at dksX10_isLawful_1 18 rfl rfl)
theorem dX10_isLawful_42 : decode cX10_isLawful 42 = .ok (.iload_n 1, 1) := dk_27 (dk_at dksX10_isLawful_1 19 rfl rfl)
theorem dX10_isLawful_43 : decode cX10_isLawful 43 = .ok (.iconst 4, 1) := dk_7 (dk_at dksX10_isLawful_1 20 rfl rfl)
theorem dX10_isLawful_44 : decode cX10_isLawful 44 = .ok (.invokevirtual 156, 3) := dk_182 0 156 (dk_at dksX10_isLawful_1 21 rfl rfl)
theorem dX10_isLawful_47 : decode cX10_isLawful 47 = .ok (.aload_n 0, 1) := dk_42 (dk_at dksX10_isLawful_2 0 rfl rfl)
theorem dX10_isLawful_48 : decode cX10_isLawful 48 = .ok (.iload_n 1, 1) := dk_27 (dk_at dksX10_isLawful_2 1 rfl rfl)
theorem dX10_isLawful_49 : decode cX10_isLawful 49 = .ok (.iconst 2, 1) := dk_5 (dk_at dksX10_isLawful_2 2 rfl rfl)
theorem dX10_isLawful_50 : decode cX10_isLawful 50 = .ok (.invokevirtual 361, 3) := dk_182 1 105 (dk_at dksX10_isLawful_2 3 rfl rfl)
theorem dX10_isLawful_53 : decode cX10_isLawful 53 = .ok (.if_icmp .gt 22, 3) := dk_163 0 22 (dk_at dksX10_isLawful_2 6 rfl rfl)
theorem dX10_isLawful_56 : decode cX10_isLawful 56 = .ok (.aload_n 0, 1) := dk_42 (dk_at dksX10_isLawful_2 9 rfl rfl)
theorem dX10_isLawful_57 : decode cX10_isLawful 57 = .ok (.iload_n 1, 1) := dk_27 (dk_at dksX10_isLawful_2 10 rfl rfl)
theorem dX10_isLawful_58 : decode cX10_isLawful 58 = .ok (.iconst 5, 1) := dk_8 (dk_at dksX10_isLawful_2 11 rfl rfl)
theorem dX10_isLawful_59 : decode cX10_isLawful 59 = .ok (.invokevirtual 156, 3) := dk_182 0 156 (dk_at dksX10_isLawful_2 12 rfl rfl)
theorem dX10_isLawful_62 : decode cX10_isLawful 62 = .ok (.aload_n 0, 1) := dk_42 (dk_at dksX10_isLawful_2 15 rfl rfl)
theorem dX10_isLawful_63 : decode cX10_isLawful 63 = .ok (.iload_n 1, 1) := dk_27 (dk_at dksX10_isLawful_2 16 rfl rfl)
theorem dX10_isLawful_64 : decode cX10_isLawful 64 = .ok (.iconst 3, 1) := dk_6 (dk_at dksX10_isLawful_2 17 rfl rfl)
theorem dX10_isLawful_65 : decode cX10_isLawful 65 = .ok (.invokevirtual 361, 3) := dk_182 1 105 (dk_at dksX10_isLawful_2 18 rfl rfl)
theorem dX10_isLawful_68 : decode cX10_isLawful 68 = .ok (.if_icmp .lt 7, 3) := dk_161 0 7 (dk_at dksX10_isLawful_2 21 rfl rfl)
theorem dX10_isLawful_71 : decode cX10_isLawful 71 = .ok (.iconst 1, 1) := dk_4 (dk_at dksX10_isLawful_3 0 rfl rfl)
theorem dX10_isLawful_72 : decode cX10_isLawful 72 = .ok (.goto 4, 3) := dk_167 0 4 (dk_at dksX10_isLawful_3 1 rfl rfl)
theorem dX10_isLawful_75 : decode cX10_isLawful 75 = .ok (.iconst 0, 1) := dk_3 (dk_at dksX10_isLawful_3 4 rfl rfl)
theorem dX10_isLawful_76 : decode cX10_isLawful 76 = .ok (.ireturn, 1) := dk_172 (dk_at dksX10_isLawful_3 5 rfl rfl)
abbrev cX10_room : ByteArray := prog_18_method_57_code
def yX10_room : MethodName := ⟨RX10, "room", "(I)I"⟩
def dkwX10_room_3 : List UInt8 := [62, 132, 4, 1, 167, 255, 206, 29, 172]
abbrev dktX10_room_3 : List UInt8 := dkwX10_room_3 ++ []
def dkwX10_room_2 : List UInt8 := [42, 180, 0, 40, 27, 92, 46, 21, 4, 96, 79, 28, 42, 182, 1, 119, 2, 130, 126, 154, 0, 6, 21, 4]
abbrev dktX10_room_2 : List UInt8 := dkwX10_room_2 ++ dktX10_room_3
def dkwX10_room_1 : List UInt8 := [54, 4, 21, 4, 16, 50, 163, 0, 49, 42, 182, 1, 111, 42, 180, 0, 37, 27, 92, 46, 21, 4, 96, 79]
abbrev dktX10_room_1 : List UInt8 := dkwX10_room_1 ++ dktX10_room_2
def dkwX10_room_0 : List UInt8 := [42, 27, 182, 1, 77, 154, 0, 6, 16, 254, 172, 42, 182, 1, 111, 42, 182, 1, 119, 61, 3, 62, 4]
abbrev dktX10_room_0 : List UInt8 := dkwX10_room_0 ++ dktX10_room_1
theorem dksX10_room_0 : cX10_room.data.toList.drop 0 = dktX10_room_0 := by decide +kernel
theorem dksX10_room_1 : cX10_room.data.toList.drop 23 = dktX10_room_1 := dk_seg dksX10_room_0 23 rfl rfl
theorem dksX10_room_2 : cX10_room.data.toList.drop 47 = dktX10_room_2 := dk_seg dksX10_room_1 24 rfl rfl
theorem dksX10_room_3 : cX10_room.data.toList.drop 71 = dktX10_room_3 := dk_seg dksX10_room_2 24 rfl rfl
theorem dX10_room_0 : decode cX10_room 0 = .ok (.aload_n 0, 1) := dk_42 (dk_at dksX10_room_0 0 rfl rfl)
theorem dX10_room_1 : decode cX10_room 1 = .ok (.iload_n 1, 1) := dk_27 (dk_at dksX10_room_0 1 rfl rfl)
theorem dX10_room_2 : decode cX10_room 2 = .ok (.invokevirtual 333, 3) := dk_182 1 77 (dk_at dksX10_room_0 2 rfl rfl)
theorem dX10_room_5 : decode cX10_room 5 = .ok (.ifCond .ne 6, 3) := dk_154 0 6 (dk_at dksX10_room_0 5 rfl rfl)
theorem dX10_room_8 : decode cX10_room 8 = .ok (.bipush (-2), 2) := dk_16 254 (dk_at dksX10_room_0 8 rfl rfl)
theorem dX10_room_10 : decode cX10_room 10 = .ok (.ireturn, 1) := dk_172 (dk_at dksX10_room_0 10 rfl rfl)
theorem dX10_room_11 : decode cX10_room 11 = .ok (.aload_n 0, 1) := dk_42 (dk_at dksX10_room_0 11 rfl rfl)
theorem dX10_room_12 : decode cX10_room 12 = .ok (.invokevirtual 367, 3) := dk_182 1 111 (dk_at dksX10_room_0 12 rfl rfl)
theorem dX10_room_15 : decode cX10_room 15 = .ok (.aload_n 0, 1) := dk_42 (dk_at dksX10_room_0 15 rfl rfl)
theorem dX10_room_16 : decode cX10_room 16 = .ok (.invokevirtual 375, 3) := dk_182 1 119 (dk_at dksX10_room_0 16 rfl rfl)
theorem dX10_room_19 : decode cX10_room 19 = .ok (.istore_n 2, 1) := dk_61 (dk_at dksX10_room_0 19 rfl rfl)
theorem dX10_room_20 : decode cX10_room 20 = .ok (.iconst 0, 1) := dk_3 (dk_at dksX10_room_0 20 rfl rfl)
theorem dX10_room_21 : decode cX10_room 21 = .ok (.istore_n 3, 1) := dk_62 (dk_at dksX10_room_0 21 rfl rfl)
theorem dX10_room_22 : decode cX10_room 22 = .ok (.iconst 1, 1) := dk_4 (dk_at dksX10_room_0 22 rfl rfl)
theorem dX10_room_23 : decode cX10_room 23 = .ok (.istore 4, 2) := dk_54 4 (dk_at dksX10_room_1 0 rfl rfl)
theorem dX10_room_25 : decode cX10_room 25 = .ok (.iload 4, 2) := dk_21 4 (dk_at dksX10_room_1 2 rfl rfl)
theorem dX10_room_27 : decode cX10_room 27 = .ok (.bipush 50, 2) := dk_16 50 (dk_at dksX10_room_1 4 rfl rfl)
theorem dX10_room_29 : decode cX10_room 29 = .ok (.if_icmp .gt 49, 3) := dk_163 0 49 (dk_at dksX10_room_1 6 rfl rfl)
theorem dX10_room_32 : decode cX10_room 32 = .ok (.aload_n 0, 1) := dk_42 (dk_at dksX10_room_1 9 rfl rfl)
theorem dX10_room_33 : decode cX10_room 33 = .ok (.invokevirtual 367, 3) := dk_182 1 111 (dk_at dksX10_room_1 10 rfl rfl)
theorem dX10_room_36 : decode cX10_room 36 = .ok (.aload_n 0, 1) := dk_42 (dk_at dksX10_room_1 13 rfl rfl)
theorem dX10_room_37 : decode cX10_room 37 = .ok (.getfield 37, 3) := dk_180 0 37 (dk_at dksX10_room_1 14 rfl rfl)
theorem dX10_room_40 : decode cX10_room 40 = .ok (.iload_n 1, 1) := dk_27 (dk_at dksX10_room_1 17 rfl rfl)
theorem dX10_room_41 : decode cX10_room 41 = .ok (.dup2, 1) := dk_92 (dk_at dksX10_room_1 18 rfl rfl)
theorem dX10_room_42 : decode cX10_room 42 = .ok (.iaload, 1) := dk_46 (dk_at dksX10_room_1 19 rfl rfl)
theorem dX10_room_43 : decode cX10_room 43 = .ok (.iload 4, 2) := dk_21 4 (dk_at dksX10_room_1 20 rfl rfl)
theorem dX10_room_45 : decode cX10_room 45 = .ok (.iadd, 1) := dk_96 (dk_at dksX10_room_1 22 rfl rfl)
theorem dX10_room_46 : decode cX10_room 46 = .ok (.iastore, 1) := dk_79 (dk_at dksX10_room_1 23 rfl rfl)
theorem dX10_room_47 : decode cX10_room 47 = .ok (.aload_n 0, 1) := dk_42 (dk_at dksX10_room_2 0 rfl rfl)
theorem dX10_room_48 : decode cX10_room 48 = .ok (.getfield 40, 3) := dk_180 0 40 (dk_at dksX10_room_2 1 rfl rfl)
theorem dX10_room_51 : decode cX10_room 51 = .ok (.iload_n 1, 1) := dk_27 (dk_at dksX10_room_2 4 rfl rfl)
theorem dX10_room_52 : decode cX10_room 52 = .ok (.dup2, 1) := dk_92 (dk_at dksX10_room_2 5 rfl rfl)
theorem dX10_room_53 : decode cX10_room 53 = .ok (.iaload, 1) := dk_46 (dk_at dksX10_room_2 6 rfl rfl)
theorem dX10_room_54 : decode cX10_room 54 = .ok (.iload 4, 2) := dk_21 4 (dk_at dksX10_room_2 7 rfl rfl)
theorem dX10_room_56 : decode cX10_room 56 = .ok (.iadd, 1) := dk_96 (dk_at dksX10_room_2 9 rfl rfl)
theorem dX10_room_57 : decode cX10_room 57 = .ok (.iastore, 1) := dk_79 (dk_at dksX10_room_2 10 rfl rfl)
theorem dX10_room_58 : decode cX10_room 58 = .ok (.iload_n 2, 1) := dk_28 (dk_at dksX10_room_2 11 rfl rfl)
theorem dX10_room_59 : decode cX10_room 59 = .ok (.aload_n 0, 1) := dk_42 (dk_at dksX10_room_2 12 rfl rfl)
theorem dX10_room_60 : decode cX10_room 60 = .ok (.invokevirtual 375, 3) := dk_182 1 119 (dk_at dksX10_room_2 13 rfl rfl)
theorem dX10_room_63 : decode cX10_room 63 = .ok (.iconst (-1), 1) := dk_2 (dk_at dksX10_room_2 16 rfl rfl)
theorem dX10_room_64 : decode cX10_room 64 = .ok (.ixor, 1) := dk_130 (dk_at dksX10_room_2 17 rfl rfl)
theorem dX10_room_65 : decode cX10_room 65 = .ok (.iand, 1) := dk_126 (dk_at dksX10_room_2 18 rfl rfl)
theorem dX10_room_66 : decode cX10_room 66 = .ok (.ifCond .ne 6, 3) := dk_154 0 6 (dk_at dksX10_room_2 19 rfl rfl)
theorem dX10_room_69 : decode cX10_room 69 = .ok (.iload 4, 2) := dk_21 4 (dk_at dksX10_room_2 22 rfl rfl)
theorem dX10_room_71 : decode cX10_room 71 = .ok (.istore_n 3, 1) := dk_62 (dk_at dksX10_room_3 0 rfl rfl)
theorem dX10_room_72 : decode cX10_room 72 = .ok (.iinc 4 1, 3) := dk_132 4 1 (dk_at dksX10_room_3 1 rfl rfl)
theorem dX10_room_75 : decode cX10_room 75 = .ok (.goto (-50), 3) := dk_167 255 206 (dk_at dksX10_room_3 4 rfl rfl)
theorem dX10_room_78 : decode cX10_room 78 = .ok (.iload_n 3, 1) := dk_29 (dk_at dksX10_room_3 7 rfl rfl)
theorem dX10_room_79 : decode cX10_room 79 = .ok (.ireturn, 1) := dk_172 (dk_at dksX10_room_3 8 rfl rfl)
abbrev cX10_orders : ByteArray := prog_18_method_60_code
def yX10_orders : MethodName := ⟨RX10, "orders", "()I"⟩
def dkwX10_orders_0 : List UInt8 := [42, 182, 1, 116, 154, 0, 6, 16, 254, 172, 42, 182, 1, 129, 42, 180, 1, 122, 172]
abbrev dktX10_orders_0 : List UInt8 := dkwX10_orders_0 ++ []
theorem dksX10_orders_0 : cX10_orders.data.toList.drop 0 = dktX10_orders_0 := by decide +kernel
theorem dX10_orders_0 : decode cX10_orders 0 = .ok (.aload_n 0, 1) := dk_42 (dk_at dksX10_orders_0 0 rfl rfl)
theorem dX10_orders_1 : decode cX10_orders 1 = .ok (.invokevirtual 372, 3) := dk_182 1 116 (dk_at dksX10_orders_0 1 rfl rfl)
theorem dX10_orders_4 : decode cX10_orders 4 = .ok (.ifCond .ne 6, 3) := dk_154 0 6 (dk_at dksX10_orders_0 4 rfl rfl)
theorem dX10_orders_7 : decode cX10_orders 7 = .ok (.bipush (-2), 2) := dk_16 254 (dk_at dksX10_orders_0 7 rfl rfl)
theorem dX10_orders_9 : decode cX10_orders 9 = .ok (.ireturn, 1) := dk_172 (dk_at dksX10_orders_0 9 rfl rfl)
theorem dX10_orders_10 : decode cX10_orders 10 = .ok (.aload_n 0, 1) := dk_42 (dk_at dksX10_orders_0 10 rfl rfl)
theorem dX10_orders_11 : decode cX10_orders 11 = .ok (.invokevirtual 385, 3) := dk_182 1 129 (dk_at dksX10_orders_0 11 rfl rfl)
theorem dX10_orders_14 : decode cX10_orders 14 = .ok (.aload_n 0, 1) := dk_42 (dk_at dksX10_orders_0 14 rfl rfl)
theorem dX10_orders_15 : decode cX10_orders 15 = .ok (.getfield 378, 3) := dk_180 1 122 (dk_at dksX10_orders_0 15 rfl rfl)
theorem dX10_orders_18 : decode cX10_orders 18 = .ok (.ireturn, 1) := dk_172 (dk_at dksX10_orders_0 18 rfl rfl)
abbrev cX10_laysOrders : ByteArray := prog_18_method_59_code
def yX10_laysOrders : MethodName := ⟨RX10, "laysOrders", "()V"⟩
def dkwX10_laysOrders_0 : List UInt8 := [42, 182, 1, 111, 42, 3, 181, 1, 122, 42, 3, 3, 182, 1, 125, 177]
abbrev dktX10_laysOrders_0 : List UInt8 := dkwX10_laysOrders_0 ++ []
theorem dksX10_laysOrders_0 : cX10_laysOrders.data.toList.drop 0 = dktX10_laysOrders_0 := by decide +kernel
theorem dX10_laysOrders_0 : decode cX10_laysOrders 0 = .ok (.aload_n 0, 1) := dk_42 (dk_at dksX10_laysOrders_0 0 rfl rfl)
theorem dX10_laysOrders_1 : decode cX10_laysOrders 1 = .ok (.invokevirtual 367, 3) := dk_182 1 111 (dk_at dksX10_laysOrders_0 1 rfl rfl)
theorem dX10_laysOrders_4 : decode cX10_laysOrders 4 = .ok (.aload_n 0, 1) := dk_42 (dk_at dksX10_laysOrders_0 4 rfl rfl)
theorem dX10_laysOrders_5 : decode cX10_laysOrders 5 = .ok (.iconst 0, 1) := dk_3 (dk_at dksX10_laysOrders_0 5 rfl rfl)
theorem dX10_laysOrders_6 : decode cX10_laysOrders 6 = .ok (.putfield 378, 3) := dk_181 1 122 (dk_at dksX10_laysOrders_0 6 rfl rfl)
theorem dX10_laysOrders_9 : decode cX10_laysOrders 9 = .ok (.aload_n 0, 1) := dk_42 (dk_at dksX10_laysOrders_0 9 rfl rfl)
theorem dX10_laysOrders_10 : decode cX10_laysOrders 10 = .ok (.iconst 0, 1) := dk_3 (dk_at dksX10_laysOrders_0 10 rfl rfl)
theorem dX10_laysOrders_11 : decode cX10_laysOrders 11 = .ok (.iconst 0, 1) := dk_3 (dk_at dksX10_laysOrders_0 11 rfl rfl)
theorem dX10_laysOrders_12 : decode cX10_laysOrders 12 = .ok (.invokevirtual 381, 3) := dk_182 1 125 (dk_at dksX10_laysOrders_0 12 rfl rfl)
theorem dX10_laysOrders_15 : decode cX10_laysOrders 15 = .ok (.return_, 1) := dk_177 (dk_at dksX10_laysOrders_0 15 rfl rfl)
abbrev cX10_goesOrders : ByteArray := prog_18_method_58_code
def yX10_goesOrders : MethodName := ⟨RX10, "goesOrders", "(II)V"⟩
def dkwX10_goesOrders_5 : List UInt8 := [182, 1, 125, 132, 3, 1, 167, 255, 205, 177]
abbrev dktX10_goesOrders_5 : List UInt8 := dkwX10_goesOrders_5 ++ []
def dkwX10_goesOrders_4 : List UInt8 := [180, 0, 46, 27, 29, 79, 42, 180, 0, 43, 29, 28, 79, 42, 27, 4, 96, 28, 4, 29, 120, 128]
abbrev dktX10_goesOrders_4 : List UInt8 := dkwX10_goesOrders_4 ++ dktX10_goesOrders_5
def dkwX10_goesOrders_3 : List UInt8 := [62, 29, 42, 180, 0, 9, 7, 46, 162, 0, 47, 28, 29, 122, 4, 126, 4, 160, 0, 6, 167, 0, 29, 42]
abbrev dktX10_goesOrders_3 : List UInt8 := dkwX10_goesOrders_3 ++ dktX10_goesOrders_4
def dkwX10_goesOrders_2 : List UInt8 := [180, 0, 46, 29, 46, 79, 132, 3, 1, 167, 255, 236, 42, 89, 180, 1, 122, 4, 96, 181, 1, 122, 177, 3]
abbrev dktX10_goesOrders_2 : List UInt8 := dkwX10_goesOrders_2 ++ dktX10_goesOrders_3
def dkwX10_goesOrders_1 : List UInt8 := [159, 0, 4, 177, 42, 180, 1, 122, 154, 0, 28, 3, 62, 29, 27, 162, 0, 21, 42, 180, 0, 49, 29, 42]
abbrev dktX10_goesOrders_1 : List UInt8 := dkwX10_goesOrders_1 ++ dktX10_goesOrders_2
def dkwX10_goesOrders_0 : List UInt8 := [27, 42, 180, 0, 9, 7, 46, 160, 0, 64, 42, 182, 1, 119, 4, 42, 180, 0, 9, 7, 46, 120, 4, 100]
abbrev dktX10_goesOrders_0 : List UInt8 := dkwX10_goesOrders_0 ++ dktX10_goesOrders_1
theorem dksX10_goesOrders_0 : cX10_goesOrders.data.toList.drop 0 = dktX10_goesOrders_0 := by decide +kernel
theorem dksX10_goesOrders_1 : cX10_goesOrders.data.toList.drop 24 = dktX10_goesOrders_1 := dk_seg dksX10_goesOrders_0 24 rfl rfl
theorem dksX10_goesOrders_2 : cX10_goesOrders.data.toList.drop 48 = dktX10_goesOrders_2 := dk_seg dksX10_goesOrders_1 24 rfl rfl
theorem dksX10_goesOrders_3 : cX10_goesOrders.data.toList.drop 72 = dktX10_goesOrders_3 := dk_seg dksX10_goesOrders_2 24 rfl rfl
theorem dksX10_goesOrders_4 : cX10_goesOrders.data.toList.drop 96 = dktX10_goesOrders_4 := dk_seg dksX10_goesOrders_3 24 rfl rfl
theorem dksX10_goesOrders_5 : cX10_goesOrders.data.toList.drop 118 = dktX10_goesOrders_5 := dk_seg dksX10_goesOrders_4 22 rfl rfl
theorem dX10_goesOrders_0 : decode cX10_goesOrders 0 = .ok (.iload_n 1, 1) := dk_27 (dk_at dksX10_goesOrders_0 0 rfl rfl)
theorem dX10_goesOrders_1 : decode cX10_goesOrders 1 = .ok (.aload_n 0, 1) := dk_42 (dk_at dksX10_goesOrders_0 1 rfl rfl)
theorem dX10_goesOrders_2 : decode cX10_goesOrders 2 = .ok (.getfield 9, 3) := dk_180 0 9 (dk_at dksX10_goesOrders_0 2 rfl rfl)
theorem dX10_goesOrders_5 : decode cX10_goesOrders 5 = .ok (.iconst 4, 1) := dk_7 (dk_at dksX10_goesOrders_0 5 rfl rfl)
theorem dX10_goesOrders_6 : decode cX10_goesOrders 6 = .ok (.iaload, 1) := dk_46 (dk_at dksX10_goesOrders_0 6 rfl rfl)
theorem dX10_goesOrders_7 : decode cX10_goesOrders 7 = .ok (.if_icmp .ne 64, 3) := dk_160 0 64 (dk_at dksX10_goesOrders_0 7 rfl rfl)
theorem dX10_goesOrders_10 : decode cX10_goesOrders 10 = .ok (.aload_n 0, 1) := dk_42 (dk_at dksX10_goesOrders_0 10 rfl rfl)
theorem dX10_goesOrders_11 : decode cX10_goesOrders 11 = .ok (.invokevirtual 375, 3) := dk_182 1 119 (dk_at dksX10_goesOrders_0 11 rfl rfl)
theorem dX10_goesOrders_14 : decode cX10_goesOrders 14 = .ok (.iconst 1, 1) := dk_4 (dk_at dksX10_goesOrders_0 14 rfl rfl)
theorem dX10_goesOrders_15 : decode cX10_goesOrders 15 = .ok (.aload_n 0, 1) := dk_42 (dk_at dksX10_goesOrders_0 15 rfl rfl)
theorem dX10_goesOrders_16 : decode cX10_goesOrders 16 = .ok (.getfield 9, 3) := dk_180 0 9 (dk_at dksX10_goesOrders_0 16 rfl rfl)
theorem dX10_goesOrders_19 : decode cX10_goesOrders 19 = .ok (.iconst 4, 1) := dk_7 (dk_at dksX10_goesOrders_0 19 rfl rfl)
theorem dX10_goesOrders_20 : decode cX10_goesOrders 20 = .ok (.iaload, 1) := dk_46 (dk_at dksX10_goesOrders_0 20 rfl rfl)
theorem dX10_goesOrders_21 : decode cX10_goesOrders 21 = .ok (.ishl, 1) := dk_120 (dk_at dksX10_goesOrders_0 21 rfl rfl)
theorem dX10_goesOrders_22 : decode cX10_goesOrders 22 = .ok (.iconst 1, 1) := dk_4 (dk_at dksX10_goesOrders_0 22 rfl rfl)
theorem dX10_goesOrders_23 : decode cX10_goesOrders 23 = .ok (.isub, 1) := dk_100 (dk_at dksX10_goesOrders_0 23 rfl rfl)
theorem dX10_goesOrders_24 : decode cX10_goesOrders 24 = .ok (.if_icmp .eq 4, 3) := dk_159 0 4 (dk_at dksX10_goesOrders_1 0 rfl rfl)
theorem dX10_goesOrders_27 : decode cX10_goesOrders 27 = .ok (.return_, 1) := dk_177 (dk_at dksX10_goesOrders_1 3 rfl rfl)
theorem dX10_goesOrders_28 : decode cX10_goesOrders 28 = .ok (.aload_n 0, 1) := dk_42 (dk_at dksX10_goesOrders_1 4 rfl rfl)
theorem dX10_goesOrders_29 : decode cX10_goesOrders 29 = .ok (.getfield 378, 3) := dk_180 1 122 (dk_at dksX10_goesOrders_1 5 rfl rfl)
theorem dX10_goesOrders_32 : decode cX10_goesOrders 32 = .ok (.ifCond .ne 28, 3) := dk_154 0 28 (dk_at dksX10_goesOrders_1 8 rfl rfl)
theorem dX10_goesOrders_35 : decode cX10_goesOrders 35 = .ok (.iconst 0, 1) := dk_3 (dk_at dksX10_goesOrders_1 11 rfl rfl)
theorem dX10_goesOrders_36 : decode cX10_goesOrders 36 = .ok (.istore_n 3, 1) := dk_62 (dk_at dksX10_goesOrders_1 12 rfl rfl)
theorem dX10_goesOrders_37 : decode cX10_goesOrders 37 = .ok (.iload_n 3, 1) := dk_29 (dk_at dksX10_goesOrders_1 13 rfl rfl)
theorem dX10_goesOrders_38 : decode cX10_goesOrders 38 = .ok (.iload_n 1, 1) := dk_27 (dk_at dksX10_goesOrders_1 14 rfl rfl)
theorem dX10_goesOrders_39 : decode cX10_goesOrders 39 = .ok (.if_icmp .ge 21, 3) := dk_162 0 21 (dk_at dksX10_goesOrders_1 15 rfl rfl)
theorem dX10_goesOrders_42 : decode cX10_goesOrders 42 = .ok (.aload_n 0, 1) := dk_42 (dk_at dksX10_goesOrders_1 18 rfl rfl)
theorem dX10_goesOrders_43 : decode cX10_goesOrders 43 = .ok (.getfield 49, 3) := dk_180 0 49 (dk_at dksX10_goesOrders_1 19 rfl rfl)
theorem dX10_goesOrders_46 : decode cX10_goesOrders 46 = .ok (.iload_n 3, 1) := dk_29 (dk_at dksX10_goesOrders_1 22 rfl rfl)
theorem dX10_goesOrders_47 : decode cX10_goesOrders 47 = .ok (.aload_n 0, 1) := dk_42 (dk_at dksX10_goesOrders_1 23 rfl rfl)
theorem dX10_goesOrders_48 : decode cX10_goesOrders 48 = .ok (.getfield 46, 3) := dk_180 0 46 (dk_at dksX10_goesOrders_2 0 rfl rfl)
theorem dX10_goesOrders_51 : decode cX10_goesOrders 51 = .ok (.iload_n 3, 1) := dk_29 (dk_at dksX10_goesOrders_2 3 rfl rfl)
theorem dX10_goesOrders_52 : decode cX10_goesOrders 52 = .ok (.iaload, 1) := dk_46 (dk_at dksX10_goesOrders_2 4 rfl rfl)
theorem dX10_goesOrders_53 : decode cX10_goesOrders 53 = .ok (.iastore, 1) := dk_79 (dk_at dksX10_goesOrders_2 5 rfl rfl)
theorem dX10_goesOrders_54 : decode cX10_goesOrders 54 = .ok (.iinc 3 1, 3) := dk_132 3 1 (dk_at dksX10_goesOrders_2 6 rfl rfl)
theorem dX10_goesOrders_57 : decode cX10_goesOrders 57 = .ok (.goto (-20), 3) := dk_167 255 236 (dk_at dksX10_goesOrders_2 9 rfl rfl)
theorem dX10_goesOrders_60 : decode cX10_goesOrders 60 = .ok (.aload_n 0, 1) := dk_42 (dk_at dksX10_goesOrders_2 12 rfl rfl)
theorem dX10_goesOrders_61 : decode cX10_goesOrders 61 = .ok (.dup, 1) := dk_89 (dk_at dksX10_goesOrders_2 13 rfl rfl)
theorem dX10_goesOrders_62 : decode cX10_goesOrders 62 = .ok (.getfield 378, 3) := dk_180 1 122 (dk_at dksX10_goesOrders_2 14 rfl rfl)
theorem dX10_goesOrders_65 : decode cX10_goesOrders 65 = .ok (.iconst 1, 1) := dk_4 (dk_at dksX10_goesOrders_2 17 rfl rfl)
theorem dX10_goesOrders_66 : decode cX10_goesOrders 66 = .ok (.iadd, 1) := dk_96 (dk_at dksX10_goesOrders_2 18 rfl rfl)
theorem dX10_goesOrders_67 : decode cX10_goesOrders 67 = .ok (.putfield 378, 3) := dk_181 1 122 (dk_at dksX10_goesOrders_2 19 rfl rfl)
theorem dX10_goesOrders_70 : decode cX10_goesOrders 70 = .ok (.return_, 1) := dk_177 (dk_at dksX10_goesOrders_2 22 rfl rfl)
theorem dX10_goesOrders_71 : decode cX10_goesOrders 71 = .ok (.iconst 0, 1) := dk_3 (dk_at dksX10_goesOrders_2 23 rfl rfl)
theorem dX10_goesOrders_72 : decode cX10_goesOrders 72 = .ok (.istore_n 3, 1) := dk_62 (dk_at dksX10_goesOrders_3 0 rfl rfl)
theorem dX10_goesOrders_73 : decode cX10_goesOrders 73 = .ok (.iload_n 3, 1) := dk_29 (dk_at dksX10_goesOrders_3 1 rfl rfl)
theorem dX10_goesOrders_74 : decode cX10_goesOrders 74 = .ok (.aload_n 0, 1) := dk_42 (dk_at dksX10_goesOrders_3 2 rfl rfl)
theorem dX10_goesOrders_75 : decode cX10_goesOrders 75 = .ok (.getfield 9, 3) := dk_180 0 9 (dk_at dksX10_goesOrders_3 3 rfl rfl)
theorem dX10_goesOrders_78 : decode cX10_goesOrders 78 = .ok (.iconst 4, 1) := dk_7 (dk_at dksX10_goesOrders_3 6 rfl rfl)
theorem dX10_goesOrders_79 : decode cX10_goesOrders 79 = .ok (.iaload, 1) := dk_46 (dk_at dksX10_goesOrders_3 7 rfl rfl)
theorem dX10_goesOrders_80 : decode cX10_goesOrders 80 = .ok (.if_icmp .ge 47, 3) := dk_162 0 47 (dk_at dksX10_goesOrders_3 8 rfl rfl)
theorem dX10_goesOrders_83 : decode cX10_goesOrders 83 = .ok (.iload_n 2, 1) := dk_28 (dk_at dksX10_goesOrders_3 11 rfl rfl)
theorem dX10_goesOrders_84 : decode cX10_goesOrders 84 = .ok (.iload_n 3, 1) := dk_29 (dk_at dksX10_goesOrders_3 12 rfl rfl)
theorem dX10_goesOrders_85 : decode cX10_goesOrders 85 = .ok (.ishr, 1) := dk_122 (dk_at dksX10_goesOrders_3 13 rfl rfl)
theorem dX10_goesOrders_86 : decode cX10_goesOrders 86 = .ok (.iconst 1, 1) := dk_4 (dk_at dksX10_goesOrders_3 14 rfl rfl)
theorem dX10_goesOrders_87 : decode cX10_goesOrders 87 = .ok (.iand, 1) := dk_126 (dk_at dksX10_goesOrders_3 15 rfl rfl)
theorem dX10_goesOrders_88 : decode cX10_goesOrders 88 = .ok (.iconst 1, 1) := dk_4 (dk_at dksX10_goesOrders_3 16 rfl rfl)
theorem dX10_goesOrders_89 : decode cX10_goesOrders 89 = .ok (.if_icmp .ne 6, 3) := dk_160 0 6 (dk_at dksX10_goesOrders_3 17 rfl rfl)
theorem dX10_goesOrders_92 : decode cX10_goesOrders 92 = .ok (.goto 29, 3) := dk_167 0 29 (dk_at dksX10_goesOrders_3 20 rfl rfl)
theorem dX10_goesOrders_95 : decode cX10_goesOrders 95 = .ok (.aload_n 0, 1) := dk_42 (dk_at dksX10_goesOrders_3 23 rfl rfl)
theorem dX10_goesOrders_96 : decode cX10_goesOrders 96 = .ok (.getfield 46, 3) := dk_180 0 46 (dk_at dksX10_goesOrders_4 0 rfl rfl)
theorem dX10_goesOrders_99 : decode cX10_goesOrders 99 = .ok (.iload_n 1, 1) := dk_27 (dk_at dksX10_goesOrders_4 3 rfl rfl)
theorem dX10_goesOrders_100 : decode cX10_goesOrders 100 = .ok (.iload_n 3, 1) := dk_29 (dk_at dksX10_goesOrders_4 4 rfl rfl)
theorem dX10_goesOrders_101 : decode cX10_goesOrders 101 = .ok (.iastore, 1) := dk_79 (dk_at dksX10_goesOrders_4 5 rfl rfl)
theorem dX10_goesOrders_102 : decode cX10_goesOrders 102 = .ok (.aload_n 0, 1) := dk_42 (dk_at dksX10_goesOrders_4 6 rfl rfl)
theorem dX10_goesOrders_103 : decode cX10_goesOrders 103 = .ok (.getfield 43, 3) := dk_180 0 43 (dk_at dksX10_goesOrders_4 7 rfl rfl)
theorem dX10_goesOrders_106 : decode cX10_goesOrders 106 = .ok (.iload_n 3, 1) := dk_29 (dk_at dksX10_goesOrders_4 10 rfl rfl)
theorem dX10_goesOrders_107 : decode cX10_goesOrders 107 = .ok (.iload_n 2, 1) := dk_28 (dk_at dksX10_goesOrders_4 11 rfl rfl)
theorem dX10_goesOrders_108 : decode cX10_goesOrders 108 = .ok (.iastore, 1) := dk_79 (dk_at dksX10_goesOrders_4 12 rfl rfl)
theorem dX10_goesOrders_109 : decode cX10_goesOrders 109 = .ok (.aload_n 0, 1) := dk_42 (dk_at dksX10_goesOrders_4 13 rfl rfl)
theorem dX10_goesOrders_110 : decode cX10_goesOrders 110 = .ok (.iload_n 1, 1) := dk_27 (dk_at dksX10_goesOrders_4 14 rfl rfl)
theorem dX10_goesOrders_111 : decode cX10_goesOrders 111 = .ok (.iconst 1, 1) := dk_4 (dk_at dksX10_goesOrders_4 15 rfl rfl)
theorem dX10_goesOrders_112 : decode cX10_goesOrders 112 = .ok (.iadd, 1) := dk_96 (dk_at dksX10_goesOrders_4 16 rfl rfl)
theorem dX10_goesOrders_113 : decode cX10_goesOrders 113 = .ok (.iload_n 2, 1) := dk_28 (dk_at dksX10_goesOrders_4 17 rfl rfl)
theorem dX10_goesOrders_114 : decode cX10_goesOrders 114 = .ok (.iconst 1, 1) := dk_4 (dk_at dksX10_goesOrders_4 18 rfl rfl)
theorem dX10_goesOrders_115 : decode cX10_goesOrders 115 = .ok (.iload_n 3, 1) := dk_29 (dk_at dksX10_goesOrders_4 19 rfl rfl)
theorem dX10_goesOrders_116 : decode cX10_goesOrders 116 = .ok (.ishl, 1) := dk_120 (dk_at dksX10_goesOrders_4 20 rfl rfl)
theorem dX10_goesOrders_117 : decode cX10_goesOrders 117 = .ok (.ior, 1) := dk_128 (dk_at dksX10_goesOrders_4 21 rfl rfl)
theorem dX10_goesOrders_118 : decode cX10_goesOrders 118 = .ok (.invokevirtual 381, 3) := dk_182 1 125 (dk_at dksX10_goesOrders_5 0 rfl rfl)
theorem dX10_goesOrders_121 : decode cX10_goesOrders 121 = .ok (.iinc 3 1, 3) := dk_132 3 1 (dk_at dksX10_goesOrders_5 3 rfl rfl)
theorem dX10_goesOrders_124 : decode cX10_goesOrders 124 = .ok (.goto (-51), 3) := dk_167 255 205 (dk_at dksX10_goesOrders_5 6 rfl rfl)
theorem dX10_goesOrders_127 : decode cX10_goesOrders 127 = .ok (.return_, 1) := dk_177 (dk_at dksX10_goesOrders_5 9 rfl rfl)
abbrev cX10_order : ByteArray := prog_18_method_61_code
def yX10_order : MethodName := ⟨RX10, "order", "(I)I"⟩
def dkwX10_order_2 : List UInt8 := [2, 172]
abbrev dktX10_order_2 : List UInt8 := dkwX10_order_2 ++ []
def dkwX10_order_1 : List UInt8 := [42, 180, 0, 9, 7, 46, 4, 100, 133, 184, 0, 152, 153, 0, 12, 42, 180, 0, 49, 27, 46, 167, 0, 4]
abbrev dktX10_order_1 : List UInt8 := dkwX10_order_1 ++ dktX10_order_2
def dkwX10_order_0 : List UInt8 := [42, 182, 1, 116, 154, 0, 6, 16, 254, 172, 42, 182, 1, 129, 42, 180, 1, 122, 158, 0, 30, 27, 133, 9]
abbrev dktX10_order_0 : List UInt8 := dkwX10_order_0 ++ dktX10_order_1
theorem dksX10_order_0 : cX10_order.data.toList.drop 0 = dktX10_order_0 := by decide +kernel
theorem dksX10_order_1 : cX10_order.data.toList.drop 24 = dktX10_order_1 := dk_seg dksX10_order_0 24 rfl rfl
theorem dksX10_order_2 : cX10_order.data.toList.drop 48 = dktX10_order_2 := dk_seg dksX10_order_1 24 rfl rfl
theorem dX10_order_0 : decode cX10_order 0 = .ok (.aload_n 0, 1) := dk_42 (dk_at dksX10_order_0 0 rfl rfl)
theorem dX10_order_1 : decode cX10_order 1 = .ok (.invokevirtual 372, 3) := dk_182 1 116 (dk_at dksX10_order_0 1 rfl rfl)
theorem dX10_order_4 : decode cX10_order 4 = .ok (.ifCond .ne 6, 3) := dk_154 0 6 (dk_at dksX10_order_0 4 rfl rfl)
theorem dX10_order_7 : decode cX10_order 7 = .ok (.bipush (-2), 2) := dk_16 254 (dk_at dksX10_order_0 7 rfl rfl)
theorem dX10_order_9 : decode cX10_order 9 = .ok (.ireturn, 1) := dk_172 (dk_at dksX10_order_0 9 rfl rfl)
theorem dX10_order_10 : decode cX10_order 10 = .ok (.aload_n 0, 1) := dk_42 (dk_at dksX10_order_0 10 rfl rfl)
theorem dX10_order_11 : decode cX10_order 11 = .ok (.invokevirtual 385, 3) := dk_182 1 129 (dk_at dksX10_order_0 11 rfl rfl)
theorem dX10_order_14 : decode cX10_order 14 = .ok (.aload_n 0, 1) := dk_42 (dk_at dksX10_order_0 14 rfl rfl)
theorem dX10_order_15 : decode cX10_order 15 = .ok (.getfield 378, 3) := dk_180 1 122 (dk_at dksX10_order_0 15 rfl rfl)
theorem dX10_order_18 : decode cX10_order 18 = .ok (.ifCond .le 30, 3) := dk_158 0 30 (dk_at dksX10_order_0 18 rfl rfl)
theorem dX10_order_21 : decode cX10_order 21 = .ok (.iload_n 1, 1) := dk_27 (dk_at dksX10_order_0 21 rfl rfl)
theorem dX10_order_22 : decode cX10_order 22 = .ok (.i2l, 1) := dk_133 (dk_at dksX10_order_0 22 rfl rfl)
theorem dX10_order_23 : decode cX10_order 23 = .ok (.lconst 0, 1) := dk_9 (dk_at dksX10_order_0 23 rfl rfl)
theorem dX10_order_24 : decode cX10_order 24 = .ok (.aload_n 0, 1) := dk_42 (dk_at dksX10_order_1 0 rfl rfl)
theorem dX10_order_25 : decode cX10_order 25 = .ok (.getfield 9, 3) := dk_180 0 9 (dk_at dksX10_order_1 1 rfl rfl)
theorem dX10_order_28 : decode cX10_order 28 = .ok (.iconst 4, 1) := dk_7 (dk_at dksX10_order_1 4 rfl rfl)
theorem dX10_order_29 : decode cX10_order 29 = .ok (.iaload, 1) := dk_46 (dk_at dksX10_order_1 5 rfl rfl)
theorem dX10_order_30 : decode cX10_order 30 = .ok (.iconst 1, 1) := dk_4 (dk_at dksX10_order_1 6 rfl rfl)
theorem dX10_order_31 : decode cX10_order 31 = .ok (.isub, 1) := dk_100 (dk_at dksX10_order_1 7 rfl rfl)
theorem dX10_order_32 : decode cX10_order 32 = .ok (.i2l, 1) := dk_133 (dk_at dksX10_order_1 8 rfl rfl)
theorem dX10_order_33 : decode cX10_order 33 = .ok (.invokestatic 152, 3) := dk_184 0 152 (dk_at dksX10_order_1 9 rfl rfl)
theorem dX10_order_36 : decode cX10_order 36 = .ok (.ifCond .eq 12, 3) := dk_153 0 12 (dk_at dksX10_order_1 12 rfl rfl)
theorem dX10_order_39 : decode cX10_order 39 = .ok (.aload_n 0, 1) := dk_42 (dk_at dksX10_order_1 15 rfl rfl)
theorem dX10_order_40 : decode cX10_order 40 = .ok (.getfield 49, 3) := dk_180 0 49 (dk_at dksX10_order_1 16 rfl rfl)
theorem dX10_order_43 : decode cX10_order 43 = .ok (.iload_n 1, 1) := dk_27 (dk_at dksX10_order_1 19 rfl rfl)
theorem dX10_order_44 : decode cX10_order 44 = .ok (.iaload, 1) := dk_46 (dk_at dksX10_order_1 20 rfl rfl)
theorem dX10_order_45 : decode cX10_order 45 = .ok (.goto 4, 3) := dk_167 0 4 (dk_at dksX10_order_1 21 rfl rfl)
theorem dX10_order_48 : decode cX10_order 48 = .ok (.iconst (-1), 1) := dk_2 (dk_at dksX10_order_2 0 rfl rfl)
theorem dX10_order_49 : decode cX10_order 49 = .ok (.ireturn, 1) := dk_172 (dk_at dksX10_order_2 1 rfl rfl)
abbrev cX10_load : ByteArray := prog_18_method_62_code
def yX10_load : MethodName := ⟨RX10, "load", "()I"⟩
def dkwX10_load_2 : List UInt8 := [167, 255, 226, 35, 184, 1, 132, 172]
abbrev dktX10_load_2 : List UInt8 := dkwX10_load_2 ++ []
def dkwX10_load_1 : List UInt8 := [46, 162, 0, 26, 35, 42, 180, 0, 37, 28, 46, 134, 42, 28, 182, 1, 100, 134, 110, 98, 68, 132, 2, 1]
abbrev dktX10_load_1 : List UInt8 := dkwX10_load_1 ++ dktX10_load_2
def dkwX10_load_0 : List UInt8 := [42, 182, 1, 116, 154, 0, 6, 16, 254, 172, 42, 182, 1, 111, 11, 68, 3, 61, 28, 42, 180, 0, 9, 7]
abbrev dktX10_load_0 : List UInt8 := dkwX10_load_0 ++ dktX10_load_1
theorem dksX10_load_0 : cX10_load.data.toList.drop 0 = dktX10_load_0 := by decide +kernel
theorem dksX10_load_1 : cX10_load.data.toList.drop 24 = dktX10_load_1 := dk_seg dksX10_load_0 24 rfl rfl
theorem dksX10_load_2 : cX10_load.data.toList.drop 48 = dktX10_load_2 := dk_seg dksX10_load_1 24 rfl rfl
theorem dX10_load_0 : decode cX10_load 0 = .ok (.aload_n 0, 1) := dk_42 (dk_at dksX10_load_0 0 rfl rfl)
theorem dX10_load_1 : decode cX10_load 1 = .ok (.invokevirtual 372, 3) := dk_182 1 116 (dk_at dksX10_load_0 1 rfl rfl)
theorem dX10_load_4 : decode cX10_load 4 = .ok (.ifCond .ne 6, 3) := dk_154 0 6 (dk_at dksX10_load_0 4 rfl rfl)
theorem dX10_load_7 : decode cX10_load 7 = .ok (.bipush (-2), 2) := dk_16 254 (dk_at dksX10_load_0 7 rfl rfl)
theorem dX10_load_9 : decode cX10_load 9 = .ok (.ireturn, 1) := dk_172 (dk_at dksX10_load_0 9 rfl rfl)
theorem dX10_load_10 : decode cX10_load 10 = .ok (.aload_n 0, 1) := dk_42 (dk_at dksX10_load_0 10 rfl rfl)
theorem dX10_load_11 : decode cX10_load 11 = .ok (.invokevirtual 367, 3) := dk_182 1 111 (dk_at dksX10_load_0 11 rfl rfl)
theorem dX10_load_14 : decode cX10_load 14 = .ok (.fconst 0, 1) := dk_11 (dk_at dksX10_load_0 14 rfl rfl)
theorem dX10_load_15 : decode cX10_load 15 = .ok (.fstore_n 1, 1) := dk_68 (dk_at dksX10_load_0 15 rfl rfl)
theorem dX10_load_16 : decode cX10_load 16 = .ok (.iconst 0, 1) := dk_3 (dk_at dksX10_load_0 16 rfl rfl)
theorem dX10_load_17 : decode cX10_load 17 = .ok (.istore_n 2, 1) := dk_61 (dk_at dksX10_load_0 17 rfl rfl)
theorem dX10_load_18 : decode cX10_load 18 = .ok (.iload_n 2, 1) := dk_28 (dk_at dksX10_load_0 18 rfl rfl)
theorem dX10_load_19 : decode cX10_load 19 = .ok (.aload_n 0, 1) := dk_42 (dk_at dksX10_load_0 19 rfl rfl)
theorem dX10_load_20 : decode cX10_load 20 = .ok (.getfield 9, 3) := dk_180 0 9 (dk_at dksX10_load_0 20 rfl rfl)
theorem dX10_load_23 : decode cX10_load 23 = .ok (.iconst 4, 1) := dk_7 (dk_at dksX10_load_0 23 rfl rfl)
theorem dX10_load_24 : decode cX10_load 24 = .ok (.iaload, 1) := dk_46 (dk_at dksX10_load_1 0 rfl rfl)
theorem dX10_load_25 : decode cX10_load 25 = .ok (.if_icmp .ge 26, 3) := dk_162 0 26 (dk_at dksX10_load_1 1 rfl rfl)
theorem dX10_load_28 : decode cX10_load 28 = .ok (.fload_n 1, 1) := dk_35 (dk_at dksX10_load_1 4 rfl rfl)
theorem dX10_load_29 : decode cX10_load 29 = .ok (.aload_n 0, 1) := dk_42 (dk_at dksX10_load_1 5 rfl rfl)
theorem dX10_load_30 : decode cX10_load 30 = .ok (.getfield 37, 3) := dk_180 0 37 (dk_at dksX10_load_1 6 rfl rfl)
theorem dX10_load_33 : decode cX10_load 33 = .ok (.iload_n 2, 1) := dk_28 (dk_at dksX10_load_1 9 rfl rfl)
theorem dX10_load_34 : decode cX10_load 34 = .ok (.iaload, 1) := dk_46 (dk_at dksX10_load_1 10 rfl rfl)
theorem dX10_load_35 : decode cX10_load 35 = .ok (.i2f, 1) := dk_134 (dk_at dksX10_load_1 11 rfl rfl)
theorem dX10_load_36 : decode cX10_load 36 = .ok (.aload_n 0, 1) := dk_42 (dk_at dksX10_load_1 12 rfl rfl)
theorem dX10_load_37 : decode cX10_load 37 = .ok (.iload_n 2, 1) := dk_28 (dk_at dksX10_load_1 13 rfl rfl)
theorem dX10_load_38 : decode cX10_load 38 = .ok (.invokevirtual 356, 3) := dk_182 1 100 (dk_at dksX10_load_1 14 rfl rfl)
theorem dX10_load_41 : decode cX10_load 41 = .ok (.i2f, 1) := dk_134 (dk_at dksX10_load_1 17 rfl rfl)
theorem dX10_load_42 : decode cX10_load 42 = .ok (.fdiv, 1) := dk_110 (dk_at dksX10_load_1 18 rfl rfl)
theorem dX10_load_43 : decode cX10_load 43 = .ok (.fadd, 1) := dk_98 (dk_at dksX10_load_1 19 rfl rfl)
theorem dX10_load_44 : decode cX10_load 44 = .ok (.fstore_n 1, 1) := dk_68 (dk_at dksX10_load_1 20 rfl rfl)
theorem dX10_load_45 : decode cX10_load 45 = .ok (.iinc 2 1, 3) := dk_132 2 1 (dk_at dksX10_load_1 21 rfl rfl)
theorem dX10_load_48 : decode cX10_load 48 = .ok (.goto (-30), 3) := dk_167 255 226 (dk_at dksX10_load_2 0 rfl rfl)
theorem dX10_load_51 : decode cX10_load 51 = .ok (.fload_n 1, 1) := dk_35 (dk_at dksX10_load_2 3 rfl rfl)
theorem dX10_load_52 : decode cX10_load 52 = .ok (.invokestatic 388, 3) := dk_184 1 132 (dk_at dksX10_load_2 4 rfl rfl)
theorem dX10_load_55 : decode cX10_load 55 = .ok (.ireturn, 1) := dk_172 (dk_at dksX10_load_2 7 rfl rfl)
abbrev cX10_path : ByteArray := prog_18_method_64_code
def yX10_path : MethodName := ⟨RX10, "path", "(III)I"⟩
def dkwX10_path_3 : List UInt8 := [132, 5, 1, 167, 255, 217, 21, 4, 172]
abbrev dktX10_path_3 : List UInt8 := dkwX10_path_3 ++ []
def dkwX10_path_2 : List UInt8 := [154, 0, 5, 2, 172, 42, 27, 21, 4, 28, 42, 27, 21, 4, 182, 1, 68, 112, 182, 1, 140, 54, 4]
abbrev dktX10_path_2 : List UInt8 := dkwX10_path_2 ++ dktX10_path_3
def dkwX10_path_1 : List UInt8 := [16, 254, 172, 3, 54, 4, 3, 54, 5, 21, 5, 29, 162, 0, 39, 42, 27, 21, 4, 182, 1, 68]
abbrev dktX10_path_1 : List UInt8 := dkwX10_path_1 ++ dktX10_path_2
def dkwX10_path_0 : List UInt8 := [42, 27, 182, 1, 77, 153, 0, 19, 28, 133, 9, 20, 1, 138, 184, 0, 152, 153, 0, 7, 29, 156, 0, 6]
abbrev dktX10_path_0 : List UInt8 := dkwX10_path_0 ++ dktX10_path_1
theorem dksX10_path_0 : cX10_path.data.toList.drop 0 = dktX10_path_0 := by decide +kernel
theorem dksX10_path_1 : cX10_path.data.toList.drop 24 = dktX10_path_1 := dk_seg dksX10_path_0 24 rfl rfl
theorem dksX10_path_2 : cX10_path.data.toList.drop 46 = dktX10_path_2 := dk_seg dksX10_path_1 22 rfl rfl
theorem dksX10_path_3 : cX10_path.data.toList.drop 69 = dktX10_path_3 := dk_seg dksX10_path_2 23 rfl rfl
theorem dX10_path_0 : decode cX10_path 0 = .ok (.aload_n 0, 1) := dk_42 (dk_at dksX10_path_0 0 rfl rfl)
theorem dX10_path_1 : decode cX10_path 1 = .ok (.iload_n 1, 1) := dk_27 (dk_at dksX10_path_0 1 rfl rfl)
theorem dX10_path_2 : decode cX10_path 2 = .ok (.invokevirtual 333, 3) := dk_182 1 77 (dk_at dksX10_path_0 2 rfl rfl)
theorem dX10_path_5 : decode cX10_path 5 = .ok (.ifCond .eq 19, 3) := dk_153 0 19 (dk_at dksX10_path_0 5 rfl rfl)
theorem dX10_path_8 : decode cX10_path 8 = .ok (.iload_n 2, 1) := dk_28 (dk_at dksX10_path_0 8 rfl rfl)
theorem dX10_path_9 : decode cX10_path 9 = .ok (.i2l, 1) := dk_133 (dk_at dksX10_path_0 9 rfl rfl)
theorem dX10_path_10 : decode cX10_path 10 = .ok (.lconst 0, 1) := dk_9 (dk_at dksX10_path_0 10 rfl rfl)
theorem dX10_path_11 : decode cX10_path 11 = .ok (.ldc2_w 394, 3) := dk_20 1 138 (dk_at dksX10_path_0 11 rfl rfl)
theorem dX10_path_14 : decode cX10_path 14 = .ok (.invokestatic 152, 3) := dk_184 0 152 (dk_at dksX10_path_0 14 rfl rfl)
theorem dX10_path_17 : decode cX10_path 17 = .ok (.ifCond .eq 7, 3) := dk_153 0 7 (dk_at dksX10_path_0 17 rfl rfl)
theorem dX10_path_20 : decode cX10_path 20 = .ok (.iload_n 3, 1) := dk_29 (dk_at dksX10_path_0 20 rfl rfl)
theorem dX10_path_21 : decode cX10_path 21 = .ok (.ifCond .ge 6, 3) := dk_156 0 6 (dk_at dksX10_path_0 21 rfl rfl)
theorem dX10_path_24 : decode cX10_path 24 = .ok (.bipush (-2), 2) := dk_16 254 (dk_at dksX10_path_1 0 rfl rfl)
theorem dX10_path_26 : decode cX10_path 26 = .ok (.ireturn, 1) := dk_172 (dk_at dksX10_path_1 2 rfl rfl)
theorem dX10_path_27 : decode cX10_path 27 = .ok (.iconst 0, 1) := dk_3 (dk_at dksX10_path_1 3 rfl rfl)
theorem dX10_path_28 : decode cX10_path 28 = .ok (.istore 4, 2) := dk_54 4 (dk_at dksX10_path_1 4 rfl rfl)
theorem dX10_path_30 : decode cX10_path 30 = .ok (.iconst 0, 1) := dk_3 (dk_at dksX10_path_1 6 rfl rfl)
theorem dX10_path_31 : decode cX10_path 31 = .ok (.istore 5, 2) := dk_54 5 (dk_at dksX10_path_1 7 rfl rfl)
theorem dX10_path_33 : decode cX10_path 33 = .ok (.iload 5, 2) := dk_21 5 (dk_at dksX10_path_1 9 rfl rfl)
theorem dX10_path_35 : decode cX10_path 35 = .ok (.iload_n 3, 1) := dk_29 (dk_at dksX10_path_1 11 rfl rfl)
theorem dX10_path_36 : decode cX10_path 36 = .ok (.if_icmp .ge 39, 3) := dk_162 0 39 (dk_at dksX10_path_1 12 rfl rfl)
theorem dX10_path_39 : decode cX10_path 39 = .ok (.aload_n 0, 1) := dk_42 (dk_at dksX10_path_1 15 rfl rfl)
theorem dX10_path_40 : decode cX10_path 40 = .ok (.iload_n 1, 1) := dk_27 (dk_at dksX10_path_1 16 rfl rfl)
theorem dX10_path_41 : decode cX10_path 41 = .ok (.iload 4, 2) := dk_21 4 (dk_at dksX10_path_1 17 rfl rfl)
theorem dX10_path_43 : decode cX10_path 43 = .ok (.invokevirtual 324, 3) := dk_182 1 68 (dk_at dksX10_path_1 19 rfl rfl)
theorem dX10_path_46 : decode cX10_path 46 = .ok (.ifCond .ne 5, 3) := dk_154 0 5 (dk_at dksX10_path_2 0 rfl rfl)
theorem dX10_path_49 : decode cX10_path 49 = .ok (.iconst (-1), 1) := dk_2 (dk_at dksX10_path_2 3 rfl rfl)
theorem dX10_path_50 : decode cX10_path 50 = .ok (.ireturn, 1) := dk_172 (dk_at dksX10_path_2 4 rfl rfl)
theorem dX10_path_51 : decode cX10_path 51 = .ok (.aload_n 0, 1) := dk_42 (dk_at dksX10_path_2 5 rfl rfl)
theorem dX10_path_52 : decode cX10_path 52 = .ok (.iload_n 1, 1) := dk_27 (dk_at dksX10_path_2 6 rfl rfl)
theorem dX10_path_53 : decode cX10_path 53 = .ok (.iload 4, 2) := dk_21 4 (dk_at dksX10_path_2 7 rfl rfl)
theorem dX10_path_55 : decode cX10_path 55 = .ok (.iload_n 2, 1) := dk_28 (dk_at dksX10_path_2 9 rfl rfl)
theorem dX10_path_56 : decode cX10_path 56 = .ok (.aload_n 0, 1) := dk_42 (dk_at dksX10_path_2 10 rfl rfl)
theorem dX10_path_57 : decode cX10_path 57 = .ok (.iload_n 1, 1) := dk_27 (dk_at dksX10_path_2 11 rfl rfl)
theorem dX10_path_58 : decode cX10_path 58 = .ok (.iload 4, 2) := dk_21 4 (dk_at dksX10_path_2 12 rfl rfl)
theorem dX10_path_60 : decode cX10_path 60 = .ok (.invokevirtual 324, 3) := dk_182 1 68 (dk_at dksX10_path_2 14 rfl rfl)
theorem dX10_path_63 : decode cX10_path 63 = .ok (.irem, 1) := dk_112 (dk_at dksX10_path_2 17 rfl rfl)
theorem dX10_path_64 : decode cX10_path 64 = .ok (.invokevirtual 396, 3) := dk_182 1 140 (dk_at dksX10_path_2 18 rfl rfl)
theorem dX10_path_67 : decode cX10_path 67 = .ok (.istore 4, 2) := dk_54 4 (dk_at dksX10_path_2 21 rfl rfl)
theorem dX10_path_69 : decode cX10_path 69 = .ok (.iinc 5 1, 3) := dk_132 5 1 (dk_at dksX10_path_3 0 rfl rfl)
theorem dX10_path_72 : decode cX10_path 72 = .ok (.goto (-39), 3) := dk_167 255 217 (dk_at dksX10_path_3 3 rfl rfl)
theorem dX10_path_75 : decode cX10_path 75 = .ok (.iload 4, 2) := dk_21 4 (dk_at dksX10_path_3 6 rfl rfl)
theorem dX10_path_77 : decode cX10_path 77 = .ok (.ireturn, 1) := dk_172 (dk_at dksX10_path_3 8 rfl rfl)
abbrev cX10_follower : ByteArray := prog_18_method_40_code
def yX10_follower : MethodName := ⟨RX10, "follower", "(III)I"⟩
def dkwX10_follower_2 : List UInt8 := [167, 255, 216, 21, 5, 172]
abbrev dktX10_follower_2 : List UInt8 := dkwX10_follower_2 ++ []
def dkwX10_follower_1 : List UInt8 := [21, 4, 42, 27, 21, 5, 28, 182, 1, 64, 153, 0, 7, 4, 167, 0, 4, 3, 100, 54, 4, 132, 5, 1]
abbrev dktX10_follower_1 : List UInt8 := dkwX10_follower_1 ++ dktX10_follower_2
def dkwX10_follower_0 : List UInt8 := [29, 54, 4, 28, 4, 96, 54, 5, 42, 27, 21, 5, 28, 182, 1, 64, 153, 0, 8, 21, 4, 158, 0, 30]
abbrev dktX10_follower_0 : List UInt8 := dkwX10_follower_0 ++ dktX10_follower_1
theorem dksX10_follower_0 : cX10_follower.data.toList.drop 0 = dktX10_follower_0 := by decide +kernel
theorem dksX10_follower_1 : cX10_follower.data.toList.drop 24 = dktX10_follower_1 := dk_seg dksX10_follower_0 24 rfl rfl
theorem dksX10_follower_2 : cX10_follower.data.toList.drop 48 = dktX10_follower_2 := dk_seg dksX10_follower_1 24 rfl rfl
theorem dX10_follower_0 : decode cX10_follower 0 = .ok (.iload_n 3, 1) := dk_29 (dk_at dksX10_follower_0 0 rfl rfl)
theorem dX10_follower_1 : decode cX10_follower 1 = .ok (.istore 4, 2) := dk_54 4 (dk_at dksX10_follower_0 1 rfl rfl)
theorem dX10_follower_3 : decode cX10_follower 3 = .ok (.iload_n 2, 1) := dk_28 (dk_at dksX10_follower_0 3 rfl rfl)
theorem dX10_follower_4 : decode cX10_follower 4 = .ok (.iconst 1, 1) := dk_4 (dk_at dksX10_follower_0 4 rfl rfl)
theorem dX10_follower_5 : decode cX10_follower 5 = .ok (.iadd, 1) := dk_96 (dk_at dksX10_follower_0 5 rfl rfl)
theorem dX10_follower_6 : decode cX10_follower 6 = .ok (.istore 5, 2) := dk_54 5 (dk_at dksX10_follower_0 6 rfl rfl)
theorem dX10_follower_8 : decode cX10_follower 8 = .ok (.aload_n 0, 1) := dk_42 (dk_at dksX10_follower_0 8 rfl rfl)
theorem dX10_follower_9 : decode cX10_follower 9 = .ok (.iload_n 1, 1) := dk_27 (dk_at dksX10_follower_0 9 rfl rfl)
theorem dX10_follower_10 : decode cX10_follower 10 = .ok (.iload 5, 2) := dk_21 5 (dk_at dksX10_follower_0 10 rfl rfl)
theorem dX10_follower_12 : decode cX10_follower 12 = .ok (.iload_n 2, 1) := dk_28 (dk_at dksX10_follower_0 12 rfl rfl)
theorem dX10_follower_13 : decode cX10_follower 13 = .ok (.invokevirtual 320, 3) := dk_182 1 64 (dk_at dksX10_follower_0 13 rfl rfl)
theorem dX10_follower_16 : decode cX10_follower 16 = .ok (.ifCond .eq 8, 3) := dk_153 0 8 (dk_at dksX10_follower_0 16 rfl rfl)
theorem dX10_follower_19 : decode cX10_follower 19 = .ok (.iload 4, 2) := dk_21 4 (dk_at dksX10_follower_0 19 rfl rfl)
theorem dX10_follower_21 : decode cX10_follower 21 = .ok (.ifCond .le 30, 3) := dk_158 0 30 (dk_at dksX10_follower_0 21 rfl rfl)
theorem dX10_follower_24 : decode cX10_follower 24 = .ok (.iload 4, 2) := dk_21 4 (dk_at dksX10_follower_1 0 rfl rfl)
theorem dX10_follower_26 : decode cX10_follower 26 = .ok (.aload_n 0, 1) := dk_42 (dk_at dksX10_follower_1 2 rfl rfl)
theorem dX10_follower_27 : decode cX10_follower 27 = .ok (.iload_n 1, 1) := dk_27 (dk_at dksX10_follower_1 3 rfl rfl)
theorem dX10_follower_28 : decode cX10_follower 28 = .ok (.iload 5, 2) := dk_21 5 (dk_at dksX10_follower_1 4 rfl rfl)
theorem dX10_follower_30 : decode cX10_follower 30 = .ok (.iload_n 2, 1) := dk_28 (dk_at dksX10_follower_1 6 rfl rfl)
theorem dX10_follower_31 : decode cX10_follower 31 = .ok (.invokevirtual 320, 3) := dk_182 1 64 (dk_at dksX10_follower_1 7 rfl rfl)
theorem dX10_follower_34 : decode cX10_follower 34 = .ok (.ifCond .eq 7, 3) := dk_153 0 7 (dk_at dksX10_follower_1 10 rfl rfl)
theorem dX10_follower_37 : decode cX10_follower 37 = .ok (.iconst 1, 1) := dk_4 (dk_at dksX10_follower_1 13 rfl rfl)
theorem dX10_follower_38 : decode cX10_follower 38 = .ok (.goto 4, 3) := dk_167 0 4 (dk_at dksX10_follower_1 14 rfl rfl)
theorem dX10_follower_41 : decode cX10_follower 41 = .ok (.iconst 0, 1) := dk_3 (dk_at dksX10_follower_1 17 rfl rfl)
theorem dX10_follower_42 : decode cX10_follower 42 = .ok (.isub, 1) := dk_100 (dk_at dksX10_follower_1 18 rfl rfl)
theorem dX10_follower_43 : decode cX10_follower 43 = .ok (.istore 4, 2) := dk_54 4 (dk_at dksX10_follower_1 19 rfl rfl)
theorem dX10_follower_45 : decode cX10_follower 45 = .ok (.iinc 5 1, 3) := dk_132 5 1 (dk_at dksX10_follower_1 21 rfl rfl)
theorem dX10_follower_48 : decode cX10_follower 48 = .ok (.goto (-40), 3) := dk_167 255 216 (dk_at dksX10_follower_2 0 rfl rfl)
theorem dX10_follower_51 : decode cX10_follower 51 = .ok (.iload 5, 2) := dk_21 5 (dk_at dksX10_follower_2 3 rfl rfl)
theorem dX10_follower_53 : decode cX10_follower 53 = .ok (.ireturn, 1) := dk_172 (dk_at dksX10_follower_2 5 rfl rfl)
abbrev cX10_answer : ByteArray := prog_18_method_65_code
def yX10_answer : MethodName := ⟨RX10, "answer", "(III)I"⟩
def dkwX10_answer_3 : List UInt8 := [54, 4, 21, 5, 21, 4, 184, 1, 146, 54, 5, 167, 255, 219, 21, 5, 172]
abbrev dktX10_answer_3 : List UInt8 := dkwX10_answer_3 ++ []
def dkwX10_answer_2 : List UInt8 := [21, 4, 182, 1, 68, 158, 0, 33, 42, 27, 21, 4, 28, 42, 27, 21, 4, 182, 1, 68, 112, 182, 1, 140]
abbrev dktX10_answer_2 : List UInt8 := dkwX10_answer_2 ++ dktX10_answer_3
def dkwX10_answer_1 : List UInt8 := [20, 1, 144, 184, 0, 152, 154, 0, 6, 16, 254, 172, 3, 54, 4, 29, 3, 184, 1, 146, 54, 5, 42, 27]
abbrev dktX10_answer_1 : List UInt8 := dkwX10_answer_1 ++ dktX10_answer_2
def dkwX10_answer_0 : List UInt8 := [42, 27, 182, 1, 77, 153, 0, 27, 28, 133, 9, 20, 1, 138, 184, 0, 152, 153, 0, 15, 29, 133, 9]
abbrev dktX10_answer_0 : List UInt8 := dkwX10_answer_0 ++ dktX10_answer_1
theorem dksX10_answer_0 : cX10_answer.data.toList.drop 0 = dktX10_answer_0 := by decide +kernel
theorem dksX10_answer_1 : cX10_answer.data.toList.drop 23 = dktX10_answer_1 := dk_seg dksX10_answer_0 23 rfl rfl
theorem dksX10_answer_2 : cX10_answer.data.toList.drop 47 = dktX10_answer_2 := dk_seg dksX10_answer_1 24 rfl rfl
theorem dksX10_answer_3 : cX10_answer.data.toList.drop 71 = dktX10_answer_3 := dk_seg dksX10_answer_2 24 rfl rfl
theorem dX10_answer_0 : decode cX10_answer 0 = .ok (.aload_n 0, 1) := dk_42 (dk_at dksX10_answer_0 0 rfl rfl)
theorem dX10_answer_1 : decode cX10_answer 1 = .ok (.iload_n 1, 1) := dk_27 (dk_at dksX10_answer_0 1 rfl rfl)
theorem dX10_answer_2 : decode cX10_answer 2 = .ok (.invokevirtual 333, 3) := dk_182 1 77 (dk_at dksX10_answer_0 2 rfl rfl)
theorem dX10_answer_5 : decode cX10_answer 5 = .ok (.ifCond .eq 27, 3) := dk_153 0 27 (dk_at dksX10_answer_0 5 rfl rfl)
theorem dX10_answer_8 : decode cX10_answer 8 = .ok (.iload_n 2, 1) := dk_28 (dk_at dksX10_answer_0 8 rfl rfl)
theorem dX10_answer_9 : decode cX10_answer 9 = .ok (.i2l, 1) := dk_133 (dk_at dksX10_answer_0 9 rfl rfl)
theorem dX10_answer_10 : decode cX10_answer 10 = .ok (.lconst 0, 1) := dk_9 (dk_at dksX10_answer_0 10 rfl rfl)
theorem dX10_answer_11 : decode cX10_answer 11 = .ok (.ldc2_w 394, 3) := dk_20 1 138 (dk_at dksX10_answer_0 11 rfl rfl)
theorem dX10_answer_14 : decode cX10_answer 14 = .ok (.invokestatic 152, 3) := dk_184 0 152 (dk_at dksX10_answer_0 14 rfl rfl)
theorem dX10_answer_17 : decode cX10_answer 17 = .ok (.ifCond .eq 15, 3) := dk_153 0 15 (dk_at dksX10_answer_0 17 rfl rfl)
theorem dX10_answer_20 : decode cX10_answer 20 = .ok (.iload_n 3, 1) := dk_29 (dk_at dksX10_answer_0 20 rfl rfl)
theorem dX10_answer_21 : decode cX10_answer 21 = .ok (.i2l, 1) := dk_133 (dk_at dksX10_answer_0 21 rfl rfl)
theorem dX10_answer_22 : decode cX10_answer 22 = .ok (.lconst 0, 1) := dk_9 (dk_at dksX10_answer_0 22 rfl rfl)
theorem dX10_answer_23 : decode cX10_answer 23 = .ok (.ldc2_w 400, 3) := dk_20 1 144 (dk_at dksX10_answer_1 0 rfl rfl)
theorem dX10_answer_26 : decode cX10_answer 26 = .ok (.invokestatic 152, 3) := dk_184 0 152 (dk_at dksX10_answer_1 3 rfl rfl)
theorem dX10_answer_29 : decode cX10_answer 29 = .ok (.ifCond .ne 6, 3) := dk_154 0 6 (dk_at dksX10_answer_1 6 rfl rfl)
theorem dX10_answer_32 : decode cX10_answer 32 = .ok (.bipush (-2), 2) := dk_16 254 (dk_at dksX10_answer_1 9 rfl rfl)
theorem dX10_answer_34 : decode cX10_answer 34 = .ok (.ireturn, 1) := dk_172 (dk_at dksX10_answer_1 11 rfl rfl)
theorem dX10_answer_35 : decode cX10_answer 35 = .ok (.iconst 0, 1) := dk_3 (dk_at dksX10_answer_1 12 rfl rfl)
theorem dX10_answer_36 : decode cX10_answer 36 = .ok (.istore 4, 2) := dk_54 4 (dk_at dksX10_answer_1 13 rfl rfl)
theorem dX10_answer_38 : decode cX10_answer 38 = .ok (.iload_n 3, 1) := dk_29 (dk_at dksX10_answer_1 15 rfl rfl)
theorem dX10_answer_39 : decode cX10_answer 39 = .ok (.iconst 0, 1) := dk_3 (dk_at dksX10_answer_1 16 rfl rfl)
theorem dX10_answer_40 : decode cX10_answer 40 = .ok (.invokestatic 402, 3) := dk_184 1 146 (dk_at dksX10_answer_1 17 rfl rfl)
theorem dX10_answer_43 : decode cX10_answer 43 = .ok (.istore 5, 2) := dk_54 5 (dk_at dksX10_answer_1 20 rfl rfl)
theorem dX10_answer_45 : decode cX10_answer 45 = .ok (.aload_n 0, 1) := dk_42 (dk_at dksX10_answer_1 22 rfl rfl)
theorem dX10_answer_46 : decode cX10_answer 46 = .ok (.iload_n 1, 1) := dk_27 (dk_at dksX10_answer_1 23 rfl rfl)
theorem dX10_answer_47 : decode cX10_answer 47 = .ok (.iload 4, 2) := dk_21 4 (dk_at dksX10_answer_2 0 rfl rfl)
theorem dX10_answer_49 : decode cX10_answer 49 = .ok (.invokevirtual 324, 3) := dk_182 1 68 (dk_at dksX10_answer_2 2 rfl rfl)
theorem dX10_answer_52 : decode cX10_answer 52 = .ok (.ifCond .le 33, 3) := dk_158 0 33 (dk_at dksX10_answer_2 5 rfl rfl)
theorem dX10_answer_55 : decode cX10_answer 55 = .ok (.aload_n 0, 1) := dk_42 (dk_at dksX10_answer_2 8 rfl rfl)
theorem dX10_answer_56 : decode cX10_answer 56 = .ok (.iload_n 1, 1) := dk_27 (dk_at dksX10_answer_2 9 rfl rfl)
theorem dX10_answer_57 : decode cX10_answer 57 = .ok (.iload 4, 2) := dk_21 4 (dk_at dksX10_answer_2 10 rfl rfl)
theorem dX10_answer_59 : decode cX10_answer 59 = .ok (.iload_n 2, 1) := dk_28 (dk_at dksX10_answer_2 12 rfl rfl)
theorem dX10_answer_60 : decode cX10_answer 60 = .ok (.aload_n 0, 1) := dk_42 (dk_at dksX10_answer_2 13 rfl rfl)
theorem dX10_answer_61 : decode cX10_answer 61 = .ok (.iload_n 1, 1) := dk_27 (dk_at dksX10_answer_2 14 rfl rfl)
theorem dX10_answer_62 : decode cX10_answer 62 = .ok (.iload 4, 2) := dk_21 4 (dk_at dksX10_answer_2 15 rfl rfl)
theorem dX10_answer_64 : decode cX10_answer 64 = .ok (.invokevirtual 324, 3) := dk_182 1 68 (dk_at dksX10_answer_2 17 rfl rfl)
theorem dX10_answer_67 : decode cX10_answer 67 = .ok (.irem, 1) := dk_112 (dk_at dksX10_answer_2 20 rfl rfl)
theorem dX10_answer_68 : decode cX10_answer 68 = .ok (.invokevirtual 396, 3) := dk_182 1 140 (dk_at dksX10_answer_2 21 rfl rfl)
theorem dX10_answer_71 : decode cX10_answer 71 = .ok (.istore 4, 2) := dk_54 4 (dk_at dksX10_answer_3 0 rfl rfl)
theorem dX10_answer_73 : decode cX10_answer 73 = .ok (.iload 5, 2) := dk_21 5 (dk_at dksX10_answer_3 2 rfl rfl)
theorem dX10_answer_75 : decode cX10_answer 75 = .ok (.iload 4, 2) := dk_21 4 (dk_at dksX10_answer_3 4 rfl rfl)
theorem dX10_answer_77 : decode cX10_answer 77 = .ok (.invokestatic 402, 3) := dk_184 1 146 (dk_at dksX10_answer_3 6 rfl rfl)
theorem dX10_answer_80 : decode cX10_answer 80 = .ok (.istore 5, 2) := dk_54 5 (dk_at dksX10_answer_3 9 rfl rfl)
theorem dX10_answer_82 : decode cX10_answer 82 = .ok (.goto (-37), 3) := dk_167 255 219 (dk_at dksX10_answer_3 11 rfl rfl)
theorem dX10_answer_85 : decode cX10_answer 85 = .ok (.iload 5, 2) := dk_21 5 (dk_at dksX10_answer_3 14 rfl rfl)
theorem dX10_answer_87 : decode cX10_answer 87 = .ok (.ireturn, 1) := dk_172 (dk_at dksX10_answer_3 16 rfl rfl)
abbrev cX10_answered : ByteArray := prog_18_method_63_code
def yX10_answered : MethodName := ⟨RX10, "answered", "(II)I"⟩
def dkwX10_answered_0 : List UInt8 := [8, 26, 104, 27, 96, 4, 96, 16, 64, 112, 172]
abbrev dktX10_answered_0 : List UInt8 := dkwX10_answered_0 ++ []
theorem dksX10_answered_0 : cX10_answered.data.toList.drop 0 = dktX10_answered_0 := by decide +kernel
theorem dX10_answered_0 : decode cX10_answered 0 = .ok (.iconst 5, 1) := dk_8 (dk_at dksX10_answered_0 0 rfl rfl)
theorem dX10_answered_1 : decode cX10_answered 1 = .ok (.iload_n 0, 1) := dk_26 (dk_at dksX10_answered_0 1 rfl rfl)
theorem dX10_answered_2 : decode cX10_answered 2 = .ok (.imul, 1) := dk_104 (dk_at dksX10_answered_0 2 rfl rfl)
theorem dX10_answered_3 : decode cX10_answered 3 = .ok (.iload_n 1, 1) := dk_27 (dk_at dksX10_answered_0 3 rfl rfl)
theorem dX10_answered_4 : decode cX10_answered 4 = .ok (.iadd, 1) := dk_96 (dk_at dksX10_answered_0 4 rfl rfl)
theorem dX10_answered_5 : decode cX10_answered 5 = .ok (.iconst 1, 1) := dk_4 (dk_at dksX10_answered_0 5 rfl rfl)
theorem dX10_answered_6 : decode cX10_answered 6 = .ok (.iadd, 1) := dk_96 (dk_at dksX10_answered_0 6 rfl rfl)
theorem dX10_answered_7 : decode cX10_answered 7 = .ok (.bipush 64, 2) := dk_16 64 (dk_at dksX10_answered_0 7 rfl rfl)
theorem dX10_answered_9 : decode cX10_answered 9 = .ok (.irem, 1) := dk_112 (dk_at dksX10_answered_0 9 rfl rfl)
theorem dX10_answered_10 : decode cX10_answered 10 = .ok (.ireturn, 1) := dk_172 (dk_at dksX10_answered_0 10 rfl rfl)
abbrev cX10_alike : ByteArray := prog_18_method_67_code
def yX10_alike : MethodName := ⟨RX10, "alike", "(II)I"⟩
def dkwX10_alike_3 : List UInt8 := [180, 0, 52, 21, 4, 46, 4, 100, 104, 5, 108, 96, 62, 132, 4, 1, 167, 255, 224, 29, 172]
abbrev dktX10_alike_3 : List UInt8 := dkwX10_alike_3 ++ []
def dkwX10_alike_2 : List UInt8 := [182, 1, 149, 3, 62, 3, 54, 4, 21, 4, 16, 64, 162, 0, 31, 29, 42, 180, 0, 52, 21, 4, 46, 42]
abbrev dktX10_alike_2 : List UInt8 := dkwX10_alike_2 ++ dktX10_alike_3
def dkwX10_alike_1 : List UInt8 := [62, 29, 16, 64, 162, 0, 16, 42, 180, 0, 52, 29, 3, 79, 132, 3, 1, 167, 255, 240, 42, 27, 3, 28]
abbrev dktX10_alike_1 : List UInt8 := dkwX10_alike_1 ++ dktX10_alike_2
def dkwX10_alike_0 : List UInt8 := [42, 27, 182, 1, 77, 153, 0, 15, 28, 133, 9, 20, 1, 144, 184, 0, 152, 154, 0, 6, 16, 254, 172, 3]
abbrev dktX10_alike_0 : List UInt8 := dkwX10_alike_0 ++ dktX10_alike_1
theorem dksX10_alike_0 : cX10_alike.data.toList.drop 0 = dktX10_alike_0 := by decide +kernel
theorem dksX10_alike_1 : cX10_alike.data.toList.drop 24 = dktX10_alike_1 := dk_seg dksX10_alike_0 24 rfl rfl
theorem dksX10_alike_2 : cX10_alike.data.toList.drop 48 = dktX10_alike_2 := dk_seg dksX10_alike_1 24 rfl rfl
theorem dksX10_alike_3 : cX10_alike.data.toList.drop 72 = dktX10_alike_3 := dk_seg dksX10_alike_2 24 rfl rfl
theorem dX10_alike_0 : decode cX10_alike 0 = .ok (.aload_n 0, 1) := dk_42 (dk_at dksX10_alike_0 0 rfl rfl)
theorem dX10_alike_1 : decode cX10_alike 1 = .ok (.iload_n 1, 1) := dk_27 (dk_at dksX10_alike_0 1 rfl rfl)
theorem dX10_alike_2 : decode cX10_alike 2 = .ok (.invokevirtual 333, 3) := dk_182 1 77 (dk_at dksX10_alike_0 2 rfl rfl)
theorem dX10_alike_5 : decode cX10_alike 5 = .ok (.ifCond .eq 15, 3) := dk_153 0 15 (dk_at dksX10_alike_0 5 rfl rfl)
theorem dX10_alike_8 : decode cX10_alike 8 = .ok (.iload_n 2, 1) := dk_28 (dk_at dksX10_alike_0 8 rfl rfl)
theorem dX10_alike_9 : decode cX10_alike 9 = .ok (.i2l, 1) := dk_133 (dk_at dksX10_alike_0 9 rfl rfl)
theorem dX10_alike_10 : decode cX10_alike 10 = .ok (.lconst 0, 1) := dk_9 (dk_at dksX10_alike_0 10 rfl rfl)
theorem dX10_alike_11 : decode cX10_alike 11 = .ok (.ldc2_w 400, 3) := dk_20 1 144 (dk_at dksX10_alike_0 11 rfl rfl)
theorem dX10_alike_14 : decode cX10_alike 14 = .ok (.invokestatic 152, 3) := dk_184 0 152 (dk_at dksX10_alike_0 14 rfl rfl)
theorem dX10_alike_17 : decode cX10_alike 17 = .ok (.ifCond .ne 6, 3) := dk_154 0 6 (dk_at dksX10_alike_0 17 rfl rfl)
theorem dX10_alike_20 : decode cX10_alike 20 = .ok (.bipush (-2), 2) := dk_16 254 (dk_at dksX10_alike_0 20 rfl rfl)
theorem dX10_alike_22 : decode cX10_alike 22 = .ok (.ireturn, 1) := dk_172 (dk_at dksX10_alike_0 22 rfl rfl)
theorem dX10_alike_23 : decode cX10_alike 23 = .ok (.iconst 0, 1) := dk_3 (dk_at dksX10_alike_0 23 rfl rfl)
theorem dX10_alike_24 : decode cX10_alike 24 = .ok (.istore_n 3, 1) := dk_62 (dk_at dksX10_alike_1 0 rfl rfl)
theorem dX10_alike_25 : decode cX10_alike 25 = .ok (.iload_n 3, 1) := dk_29 (dk_at dksX10_alike_1 1 rfl rfl)
theorem dX10_alike_26 : decode cX10_alike 26 = .ok (.bipush 64, 2) := dk_16 64 (dk_at dksX10_alike_1 2 rfl rfl)
theorem dX10_alike_28 : decode cX10_alike 28 = .ok (.if_icmp .ge 16, 3) := dk_162 0 16 (dk_at dksX10_alike_1 4 rfl rfl)
theorem dX10_alike_31 : decode cX10_alike 31 = .ok (.aload_n 0, 1) := dk_42 (dk_at dksX10_alike_1 7 rfl rfl)
theorem dX10_alike_32 : decode cX10_alike 32 = .ok (.getfield 52, 3) := dk_180 0 52 (dk_at dksX10_alike_1 8 rfl rfl)
theorem dX10_alike_35 : decode cX10_alike 35 = .ok (.iload_n 3, 1) := dk_29 (dk_at dksX10_alike_1 11 rfl rfl)
theorem dX10_alike_36 : decode cX10_alike 36 = .ok (.iconst 0, 1) := dk_3 (dk_at dksX10_alike_1 12 rfl rfl)
theorem dX10_alike_37 : decode cX10_alike 37 = .ok (.iastore, 1) := dk_79 (dk_at dksX10_alike_1 13 rfl rfl)
theorem dX10_alike_38 : decode cX10_alike 38 = .ok (.iinc 3 1, 3) := dk_132 3 1 (dk_at dksX10_alike_1 14 rfl rfl)
theorem dX10_alike_41 : decode cX10_alike 41 = .ok (.goto (-16), 3) := dk_167 255 240 (dk_at dksX10_alike_1 17 rfl rfl)
theorem dX10_alike_44 : decode cX10_alike 44 = .ok (.aload_n 0, 1) := dk_42 (dk_at dksX10_alike_1 20 rfl rfl)
theorem dX10_alike_45 : decode cX10_alike 45 = .ok (.iload_n 1, 1) := dk_27 (dk_at dksX10_alike_1 21 rfl rfl)
theorem dX10_alike_46 : decode cX10_alike 46 = .ok (.iconst 0, 1) := dk_3 (dk_at dksX10_alike_1 22 rfl rfl)
theorem dX10_alike_47 : decode cX10_alike 47 = .ok (.iload_n 2, 1) := dk_28 (dk_at dksX10_alike_1 23 rfl rfl)
theorem dX10_alike_48 : decode cX10_alike 48 = .ok (.invokevirtual 405, 3) := dk_182 1 149 (dk_at dksX10_alike_2 0 rfl rfl)
theorem dX10_alike_51 : decode cX10_alike 51 = .ok (.iconst 0, 1) := dk_3 (dk_at dksX10_alike_2 3 rfl rfl)
theorem dX10_alike_52 : decode cX10_alike 52 = .ok (.istore_n 3, 1) := dk_62 (dk_at dksX10_alike_2 4 rfl rfl)
theorem dX10_alike_53 : decode cX10_alike 53 = .ok (.iconst 0, 1) := dk_3 (dk_at dksX10_alike_2 5 rfl rfl)
theorem dX10_alike_54 : decode cX10_alike 54 = .ok (.istore 4, 2) := dk_54 4 (dk_at dksX10_alike_2 6 rfl rfl)
theorem dX10_alike_56 : decode cX10_alike 56 = .ok (.iload 4, 2) := dk_21 4 (dk_at dksX10_alike_2 8 rfl rfl)
theorem dX10_alike_58 : decode cX10_alike 58 = .ok (.bipush 64, 2) := dk_16 64 (dk_at dksX10_alike_2 10 rfl rfl)
theorem dX10_alike_60 : decode cX10_alike 60 = .ok (.if_icmp .ge 31, 3) := dk_162 0 31 (dk_at dksX10_alike_2 12 rfl rfl)
theorem dX10_alike_63 : decode cX10_alike 63 = .ok (.iload_n 3, 1) := dk_29 (dk_at dksX10_alike_2 15 rfl rfl)
theorem dX10_alike_64 : decode cX10_alike 64 = .ok (.aload_n 0, 1) := dk_42 (dk_at dksX10_alike_2 16 rfl rfl)
theorem dX10_alike_65 : decode cX10_alike 65 = .ok (.getfield 52, 3) := dk_180 0 52 (dk_at dksX10_alike_2 17 rfl rfl)
theorem dX10_alike_68 : decode cX10_alike 68 = .ok (.iload 4, 2) := dk_21 4 (dk_at dksX10_alike_2 20 rfl rfl)
theorem dX10_alike_70 : decode cX10_alike 70 = .ok (.iaload, 1) := dk_46 (dk_at dksX10_alike_2 22 rfl rfl)
theorem dX10_alike_71 : decode cX10_alike 71 = .ok (.aload_n 0, 1) := dk_42 (dk_at dksX10_alike_2 23 rfl rfl)
theorem dX10_alike_72 : decode cX10_alike 72 = .ok (.getfield 52, 3) := dk_180 0 52 (dk_at dksX10_alike_3 0 rfl rfl)
theorem dX10_alike_75 : decode cX10_alike 75 = .ok (.iload 4, 2) := dk_21 4 (dk_at dksX10_alike_3 3 rfl rfl)
theorem dX10_alike_77 : decode cX10_alike 77 = .ok (.iaload, 1) := dk_46 (dk_at dksX10_alike_3 5 rfl rfl)
theorem dX10_alike_78 : decode cX10_alike 78 = .ok (.iconst 1, 1) := dk_4 (dk_at dksX10_alike_3 6 rfl rfl)
theorem dX10_alike_79 : decode cX10_alike 79 = .ok (.isub, 1) := dk_100 (dk_at dksX10_alike_3 7 rfl rfl)
theorem dX10_alike_80 : decode cX10_alike 80 = .ok (.imul, 1) := dk_104 (dk_at dksX10_alike_3 8 rfl rfl)
theorem dX10_alike_81 : decode cX10_alike 81 = .ok (.iconst 2, 1) := dk_5 (dk_at dksX10_alike_3 9 rfl rfl)
theorem dX10_alike_82 : decode cX10_alike 82 = .ok (.idiv, 1) := dk_108 (dk_at dksX10_alike_3 10 rfl rfl)
theorem dX10_alike_83 : decode cX10_alike 83 = .ok (.iadd, 1) := dk_96 (dk_at dksX10_alike_3 11 rfl rfl)
theorem dX10_alike_84 : decode cX10_alike 84 = .ok (.istore_n 3, 1) := dk_62 (dk_at dksX10_alike_3 12 rfl rfl)
theorem dX10_alike_85 : decode cX10_alike 85 = .ok (.iinc 4 1, 3) := dk_132 4 1 (dk_at dksX10_alike_3 13 rfl rfl)
theorem dX10_alike_88 : decode cX10_alike 88 = .ok (.goto (-32), 3) := dk_167 255 224 (dk_at dksX10_alike_3 16 rfl rfl)
theorem dX10_alike_91 : decode cX10_alike 91 = .ok (.iload_n 3, 1) := dk_29 (dk_at dksX10_alike_3 19 rfl rfl)
theorem dX10_alike_92 : decode cX10_alike 92 = .ok (.ireturn, 1) := dk_172 (dk_at dksX10_alike_3 20 rfl rfl)
abbrev cX10_goesWays : ByteArray := prog_18_method_66_code
def yX10_goesWays : MethodName := ⟨RX10, "goesWays", "(III)V"⟩
def dkwX10_goesWays_2 : List UInt8 := [182, 1, 64, 153, 0, 12, 42, 27, 21, 5, 21, 4, 182, 1, 149, 132, 5, 1, 167, 255, 223, 177]
abbrev dktX10_goesWays_2 : List UInt8 := dkwX10_goesWays_2 ++ []
def dkwX10_goesWays_1 : List UInt8 := [4, 96, 79, 28, 4, 96, 54, 5, 21, 5, 42, 27, 182, 1, 61, 162, 0, 29, 42, 27, 21, 5, 28]
abbrev dktX10_goesWays_1 : List UInt8 := dkwX10_goesWays_1 ++ dktX10_goesWays_2
def dkwX10_goesWays_0 : List UInt8 := [29, 28, 184, 1, 146, 54, 4, 42, 27, 28, 182, 1, 68, 154, 0, 14, 42, 180, 0, 52, 21, 4, 92, 46]
abbrev dktX10_goesWays_0 : List UInt8 := dkwX10_goesWays_0 ++ dktX10_goesWays_1
theorem dksX10_goesWays_0 : cX10_goesWays.data.toList.drop 0 = dktX10_goesWays_0 := by decide +kernel
theorem dksX10_goesWays_1 : cX10_goesWays.data.toList.drop 24 = dktX10_goesWays_1 := dk_seg dksX10_goesWays_0 24 rfl rfl
theorem dksX10_goesWays_2 : cX10_goesWays.data.toList.drop 47 = dktX10_goesWays_2 := dk_seg dksX10_goesWays_1 23 rfl rfl
theorem dX10_goesWays_0 : decode cX10_goesWays 0 = .ok (.iload_n 3, 1) := dk_29 (dk_at dksX10_goesWays_0 0 rfl rfl)
theorem dX10_goesWays_1 : decode cX10_goesWays 1 = .ok (.iload_n 2, 1) := dk_28 (dk_at dksX10_goesWays_0 1 rfl rfl)
theorem dX10_goesWays_2 : decode cX10_goesWays 2 = .ok (.invokestatic 402, 3) := dk_184 1 146 (dk_at dksX10_goesWays_0 2 rfl rfl)
theorem dX10_goesWays_5 : decode cX10_goesWays 5 = .ok (.istore 4, 2) := dk_54 4 (dk_at dksX10_goesWays_0 5 rfl rfl)
theorem dX10_goesWays_7 : decode cX10_goesWays 7 = .ok (.aload_n 0, 1) := dk_42 (dk_at dksX10_goesWays_0 7 rfl rfl)
theorem dX10_goesWays_8 : decode cX10_goesWays 8 = .ok (.iload_n 1, 1) := dk_27 (dk_at dksX10_goesWays_0 8 rfl rfl)
theorem dX10_goesWays_9 : decode cX10_goesWays 9 = .ok (.iload_n 2, 1) := dk_28 (dk_at dksX10_goesWays_0 9 rfl rfl)
theorem dX10_goesWays_10 : decode cX10_goesWays 10 = .ok (.invokevirtual 324, 3) := dk_182 1 68 (dk_at dksX10_goesWays_0 10 rfl rfl)
theorem dX10_goesWays_13 : decode cX10_goesWays 13 = .ok (.ifCond .ne 14, 3) := dk_154 0 14 (dk_at dksX10_goesWays_0 13 rfl rfl)
theorem dX10_goesWays_16 : decode cX10_goesWays 16 = .ok (.aload_n 0, 1) := dk_42 (dk_at dksX10_goesWays_0 16 rfl rfl)
theorem dX10_goesWays_17 : decode cX10_goesWays 17 = .ok (.getfield 52, 3) := dk_180 0 52 (dk_at dksX10_goesWays_0 17 rfl rfl)
theorem dX10_goesWays_20 : decode cX10_goesWays 20 = .ok (.iload 4, 2) := dk_21 4 (dk_at dksX10_goesWays_0 20 rfl rfl)
theorem dX10_goesWays_22 : decode cX10_goesWays 22 = .ok (.dup2, 1) := dk_92 (dk_at dksX10_goesWays_0 22 rfl rfl)
theorem dX10_goesWays_23 : decode cX10_goesWays 23 = .ok (.iaload, 1) := dk_46 (dk_at dksX10_goesWays_0 23 rfl rfl)
theorem dX10_goesWays_24 : decode cX10_goesWays 24 = .ok (.iconst 1, 1) := dk_4 (dk_at dksX10_goesWays_1 0 rfl rfl)
theorem dX10_goesWays_25 : decode cX10_goesWays 25 = .ok (.iadd, 1) := dk_96 (dk_at dksX10_goesWays_1 1 rfl rfl)
theorem dX10_goesWays_26 : decode cX10_goesWays 26 = .ok (.iastore, 1) := dk_79 (dk_at dksX10_goesWays_1 2 rfl rfl)
theorem dX10_goesWays_27 : decode cX10_goesWays 27 = .ok (.iload_n 2, 1) := dk_28 (dk_at dksX10_goesWays_1 3 rfl rfl)
theorem dX10_goesWays_28 : decode cX10_goesWays 28 = .ok (.iconst 1, 1) := dk_4 (dk_at dksX10_goesWays_1 4 rfl rfl)
theorem dX10_goesWays_29 : decode cX10_goesWays 29 = .ok (.iadd, 1) := dk_96 (dk_at dksX10_goesWays_1 5 rfl rfl)
theorem dX10_goesWays_30 : decode cX10_goesWays 30 = .ok (.istore 5, 2) := dk_54 5 (dk_at dksX10_goesWays_1 6 rfl rfl)
theorem dX10_goesWays_32 : decode cX10_goesWays 32 = .ok (.iload 5, 2) := dk_21 5 (dk_at dksX10_goesWays_1 8 rfl rfl)
theorem dX10_goesWays_34 : decode cX10_goesWays 34 = .ok (.aload_n 0, 1) := dk_42 (dk_at dksX10_goesWays_1 10 rfl rfl)
theorem dX10_goesWays_35 : decode cX10_goesWays 35 = .ok (.iload_n 1, 1) := dk_27 (dk_at dksX10_goesWays_1 11 rfl rfl)
theorem dX10_goesWays_36 : decode cX10_goesWays 36 = .ok (.invokevirtual 317, 3) := dk_182 1 61 (dk_at dksX10_goesWays_1 12 rfl rfl)
theorem dX10_goesWays_39 : decode cX10_goesWays 39 = .ok (.if_icmp .ge 29, 3) := dk_162 0 29 (dk_at dksX10_goesWays_1 15 rfl rfl)
theorem dX10_goesWays_42 : decode cX10_goesWays 42 = .ok (.aload_n 0, 1) := dk_42 (dk_at dksX10_goesWays_1 18 rfl rfl)
theorem dX10_goesWays_43 : decode cX10_goesWays 43 = .ok (.iload_n 1, 1) := dk_27 (dk_at dksX10_goesWays_1 19 rfl rfl)
theorem dX10_goesWays_44 : decode cX10_goesWays 44 = .ok (.iload 5, 2) := dk_21 5 (dk_at dksX10_goesWays_1 20 rfl rfl)
theorem dX10_goesWays_46 : decode cX10_goesWays 46 = .ok (.iload_n 2, 1) := dk_28 (dk_at dksX10_goesWays_1 22 rfl rfl)
theorem dX10_goesWays_47 : decode cX10_goesWays 47 = .ok (.invokevirtual 320, 3) := dk_182 1 64 (dk_at dksX10_goesWays_2 0 rfl rfl)
theorem dX10_goesWays_50 : decode cX10_goesWays 50 = .ok (.ifCond .eq 12, 3) := dk_153 0 12 (dk_at dksX10_goesWays_2 3 rfl rfl)
theorem dX10_goesWays_53 : decode cX10_goesWays 53 = .ok (.aload_n 0, 1) := dk_42 (dk_at dksX10_goesWays_2 6 rfl rfl)
theorem dX10_goesWays_54 : decode cX10_goesWays 54 = .ok (.iload_n 1, 1) := dk_27 (dk_at dksX10_goesWays_2 7 rfl rfl)
theorem dX10_goesWays_55 : decode cX10_goesWays 55 = .ok (.iload 5, 2) := dk_21 5 (dk_at dksX10_goesWays_2 8 rfl rfl)
theorem dX10_goesWays_57 : decode cX10_goesWays 57 = .ok (.iload 4, 2) := dk_21 4 (dk_at dksX10_goesWays_2 10 rfl rfl)
theorem dX10_goesWays_59 : decode cX10_goesWays 59 = .ok (.invokevirtual 405, 3) := dk_182 1 149 (dk_at dksX10_goesWays_2 12 rfl rfl)
theorem dX10_goesWays_62 : decode cX10_goesWays 62 = .ok (.iinc 5 1, 3) := dk_132 5 1 (dk_at dksX10_goesWays_2 15 rfl rfl)
theorem dX10_goesWays_65 : decode cX10_goesWays 65 = .ok (.goto (-33), 3) := dk_167 255 223 (dk_at dksX10_goesWays_2 18 rfl rfl)
theorem dX10_goesWays_68 : decode cX10_goesWays 68 = .ok (.return_, 1) := dk_177 (dk_at dksX10_goesWays_2 21 rfl rfl)
abbrev cX10_had : ByteArray := prog_18_method_97_code
def yX10_had : MethodName := ⟨RX10, "had", "(I)I"⟩
def dkwX10_had_1 : List UInt8 := [153, 0, 12, 42, 180, 0, 132, 27, 46, 167, 0, 5, 16, 254, 172]
abbrev dktX10_had_1 : List UInt8 := dkwX10_had_1 ++ []
def dkwX10_had_0 : List UInt8 := [42, 182, 2, 1, 153, 0, 30, 27, 133, 9, 42, 180, 0, 9, 3, 46, 4, 100, 133, 184, 0, 152]
abbrev dktX10_had_0 : List UInt8 := dkwX10_had_0 ++ dktX10_had_1
theorem dksX10_had_0 : cX10_had.data.toList.drop 0 = dktX10_had_0 := by decide +kernel
theorem dksX10_had_1 : cX10_had.data.toList.drop 22 = dktX10_had_1 := dk_seg dksX10_had_0 22 rfl rfl
theorem dX10_had_0 : decode cX10_had 0 = .ok (.aload_n 0, 1) := dk_42 (dk_at dksX10_had_0 0 rfl rfl)
theorem dX10_had_1 : decode cX10_had 1 = .ok (.invokevirtual 513, 3) := dk_182 2 1 (dk_at dksX10_had_0 1 rfl rfl)
theorem dX10_had_4 : decode cX10_had 4 = .ok (.ifCond .eq 30, 3) := dk_153 0 30 (dk_at dksX10_had_0 4 rfl rfl)
theorem dX10_had_7 : decode cX10_had 7 = .ok (.iload_n 1, 1) := dk_27 (dk_at dksX10_had_0 7 rfl rfl)
theorem dX10_had_8 : decode cX10_had 8 = .ok (.i2l, 1) := dk_133 (dk_at dksX10_had_0 8 rfl rfl)
theorem dX10_had_9 : decode cX10_had 9 = .ok (.lconst 0, 1) := dk_9 (dk_at dksX10_had_0 9 rfl rfl)
theorem dX10_had_10 : decode cX10_had 10 = .ok (.aload_n 0, 1) := dk_42 (dk_at dksX10_had_0 10 rfl rfl)
theorem dX10_had_11 : decode cX10_had 11 = .ok (.getfield 9, 3) := dk_180 0 9 (dk_at dksX10_had_0 11 rfl rfl)
theorem dX10_had_14 : decode cX10_had 14 = .ok (.iconst 0, 1) := dk_3 (dk_at dksX10_had_0 14 rfl rfl)
theorem dX10_had_15 : decode cX10_had 15 = .ok (.iaload, 1) := dk_46 (dk_at dksX10_had_0 15 rfl rfl)
theorem dX10_had_16 : decode cX10_had 16 = .ok (.iconst 1, 1) := dk_4 (dk_at dksX10_had_0 16 rfl rfl)
theorem dX10_had_17 : decode cX10_had 17 = .ok (.isub, 1) := dk_100 (dk_at dksX10_had_0 17 rfl rfl)
theorem dX10_had_18 : decode cX10_had 18 = .ok (.i2l, 1) := dk_133 (dk_at dksX10_had_0 18 rfl rfl)
theorem dX10_had_19 : decode cX10_had 19 = .ok (.invokestatic 152, 3) := dk_184 0 152 (dk_at dksX10_had_0 19 rfl rfl)
theorem dX10_had_22 : decode cX10_had 22 = .ok (.ifCond .eq 12, 3) := dk_153 0 12 (dk_at dksX10_had_1 0 rfl rfl)
theorem dX10_had_25 : decode cX10_had 25 = .ok (.aload_n 0, 1) := dk_42 (dk_at dksX10_had_1 3 rfl rfl)
theorem dX10_had_26 : decode cX10_had 26 = .ok (.getfield 132, 3) := dk_180 0 132 (dk_at dksX10_had_1 4 rfl rfl)
theorem dX10_had_29 : decode cX10_had 29 = .ok (.iload_n 1, 1) := dk_27 (dk_at dksX10_had_1 7 rfl rfl)
theorem dX10_had_30 : decode cX10_had 30 = .ok (.iaload, 1) := dk_46 (dk_at dksX10_had_1 8 rfl rfl)
theorem dX10_had_31 : decode cX10_had 31 = .ok (.goto 5, 3) := dk_167 0 5 (dk_at dksX10_had_1 9 rfl rfl)
theorem dX10_had_34 : decode cX10_had 34 = .ok (.bipush (-2), 2) := dk_16 254 (dk_at dksX10_had_1 12 rfl rfl)
theorem dX10_had_36 : decode cX10_had 36 = .ok (.ireturn, 1) := dk_172 (dk_at dksX10_had_1 14 rfl rfl)
abbrev cX10_asks : ByteArray := prog_18_method_93_code
def yX10_asks : MethodName := ⟨RX10, "asks", "()Z"⟩
def dkwX10_asks_1 : List UInt8 := [182, 1, 116, 172]
abbrev dktX10_asks_1 : List UInt8 := dkwX10_asks_1 ++ []
def dkwX10_asks_0 : List UInt8 := [42, 182, 1, 245, 42, 182, 1, 116, 153, 0, 13, 42, 42, 180, 0, 9, 3, 46, 182, 1, 248, 42]
abbrev dktX10_asks_0 : List UInt8 := dkwX10_asks_0 ++ dktX10_asks_1
theorem dksX10_asks_0 : cX10_asks.data.toList.drop 0 = dktX10_asks_0 := by decide +kernel
theorem dksX10_asks_1 : cX10_asks.data.toList.drop 22 = dktX10_asks_1 := dk_seg dksX10_asks_0 22 rfl rfl
theorem dX10_asks_0 : decode cX10_asks 0 = .ok (.aload_n 0, 1) := dk_42 (dk_at dksX10_asks_0 0 rfl rfl)
theorem dX10_asks_1 : decode cX10_asks 1 = .ok (.invokevirtual 501, 3) := dk_182 1 245 (dk_at dksX10_asks_0 1 rfl rfl)
theorem dX10_asks_4 : decode cX10_asks 4 = .ok (.aload_n 0, 1) := dk_42 (dk_at dksX10_asks_0 4 rfl rfl)
theorem dX10_asks_5 : decode cX10_asks 5 = .ok (.invokevirtual 372, 3) := dk_182 1 116 (dk_at dksX10_asks_0 5 rfl rfl)
theorem dX10_asks_8 : decode cX10_asks 8 = .ok (.ifCond .eq 13, 3) := dk_153 0 13 (dk_at dksX10_asks_0 8 rfl rfl)
theorem dX10_asks_11 : decode cX10_asks 11 = .ok (.aload_n 0, 1) := dk_42 (dk_at dksX10_asks_0 11 rfl rfl)
theorem dX10_asks_12 : decode cX10_asks 12 = .ok (.aload_n 0, 1) := dk_42 (dk_at dksX10_asks_0 12 rfl rfl)
theorem dX10_asks_13 : decode cX10_asks 13 = .ok (.getfield 9, 3) := dk_180 0 9 (dk_at dksX10_asks_0 13 rfl rfl)
theorem dX10_asks_16 : decode cX10_asks 16 = .ok (.iconst 0, 1) := dk_3 (dk_at dksX10_asks_0 16 rfl rfl)
theorem dX10_asks_17 : decode cX10_asks 17 = .ok (.iaload, 1) := dk_46 (dk_at dksX10_asks_0 17 rfl rfl)
theorem dX10_asks_18 : decode cX10_asks 18 = .ok (.invokevirtual 504, 3) := dk_182 1 248 (dk_at dksX10_asks_0 18 rfl rfl)
theorem dX10_asks_21 : decode cX10_asks 21 = .ok (.aload_n 0, 1) := dk_42 (dk_at dksX10_asks_0 21 rfl rfl)
theorem dX10_asks_22 : decode cX10_asks 22 = .ok (.invokevirtual 372, 3) := dk_182 1 116 (dk_at dksX10_asks_1 0 rfl rfl)
theorem dX10_asks_25 : decode cX10_asks 25 = .ok (.ireturn, 1) := dk_172 (dk_at dksX10_asks_1 3 rfl rfl)
abbrev cX10_asTold : ByteArray := prog_18_method_70_code
def yX10_asTold : MethodName := ⟨RX10, "asTold", "()V"⟩
def dkwX10_asTold_0 : List UInt8 := [42, 2, 181, 0, 55, 42, 2, 181, 0, 58, 42, 3, 181, 1, 159, 177]
abbrev dktX10_asTold_0 : List UInt8 := dkwX10_asTold_0 ++ []
theorem dksX10_asTold_0 : cX10_asTold.data.toList.drop 0 = dktX10_asTold_0 := by decide +kernel
theorem dX10_asTold_0 : decode cX10_asTold 0 = .ok (.aload_n 0, 1) := dk_42 (dk_at dksX10_asTold_0 0 rfl rfl)
theorem dX10_asTold_1 : decode cX10_asTold 1 = .ok (.iconst (-1), 1) := dk_2 (dk_at dksX10_asTold_0 1 rfl rfl)
theorem dX10_asTold_2 : decode cX10_asTold 2 = .ok (.putfield 55, 3) := dk_181 0 55 (dk_at dksX10_asTold_0 2 rfl rfl)
theorem dX10_asTold_5 : decode cX10_asTold 5 = .ok (.aload_n 0, 1) := dk_42 (dk_at dksX10_asTold_0 5 rfl rfl)
theorem dX10_asTold_6 : decode cX10_asTold 6 = .ok (.iconst (-1), 1) := dk_2 (dk_at dksX10_asTold_0 6 rfl rfl)
theorem dX10_asTold_7 : decode cX10_asTold 7 = .ok (.putfield 58, 3) := dk_181 0 58 (dk_at dksX10_asTold_0 7 rfl rfl)
theorem dX10_asTold_10 : decode cX10_asTold 10 = .ok (.aload_n 0, 1) := dk_42 (dk_at dksX10_asTold_0 10 rfl rfl)
theorem dX10_asTold_11 : decode cX10_asTold 11 = .ok (.iconst 0, 1) := dk_3 (dk_at dksX10_asTold_0 11 rfl rfl)
theorem dX10_asTold_12 : decode cX10_asTold 12 = .ok (.putfield 415, 3) := dk_181 1 159 (dk_at dksX10_asTold_0 12 rfl rfl)
theorem dX10_asTold_15 : decode cX10_asTold 15 = .ok (.return_, 1) := dk_177 (dk_at dksX10_asTold_0 15 rfl rfl)
abbrev cX10_runs : ByteArray := prog_18_method_92_code
def yX10_runs : MethodName := ⟨RX10, "runs", "(I)V"⟩
def dkwX10_runs_1 : List UInt8 := [132, 2, 1, 167, 255, 235, 177]
abbrev dktX10_runs_1 : List UInt8 := dkwX10_runs_1 ++ []
def dkwX10_runs_0 : List UInt8 := [42, 182, 1, 240, 3, 61, 28, 27, 162, 0, 22, 42, 180, 1, 168, 2, 160, 0, 14, 42, 28, 182, 1, 243]
abbrev dktX10_runs_0 : List UInt8 := dkwX10_runs_0 ++ dktX10_runs_1
theorem dksX10_runs_0 : cX10_runs.data.toList.drop 0 = dktX10_runs_0 := by decide +kernel
theorem dksX10_runs_1 : cX10_runs.data.toList.drop 24 = dktX10_runs_1 := dk_seg dksX10_runs_0 24 rfl rfl
theorem dX10_runs_0 : decode cX10_runs 0 = .ok (.aload_n 0, 1) := dk_42 (dk_at dksX10_runs_0 0 rfl rfl)
theorem dX10_runs_1 : decode cX10_runs 1 = .ok (.invokevirtual 496, 3) := dk_182 1 240 (dk_at dksX10_runs_0 1 rfl rfl)
theorem dX10_runs_4 : decode cX10_runs 4 = .ok (.iconst 0, 1) := dk_3 (dk_at dksX10_runs_0 4 rfl rfl)
theorem dX10_runs_5 : decode cX10_runs 5 = .ok (.istore_n 2, 1) := dk_61 (dk_at dksX10_runs_0 5 rfl rfl)
theorem dX10_runs_6 : decode cX10_runs 6 = .ok (.iload_n 2, 1) := dk_28 (dk_at dksX10_runs_0 6 rfl rfl)
theorem dX10_runs_7 : decode cX10_runs 7 = .ok (.iload_n 1, 1) := dk_27 (dk_at dksX10_runs_0 7 rfl rfl)
theorem dX10_runs_8 : decode cX10_runs 8 = .ok (.if_icmp .ge 22, 3) := dk_162 0 22 (dk_at dksX10_runs_0 8 rfl rfl)
theorem dX10_runs_11 : decode cX10_runs 11 = .ok (.aload_n 0, 1) := dk_42 (dk_at dksX10_runs_0 11 rfl rfl)
theorem dX10_runs_12 : decode cX10_runs 12 = .ok (.getfield 424, 3) := dk_180 1 168 (dk_at dksX10_runs_0 12 rfl rfl)
theorem dX10_runs_15 : decode cX10_runs 15 = .ok (.iconst (-1), 1) := dk_2 (dk_at dksX10_runs_0 15 rfl rfl)
theorem dX10_runs_16 : decode cX10_runs 16 = .ok (.if_icmp .ne 14, 3) := dk_160 0 14 (dk_at dksX10_runs_0 16 rfl rfl)
theorem dX10_runs_19 : decode cX10_runs 19 = .ok (.aload_n 0, 1) := dk_42 (dk_at dksX10_runs_0 19 rfl rfl)
theorem dX10_runs_20 : decode cX10_runs 20 = .ok (.iload_n 2, 1) := dk_28 (dk_at dksX10_runs_0 20 rfl rfl)
theorem dX10_runs_21 : decode cX10_runs 21 = .ok (.invokevirtual 499, 3) := dk_182 1 243 (dk_at dksX10_runs_0 21 rfl rfl)
theorem dX10_runs_24 : decode cX10_runs 24 = .ok (.iinc 2 1, 3) := dk_132 2 1 (dk_at dksX10_runs_1 0 rfl rfl)
theorem dX10_runs_27 : decode cX10_runs 27 = .ok (.goto (-21), 3) := dk_167 255 235 (dk_at dksX10_runs_1 3 rfl rfl)
theorem dX10_runs_30 : decode cX10_runs 30 = .ok (.return_, 1) := dk_177 (dk_at dksX10_runs_1 6 rfl rfl)
abbrev cX10_beginRun : ByteArray := prog_18_method_71_code
def yX10_beginRun : MethodName := ⟨RX10, "beginRun", "()V"⟩
def dkwX10_beginRun_9 : List UInt8 := [167, 255, 239, 42, 3, 181, 1, 162, 42, 3, 181, 1, 165, 42, 2, 181, 1, 168, 177]
abbrev dktX10_beginRun_9 : List UInt8 := dkwX10_beginRun_9 ++ []
def dkwX10_beginRun_8 : List UInt8 := [167, 255, 234, 3, 60, 27, 17, 0, 200, 162, 0, 16, 42, 180, 0, 132, 27, 2, 79, 132, 1, 1]
abbrev dktX10_beginRun_8 : List UInt8 := dkwX10_beginRun_8 ++ dktX10_beginRun_9
def dkwX10_beginRun_7 : List UInt8 := [3, 60, 27, 6, 162, 0, 23, 42, 180, 0, 126, 27, 3, 84, 42, 180, 0, 129, 27, 3, 84, 132, 1, 1]
abbrev dktX10_beginRun_7 : List UInt8 := dkwX10_beginRun_7 ++ dktX10_beginRun_8
def dkwX10_beginRun_6 : List UInt8 := [167, 255, 239, 3, 60, 27, 16, 18, 163, 0, 16, 42, 180, 0, 123, 27, 3, 84, 132, 1, 1, 167, 255, 240]
abbrev dktX10_beginRun_6 : List UInt8 := dkwX10_beginRun_6 ++ dktX10_beginRun_7
def dkwX10_beginRun_5 : List UInt8 := [167, 255, 143, 3, 60, 27, 17, 0, 255, 162, 0, 16, 42, 180, 0, 120, 27, 2, 79, 132, 1, 1]
abbrev dktX10_beginRun_5 : List UInt8 := dkwX10_beginRun_5 ++ dktX10_beginRun_6
def dkwX10_beginRun_4 : List UInt8 := [180, 0, 104, 27, 2, 79, 42, 180, 0, 110, 27, 14, 82, 42, 180, 0, 114, 27, 3, 79, 132, 1, 1]
abbrev dktX10_beginRun_4 : List UInt8 := dkwX10_beginRun_4 ++ dktX10_beginRun_5
def dkwX10_beginRun_3 : List UInt8 := [42, 180, 0, 95, 27, 3, 79, 42, 180, 0, 98, 27, 3, 84, 42, 180, 0, 101, 27, 3, 79, 42]
abbrev dktX10_beginRun_3 : List UInt8 := dkwX10_beginRun_3 ++ dktX10_beginRun_4
def dkwX10_beginRun_2 : List UInt8 := [27, 3, 84, 42, 180, 0, 85, 27, 3, 79, 42, 180, 0, 88, 27, 3, 79, 42, 180, 0, 91, 27, 12, 81]
abbrev dktX10_beginRun_2 : List UInt8 := dkwX10_beginRun_2 ++ dktX10_beginRun_3
def dkwX10_beginRun_1 : List UInt8 := [180, 0, 67, 27, 3, 79, 42, 180, 0, 76, 27, 4, 79, 42, 180, 0, 79, 27, 2, 79, 42, 180, 0, 82]
abbrev dktX10_beginRun_1 : List UInt8 := dkwX10_beginRun_1 ++ dktX10_beginRun_2
def dkwX10_beginRun_0 : List UInt8 := [3, 60, 27, 8, 162, 0, 114, 42, 180, 0, 61, 27, 3, 79, 42, 180, 0, 64, 27, 2, 79, 42]
abbrev dktX10_beginRun_0 : List UInt8 := dkwX10_beginRun_0 ++ dktX10_beginRun_1
theorem dksX10_beginRun_0 : cX10_beginRun.data.toList.drop 0 = dktX10_beginRun_0 := by decide +kernel
theorem dksX10_beginRun_1 : cX10_beginRun.data.toList.drop 22 = dktX10_beginRun_1 := dk_seg dksX10_beginRun_0 22 rfl rfl
theorem dksX10_beginRun_2 : cX10_beginRun.data.toList.drop 46 = dktX10_beginRun_2 := dk_seg dksX10_beginRun_1 24 rfl rfl
theorem dksX10_beginRun_3 : cX10_beginRun.data.toList.drop 70 = dktX10_beginRun_3 := dk_seg dksX10_beginRun_2 24 rfl rfl
theorem dksX10_beginRun_4 : cX10_beginRun.data.toList.drop 92 = dktX10_beginRun_4 := dk_seg dksX10_beginRun_3 22 rfl rfl
theorem dksX10_beginRun_5 : cX10_beginRun.data.toList.drop 115 = dktX10_beginRun_5 := dk_seg dksX10_beginRun_4 23 rfl rfl
theorem dksX10_beginRun_6 : cX10_beginRun.data.toList.drop 137 = dktX10_beginRun_6 := dk_seg dksX10_beginRun_5 22 rfl rfl
theorem dksX10_beginRun_7 : cX10_beginRun.data.toList.drop 161 = dktX10_beginRun_7 := dk_seg dksX10_beginRun_6 24 rfl rfl
theorem dksX10_beginRun_8 : cX10_beginRun.data.toList.drop 185 = dktX10_beginRun_8 := dk_seg dksX10_beginRun_7 24 rfl rfl
theorem dksX10_beginRun_9 : cX10_beginRun.data.toList.drop 207 = dktX10_beginRun_9 := dk_seg dksX10_beginRun_8 22 rfl rfl
theorem dX10_beginRun_0 : decode cX10_beginRun 0 = .ok (.iconst 0, 1) := dk_3 (dk_at dksX10_beginRun_0 0 rfl rfl)
theorem dX10_beginRun_1 : decode cX10_beginRun 1 = .ok (.istore_n 1, 1) := dk_60 (dk_at dksX10_beginRun_0 1 rfl rfl)
theorem dX10_beginRun_2 : decode cX10_beginRun 2 = .ok (.iload_n 1, 1) := dk_27 (dk_at dksX10_beginRun_0 2 rfl rfl)
theorem dX10_beginRun_3 : decode cX10_beginRun 3 = .ok (.iconst 5, 1) := dk_8 (dk_at dksX10_beginRun_0 3 rfl rfl)
theorem dX10_beginRun_4 : decode cX10_beginRun 4 = .ok (.if_icmp .ge 114, 3) := dk_162 0 114 (dk_at dksX10_beginRun_0 4 rfl rfl)
theorem dX10_beginRun_7 : decode cX10_beginRun 7 = .ok (.aload_n 0, 1) := dk_42 (dk_at dksX10_beginRun_0 7 rfl rfl)
theorem dX10_beginRun_8 : decode cX10_beginRun 8 = .ok (.getfield 61, 3) := dk_180 0 61 (dk_at dksX10_beginRun_0 8 rfl rfl)
theorem dX10_beginRun_11 : decode cX10_beginRun 11 = .ok (.iload_n 1, 1) := dk_27 (dk_at dksX10_beginRun_0 11 rfl rfl)
theorem dX10_beginRun_12 : decode cX10_beginRun 12 = .ok (.iconst 0, 1) := dk_3 (dk_at dksX10_beginRun_0 12 rfl rfl)
theorem dX10_beginRun_13 : decode cX10_beginRun 13 = .ok (.iastore, 1) := dk_79 (dk_at dksX10_beginRun_0 13 rfl rfl)
theorem dX10_beginRun_14 : decode cX10_beginRun 14 = .ok (.aload_n 0, 1) := dk_42 (dk_at dksX10_beginRun_0 14 rfl rfl)
theorem dX10_beginRun_15 : decode cX10_beginRun 15 = .ok (.getfield 64, 3) := dk_180 0 64 (dk_at dksX10_beginRun_0 15 rfl rfl)
theorem dX10_beginRun_18 : decode cX10_beginRun 18 = .ok (.iload_n 1, 1) := dk_27 (dk_at dksX10_beginRun_0 18 rfl rfl)
theorem dX10_beginRun_19 : decode cX10_beginRun 19 = .ok (.iconst (-1), 1) := dk_2 (dk_at dksX10_beginRun_0 19 rfl rfl)
theorem dX10_beginRun_20 : decode cX10_beginRun 20 = .ok (.iastore, 1) := dk_79 (dk_at dksX10_beginRun_0 20 rfl rfl)
theorem dX10_beginRun_21 : decode cX10_beginRun 21 = .ok (.aload_n 0, 1) := dk_42 (dk_at dksX10_beginRun_0 21 rfl rfl)
theorem dX10_beginRun_22 : decode cX10_beginRun 22 = .ok (.getfield 67, 3) := dk_180 0 67 (dk_at dksX10_beginRun_1 0 rfl rfl)
theorem dX10_beginRun_25 : decode cX10_beginRun 25 = .ok (.iload_n 1, 1) := dk_27 (dk_at dksX10_beginRun_1 3 rfl rfl)
theorem dX10_beginRun_26 : decode cX10_beginRun 26 = .ok (.iconst 0, 1) := dk_3 (dk_at dksX10_beginRun_1 4 rfl rfl)
theorem dX10_beginRun_27 : decode cX10_beginRun 27 = .ok (.iastore, 1) := dk_79 (dk_at dksX10_beginRun_1 5 rfl rfl)
theorem dX10_beginRun_28 : decode cX10_beginRun 28 = .ok (.aload_n 0, 1) := dk_42 (dk_at dksX10_beginRun_1 6 rfl rfl)
theorem dX10_beginRun_29 : decode cX10_beginRun 29 = .ok (.getfield 76, 3) := dk_180 0 76 (dk_at dksX10_beginRun_1 7 rfl rfl)
theorem dX10_beginRun_32 : decode cX10_beginRun 32 = .ok (.iload_n 1, 1) := dk_27 (dk_at dksX10_beginRun_1 10 rfl rfl)
theorem dX10_beginRun_33 : decode cX10_beginRun 33 = .ok (.iconst 1, 1) := dk_4 (dk_at dksX10_beginRun_1 11 rfl rfl)
theorem dX10_beginRun_34 : decode cX10_beginRun 34 = .ok (.iastore, 1) := dk_79 (dk_at dksX10_beginRun_1 12 rfl rfl)
theorem dX10_beginRun_35 : decode cX10_beginRun 35 = .ok (.aload_n 0, 1) := dk_42 (dk_at dksX10_beginRun_1 13 rfl rfl)
theorem dX10_beginRun_36 : decode cX10_beginRun 36 = .ok (.getfield 79, 3) := dk_180 0 79 (dk_at dksX10_beginRun_1 14 rfl rfl)
theorem dX10_beginRun_39 : decode cX10_beginRun 39 = .ok (.iload_n 1, 1) := dk_27 (dk_at dksX10_beginRun_1 17 rfl rfl)
theorem dX10_beginRun_40 : decode cX10_beginRun 40 = .ok (.iconst (-1), 1) := dk_2 (dk_at dksX10_beginRun_1 18 rfl rfl)
theorem dX10_beginRun_41 : decode cX10_beginRun 41 = .ok (.iastore, 1) := dk_79 (dk_at dksX10_beginRun_1 19 rfl rfl)
theorem dX10_beginRun_42 : decode cX10_beginRun 42 = .ok (.aload_n 0, 1) := dk_42 (dk_at dksX10_beginRun_1 20 rfl rfl)
theorem dX10_beginRun_43 : decode cX10_beginRun 43 = .ok (.getfield 82, 3) := dk_180 0 82 (dk_at dksX10_beginRun_1 21 rfl rfl)
theorem dX10_beginRun_46 : decode cX10_beginRun 46 = .ok (.iload_n 1, 1) := dk_27 (dk_at dksX10_beginRun_2 0 rfl rfl)
theorem dX10_beginRun_47 : decode cX10_beginRun 47 = .ok (.iconst 0, 1) := dk_3 (dk_at dksX10_beginRun_2 1 rfl rfl)
theorem dX10_beginRun_48 : decode cX10_beginRun 48 = .ok (.bastore, 1) := dk_84 (dk_at dksX10_beginRun_2 2 rfl rfl)
theorem dX10_beginRun_49 : decode cX10_beginRun 49 = .ok (.aload_n 0, 1) := dk_42 (dk_at dksX10_beginRun_2 3 rfl rfl)
theorem dX10_beginRun_50 : decode cX10_beginRun 50 = .ok (.getfield 85, 3) := dk_180 0 85 (dk_at dksX10_beginRun_2 4 rfl rfl)
theorem dX10_beginRun_53 : decode cX10_beginRun 53 = .ok (.iload_n 1, 1) := dk_27 (dk_at dksX10_beginRun_2 7 rfl rfl)
theorem dX10_beginRun_54 : decode cX10_beginRun 54 = .ok (.iconst 0, 1) := dk_3 (dk_at dksX10_beginRun_2 8 rfl rfl)
theorem dX10_beginRun_55 : decode cX10_beginRun 55 = .ok (.iastore, 1) := dk_79 (dk_at dksX10_beginRun_2 9 rfl rfl)
theorem dX10_beginRun_56 : decode cX10_beginRun 56 = .ok (.aload_n 0, 1) := dk_42 (dk_at dksX10_beginRun_2 10 rfl rfl)
theorem dX10_beginRun_57 : decode cX10_beginRun 57 = .ok (.getfield 88, 3) := dk_180 0 88 (dk_at dksX10_beginRun_2 11 rfl rfl)
theorem dX10_beginRun_60 : decode cX10_beginRun 60 = .ok (.iload_n 1, 1) := dk_27 (dk_at dksX10_beginRun_2 14 rfl rfl)
theorem dX10_beginRun_61 : decode cX10_beginRun 61 = .ok (.iconst 0, 1) := dk_3 (dk_at dksX10_beginRun_2 15 rfl rfl)
theorem dX10_beginRun_62 : decode cX10_beginRun 62 = .ok (.iastore, 1) := dk_79 (dk_at dksX10_beginRun_2 16 rfl rfl)
theorem dX10_beginRun_63 : decode cX10_beginRun 63 = .ok (.aload_n 0, 1) := dk_42 (dk_at dksX10_beginRun_2 17 rfl rfl)
theorem dX10_beginRun_64 : decode cX10_beginRun 64 = .ok (.getfield 91, 3) := dk_180 0 91 (dk_at dksX10_beginRun_2 18 rfl rfl)
theorem dX10_beginRun_67 : decode cX10_beginRun 67 = .ok (.iload_n 1, 1) := dk_27 (dk_at dksX10_beginRun_2 21 rfl rfl)
theorem dX10_beginRun_68 : decode cX10_beginRun 68 = .ok (.fconst 1, 1) := dk_12 (dk_at dksX10_beginRun_2 22 rfl rfl)
theorem dX10_beginRun_69 : decode cX10_beginRun 69 = .ok (.fastore, 1) := dk_81 (dk_at dksX10_beginRun_2 23 rfl rfl)
theorem dX10_beginRun_70 : decode cX10_beginRun 70 = .ok (.aload_n 0, 1) := dk_42 (dk_at dksX10_beginRun_3 0 rfl rfl)
theorem dX10_beginRun_71 : decode cX10_beginRun 71 = .ok (.getfield 95, 3) := dk_180 0 95 (dk_at dksX10_beginRun_3 1 rfl rfl)
theorem dX10_beginRun_74 : decode cX10_beginRun 74 = .ok (.iload_n 1, 1) := dk_27 (dk_at dksX10_beginRun_3 4 rfl rfl)
theorem dX10_beginRun_75 : decode cX10_beginRun 75 = .ok (.iconst 0, 1) := dk_3 (dk_at dksX10_beginRun_3 5 rfl rfl)
theorem dX10_beginRun_76 : decode cX10_beginRun 76 = .ok (.iastore, 1) := dk_79 (dk_at dksX10_beginRun_3 6 rfl rfl)
theorem dX10_beginRun_77 : decode cX10_beginRun 77 = .ok (.aload_n 0, 1) := dk_42 (dk_at dksX10_beginRun_3 7 rfl rfl)
theorem dX10_beginRun_78 : decode cX10_beginRun 78 = .ok (.getfield 98, 3) := dk_180 0 98 (dk_at dksX10_beginRun_3 8 rfl rfl)
theorem dX10_beginRun_81 : decode cX10_beginRun 81 = .ok (.iload_n 1, 1) := dk_27 (dk_at dksX10_beginRun_3 11 rfl rfl)
theorem dX10_beginRun_82 : decode cX10_beginRun 82 = .ok (.iconst 0, 1) := dk_3 (dk_at dksX10_beginRun_3 12 rfl rfl)
theorem dX10_beginRun_83 : decode cX10_beginRun 83 = .ok (.bastore, 1) := dk_84 (dk_at dksX10_beginRun_3 13 rfl rfl)
theorem dX10_beginRun_84 : decode cX10_beginRun 84 = .ok (.aload_n 0, 1) := dk_42 (dk_at dksX10_beginRun_3 14 rfl rfl)
theorem dX10_beginRun_85 : decode cX10_beginRun 85 = .ok (.getfield 101, 3) := dk_180 0 101 (dk_at dksX10_beginRun_3 15 rfl rfl)
theorem dX10_beginRun_88 : decode cX10_beginRun 88 = .ok (.iload_n 1, 1) := dk_27 (dk_at dksX10_beginRun_3 18 rfl rfl)
theorem dX10_beginRun_89 : decode cX10_beginRun 89 = .ok (.iconst 0, 1) := dk_3 (dk_at dksX10_beginRun_3 19 rfl rfl)
theorem dX10_beginRun_90 : decode cX10_beginRun 90 = .ok (.iastore, 1) := dk_79 (dk_at dksX10_beginRun_3 20 rfl rfl)
theorem dX10_beginRun_91 : decode cX10_beginRun 91 = .ok (.aload_n 0, 1) := dk_42 (dk_at dksX10_beginRun_3 21 rfl rfl)
theorem dX10_beginRun_92 : decode cX10_beginRun 92 = .ok (.getfield 104, 3) := dk_180 0 104 (dk_at dksX10_beginRun_4 0 rfl rfl)
theorem dX10_beginRun_95 : decode cX10_beginRun 95 = .ok (.iload_n 1, 1) := dk_27 (dk_at dksX10_beginRun_4 3 rfl rfl)
theorem dX10_beginRun_96 : decode cX10_beginRun 96 = .ok (.iconst (-1), 1) := dk_2 (dk_at dksX10_beginRun_4 4 rfl rfl)
theorem dX10_beginRun_97 : decode cX10_beginRun 97 = .ok (.iastore, 1) := dk_79 (dk_at dksX10_beginRun_4 5 rfl rfl)
theorem dX10_beginRun_98 : decode cX10_beginRun 98 = .ok (.aload_n 0, 1) := dk_42 (dk_at dksX10_beginRun_4 6 rfl rfl)
theorem dX10_beginRun_99 : decode cX10_beginRun 99 = .ok (.getfield 110, 3) := dk_180 0 110 (dk_at dksX10_beginRun_4 7 rfl rfl)
theorem dX10_beginRun_102 : decode cX10_beginRun 102 = .ok (.iload_n 1, 1) := dk_27 (dk_at dksX10_beginRun_4 10 rfl rfl)
theorem dX10_beginRun_103 : decode cX10_beginRun 103 = .ok (.dconst 0, 1) := dk_14 (dk_at dksX10_beginRun_4 11 rfl rfl)
theorem dX10_beginRun_104 : decode cX10_beginRun 104 = .ok (.dastore, 1) := dk_82 (dk_at dksX10_beginRun_4 12 rfl rfl)
theorem dX10_beginRun_105 : decode cX10_beginRun 105 = .ok (.aload_n 0, 1) := dk_42 (dk_at dksX10_beginRun_4 13 rfl rfl)
theorem dX10_beginRun_106 : decode cX10_beginRun 106 = .ok (.getfield 114, 3) := dk_180 0 114 (dk_at dksX10_beginRun_4 14 rfl rfl)
theorem dX10_beginRun_109 : decode cX10_beginRun 109 = .ok (.iload_n 1, 1) := dk_27 (dk_at dksX10_beginRun_4 17 rfl rfl)
theorem dX10_beginRun_110 : decode cX10_beginRun 110 = .ok (.iconst 0, 1) := dk_3 (dk_at dksX10_beginRun_4 18 rfl rfl)
theorem dX10_beginRun_111 : decode cX10_beginRun 111 = .ok (.iastore, 1) := dk_79 (dk_at dksX10_beginRun_4 19 rfl rfl)
theorem dX10_beginRun_112 : decode cX10_beginRun 112 = .ok (.iinc 1 1, 3) := dk_132 1 1 (dk_at dksX10_beginRun_4 20 rfl rfl)
theorem dX10_beginRun_115 : decode cX10_beginRun 115 = .ok (.goto (-113), 3) := dk_167 255 143 (dk_at dksX10_beginRun_5 0 rfl rfl)
theorem dX10_beginRun_118 : decode cX10_beginRun 118 = .ok (.iconst 0, 1) := dk_3 (dk_at dksX10_beginRun_5 3 rfl rfl)
theorem dX10_beginRun_119 : decode cX10_beginRun 119 = .ok (.istore_n 1, 1) := dk_60 (dk_at dksX10_beginRun_5 4 rfl rfl)
theorem dX10_beginRun_120 : decode cX10_beginRun 120 = .ok (.iload_n 1, 1) := dk_27 (dk_at dksX10_beginRun_5 5 rfl rfl)
theorem dX10_beginRun_121 : decode cX10_beginRun 121 = .ok (.sipush 255, 3) := dk_17 0 255 (dk_at dksX10_beginRun_5 6 rfl rfl)
theorem dX10_beginRun_124 : decode cX10_beginRun 124 = .ok (.if_icmp .ge 16, 3) := dk_162 0 16 (dk_at dksX10_beginRun_5 9 rfl rfl)
theorem dX10_beginRun_127 : decode cX10_beginRun 127 = .ok (.aload_n 0, 1) := dk_42 (dk_at dksX10_beginRun_5 12 rfl rfl)
theorem dX10_beginRun_128 : decode cX10_beginRun 128 = .ok (.getfield 120, 3) := dk_180 0 120 (dk_at dksX10_beginRun_5 13 rfl rfl)
theorem dX10_beginRun_131 : decode cX10_beginRun 131 = .ok (.iload_n 1, 1) := dk_27 (dk_at dksX10_beginRun_5 16 rfl rfl)
theorem dX10_beginRun_132 : decode cX10_beginRun 132 = .ok (.iconst (-1), 1) := dk_2 (dk_at dksX10_beginRun_5 17 rfl rfl)
theorem dX10_beginRun_133 : decode cX10_beginRun 133 = .ok (.iastore, 1) := dk_79 (dk_at dksX10_beginRun_5 18 rfl rfl)
theorem dX10_beginRun_134 : decode cX10_beginRun 134 = .ok (.iinc 1 1, 3) := dk_132 1 1 (dk_at dksX10_beginRun_5 19 rfl rfl)
theorem dX10_beginRun_137 : decode cX10_beginRun 137 = .ok (.goto (-17), 3) := dk_167 255 239 (dk_at dksX10_beginRun_6 0 rfl rfl)
theorem dX10_beginRun_140 : decode cX10_beginRun 140 = .ok (.iconst 0, 1) := dk_3 (dk_at dksX10_beginRun_6 3 rfl rfl)
theorem dX10_beginRun_141 : decode cX10_beginRun 141 = .ok (.istore_n 1, 1) := dk_60 (dk_at dksX10_beginRun_6 4 rfl rfl)
theorem dX10_beginRun_142 : decode cX10_beginRun 142 = .ok (.iload_n 1, 1) := dk_27 (dk_at dksX10_beginRun_6 5 rfl rfl)
theorem dX10_beginRun_143 : decode cX10_beginRun 143 = .ok (.bipush 18, 2) := dk_16 18 (dk_at dksX10_beginRun_6 6 rfl rfl)
theorem dX10_beginRun_145 : decode cX10_beginRun 145 = .ok (.if_icmp .gt 16, 3) := dk_163 0 16 (dk_at dksX10_beginRun_6 8 rfl rfl)
theorem dX10_beginRun_148 : decode cX10_beginRun 148 = .ok (.aload_n 0, 1) := dk_42 (dk_at dksX10_beginRun_6 11 rfl rfl)
theorem dX10_beginRun_149 : decode cX10_beginRun 149 = .ok (.getfield 123, 3) := dk_180 0 123 (dk_at dksX10_beginRun_6 12 rfl rfl)
theorem dX10_beginRun_152 : decode cX10_beginRun 152 = .ok (.iload_n 1, 1) := dk_27 (dk_at dksX10_beginRun_6 15 rfl rfl)
theorem dX10_beginRun_153 : decode cX10_beginRun 153 = .ok (.iconst 0, 1) := dk_3 (dk_at dksX10_beginRun_6 16 rfl rfl)
theorem dX10_beginRun_154 : decode cX10_beginRun 154 = .ok (.bastore, 1) := dk_84 (dk_at dksX10_beginRun_6 17 rfl rfl)
theorem dX10_beginRun_155 : decode cX10_beginRun 155 = .ok (.iinc 1 1, 3) := dk_132 1 1 (dk_at dksX10_beginRun_6 18 rfl rfl)
theorem dX10_beginRun_158 : decode cX10_beginRun 158 = .ok (.goto (-16), 3) := dk_167 255 240 (dk_at dksX10_beginRun_6 21 rfl rfl)
theorem dX10_beginRun_161 : decode cX10_beginRun 161 = .ok (.iconst 0, 1) := dk_3 (dk_at dksX10_beginRun_7 0 rfl rfl)
theorem dX10_beginRun_162 : decode cX10_beginRun 162 = .ok (.istore_n 1, 1) := dk_60 (dk_at dksX10_beginRun_7 1 rfl rfl)
theorem dX10_beginRun_163 : decode cX10_beginRun 163 = .ok (.iload_n 1, 1) := dk_27 (dk_at dksX10_beginRun_7 2 rfl rfl)
theorem dX10_beginRun_164 : decode cX10_beginRun 164 = .ok (.iconst 3, 1) := dk_6 (dk_at dksX10_beginRun_7 3 rfl rfl)
theorem dX10_beginRun_165 : decode cX10_beginRun 165 = .ok (.if_icmp .ge 23, 3) := dk_162 0 23 (dk_at dksX10_beginRun_7 4 rfl rfl)
theorem dX10_beginRun_168 : decode cX10_beginRun 168 = .ok (.aload_n 0, 1) := dk_42 (dk_at dksX10_beginRun_7 7 rfl rfl)
theorem dX10_beginRun_169 : decode cX10_beginRun 169 = .ok (.getfield 126, 3) := dk_180 0 126 (dk_at dksX10_beginRun_7 8 rfl rfl)
theorem dX10_beginRun_172 : decode cX10_beginRun 172 = .ok (.iload_n 1, 1) := dk_27 (dk_at dksX10_beginRun_7 11 rfl rfl)
theorem dX10_beginRun_173 : decode cX10_beginRun 173 = .ok (.iconst 0, 1) := dk_3 (dk_at dksX10_beginRun_7 12 rfl rfl)
theorem dX10_beginRun_174 : decode cX10_beginRun 174 = .ok (.bastore, 1) := dk_84 (dk_at dksX10_beginRun_7 13 rfl rfl)
theorem dX10_beginRun_175 : decode cX10_beginRun 175 = .ok (.aload_n 0, 1) := dk_42 (dk_at dksX10_beginRun_7 14 rfl rfl)
theorem dX10_beginRun_176 : decode cX10_beginRun 176 = .ok (.getfield 129, 3) := dk_180 0 129 (dk_at dksX10_beginRun_7 15 rfl rfl)
theorem dX10_beginRun_179 : decode cX10_beginRun 179 = .ok (.iload_n 1, 1) := dk_27 (dk_at dksX10_beginRun_7 18 rfl rfl)
theorem dX10_beginRun_180 : decode cX10_beginRun 180 = .ok (.iconst 0, 1) := dk_3 (dk_at dksX10_beginRun_7 19 rfl rfl)
theorem dX10_beginRun_181 : decode cX10_beginRun 181 = .ok (.bastore, 1) := dk_84 (dk_at dksX10_beginRun_7 20 rfl rfl)
theorem dX10_beginRun_182 : decode cX10_beginRun 182 = .ok (.iinc 1 1, 3) := dk_132 1 1 (dk_at dksX10_beginRun_7 21 rfl rfl)
theorem dX10_beginRun_185 : decode cX10_beginRun 185 = .ok (.goto (-22), 3) := dk_167 255 234 (dk_at dksX10_beginRun_8 0 rfl rfl)
theorem dX10_beginRun_188 : decode cX10_beginRun 188 = .ok (.iconst 0, 1) := dk_3 (dk_at dksX10_beginRun_8 3 rfl rfl)
theorem dX10_beginRun_189 : decode cX10_beginRun 189 = .ok (.istore_n 1, 1) := dk_60 (dk_at dksX10_beginRun_8 4 rfl rfl)
theorem dX10_beginRun_190 : decode cX10_beginRun 190 = .ok (.iload_n 1, 1) := dk_27 (dk_at dksX10_beginRun_8 5 rfl rfl)
theorem dX10_beginRun_191 : decode cX10_beginRun 191 = .ok (.sipush 200, 3) := dk_17 0 200 (dk_at dksX10_beginRun_8 6 rfl rfl)
theorem dX10_beginRun_194 : decode cX10_beginRun 194 = .ok (.if_icmp .ge 16, 3) := dk_162 0 16 (dk_at dksX10_beginRun_8 9 rfl rfl)
theorem dX10_beginRun_197 : decode cX10_beginRun 197 = .ok (.aload_n 0, 1) := dk_42 (dk_at dksX10_beginRun_8 12 rfl rfl)
theorem dX10_beginRun_198 : decode cX10_beginRun 198 = .ok (.getfield 132, 3) := dk_180 0 132 (dk_at dksX10_beginRun_8 13 rfl rfl)
theorem dX10_beginRun_201 : decode cX10_beginRun 201 = .ok (.iload_n 1, 1) := dk_27 (dk_at dksX10_beginRun_8 16 rfl rfl)
theorem dX10_beginRun_202 : decode cX10_beginRun 202 = .ok (.iconst (-1), 1) := dk_2 (dk_at dksX10_beginRun_8 17 rfl rfl)
theorem dX10_beginRun_203 : decode cX10_beginRun 203 = .ok (.iastore, 1) := dk_79 (dk_at dksX10_beginRun_8 18 rfl rfl)
theorem dX10_beginRun_204 : decode cX10_beginRun 204 = .ok (.iinc 1 1, 3) := dk_132 1 1 (dk_at dksX10_beginRun_8 19 rfl rfl)
theorem dX10_beginRun_207 : decode cX10_beginRun 207 = .ok (.goto (-17), 3) := dk_167 255 239 (dk_at dksX10_beginRun_9 0 rfl rfl)
theorem dX10_beginRun_210 : decode cX10_beginRun 210 = .ok (.aload_n 0, 1) := dk_42 (dk_at dksX10_beginRun_9 3 rfl rfl)
theorem dX10_beginRun_211 : decode cX10_beginRun 211 = .ok (.iconst 0, 1) := dk_3 (dk_at dksX10_beginRun_9 4 rfl rfl)
theorem dX10_beginRun_212 : decode cX10_beginRun 212 = .ok (.putfield 418, 3) := dk_181 1 162 (dk_at dksX10_beginRun_9 5 rfl rfl)
theorem dX10_beginRun_215 : decode cX10_beginRun 215 = .ok (.aload_n 0, 1) := dk_42 (dk_at dksX10_beginRun_9 8 rfl rfl)
theorem dX10_beginRun_216 : decode cX10_beginRun 216 = .ok (.iconst 0, 1) := dk_3 (dk_at dksX10_beginRun_9 9 rfl rfl)
theorem dX10_beginRun_217 : decode cX10_beginRun 217 = .ok (.putfield 421, 3) := dk_181 1 165 (dk_at dksX10_beginRun_9 10 rfl rfl)
theorem dX10_beginRun_220 : decode cX10_beginRun 220 = .ok (.aload_n 0, 1) := dk_42 (dk_at dksX10_beginRun_9 13 rfl rfl)
theorem dX10_beginRun_221 : decode cX10_beginRun 221 = .ok (.iconst (-1), 1) := dk_2 (dk_at dksX10_beginRun_9 14 rfl rfl)
theorem dX10_beginRun_222 : decode cX10_beginRun 222 = .ok (.putfield 424, 3) := dk_181 1 168 (dk_at dksX10_beginRun_9 15 rfl rfl)
theorem dX10_beginRun_225 : decode cX10_beginRun 225 = .ok (.return_, 1) := dk_177 (dk_at dksX10_beginRun_9 18 rfl rfl)
abbrev cX10_tick : ByteArray := prog_18_method_91_code
def yX10_tick : MethodName := ⟨RX10, "tick", "(I)V"⟩
def dkwX10_tick_3 : List UInt8 := [42, 182, 1, 237, 177]
abbrev dktX10_tick_3 : List UInt8 := dkwX10_tick_3 ++ []
def dkwX10_tick_2 : List UInt8 := [153, 0, 4, 177, 42, 180, 1, 186, 154, 0, 8, 42, 27, 182, 1, 234, 42, 180, 1, 168, 2, 160, 0, 7]
abbrev dktX10_tick_2 : List UInt8 := dkwX10_tick_2 ++ dktX10_tick_3
def dkwX10_tick_1 : List UInt8 := [159, 0, 9, 42, 28, 27, 182, 1, 228, 42, 27, 182, 1, 231, 27, 4, 96, 42, 180, 0, 9, 4, 46, 112]
abbrev dktX10_tick_1 : List UInt8 := dkwX10_tick_1 ++ dktX10_tick_2
def dkwX10_tick_0 : List UInt8 := [42, 3, 181, 1, 186, 42, 27, 182, 1, 222, 42, 182, 1, 225, 61, 42, 180, 0, 132, 27, 28, 79, 28, 2]
abbrev dktX10_tick_0 : List UInt8 := dkwX10_tick_0 ++ dktX10_tick_1
theorem dksX10_tick_0 : cX10_tick.data.toList.drop 0 = dktX10_tick_0 := by decide +kernel
theorem dksX10_tick_1 : cX10_tick.data.toList.drop 24 = dktX10_tick_1 := dk_seg dksX10_tick_0 24 rfl rfl
theorem dksX10_tick_2 : cX10_tick.data.toList.drop 48 = dktX10_tick_2 := dk_seg dksX10_tick_1 24 rfl rfl
theorem dksX10_tick_3 : cX10_tick.data.toList.drop 72 = dktX10_tick_3 := dk_seg dksX10_tick_2 24 rfl rfl
theorem dX10_tick_0 : decode cX10_tick 0 = .ok (.aload_n 0, 1) := dk_42 (dk_at dksX10_tick_0 0 rfl rfl)
theorem dX10_tick_1 : decode cX10_tick 1 = .ok (.iconst 0, 1) := dk_3 (dk_at dksX10_tick_0 1 rfl rfl)
theorem dX10_tick_2 : decode cX10_tick 2 = .ok (.putfield 442, 3) := dk_181 1 186 (dk_at dksX10_tick_0 2 rfl rfl)
theorem dX10_tick_5 : decode cX10_tick 5 = .ok (.aload_n 0, 1) := dk_42 (dk_at dksX10_tick_0 5 rfl rfl)
theorem dX10_tick_6 : decode cX10_tick 6 = .ok (.iload_n 1, 1) := dk_27 (dk_at dksX10_tick_0 6 rfl rfl)
theorem dX10_tick_7 : decode cX10_tick 7 = .ok (.invokevirtual 478, 3) := dk_182 1 222 (dk_at dksX10_tick_0 7 rfl rfl)
theorem dX10_tick_10 : decode cX10_tick 10 = .ok (.aload_n 0, 1) := dk_42 (dk_at dksX10_tick_0 10 rfl rfl)
theorem dX10_tick_11 : decode cX10_tick 11 = .ok (.invokevirtual 481, 3) := dk_182 1 225 (dk_at dksX10_tick_0 11 rfl rfl)
theorem dX10_tick_14 : decode cX10_tick 14 = .ok (.istore_n 2, 1) := dk_61 (dk_at dksX10_tick_0 14 rfl rfl)
theorem dX10_tick_15 : decode cX10_tick 15 = .ok (.aload_n 0, 1) := dk_42 (dk_at dksX10_tick_0 15 rfl rfl)
theorem dX10_tick_16 : decode cX10_tick 16 = .ok (.getfield 132, 3) := dk_180 0 132 (dk_at dksX10_tick_0 16 rfl rfl)
theorem dX10_tick_19 : decode cX10_tick 19 = .ok (.iload_n 1, 1) := dk_27 (dk_at dksX10_tick_0 19 rfl rfl)
theorem dX10_tick_20 : decode cX10_tick 20 = .ok (.iload_n 2, 1) := dk_28 (dk_at dksX10_tick_0 20 rfl rfl)
theorem dX10_tick_21 : decode cX10_tick 21 = .ok (.iastore, 1) := dk_79 (dk_at dksX10_tick_0 21 rfl rfl)
theorem dX10_tick_22 : decode cX10_tick 22 = .ok (.iload_n 2, 1) := dk_28 (dk_at dksX10_tick_0 22 rfl rfl)
theorem dX10_tick_23 : decode cX10_tick 23 = .ok (.iconst (-1), 1) := dk_2 (dk_at dksX10_tick_0 23 rfl rfl)
theorem dX10_tick_24 : decode cX10_tick 24 = .ok (.if_icmp .eq 9, 3) := dk_159 0 9 (dk_at dksX10_tick_1 0 rfl rfl)
theorem dX10_tick_27 : decode cX10_tick 27 = .ok (.aload_n 0, 1) := dk_42 (dk_at dksX10_tick_1 3 rfl rfl)
theorem dX10_tick_28 : decode cX10_tick 28 = .ok (.iload_n 2, 1) := dk_28 (dk_at dksX10_tick_1 4 rfl rfl)
theorem dX10_tick_29 : decode cX10_tick 29 = .ok (.iload_n 1, 1) := dk_27 (dk_at dksX10_tick_1 5 rfl rfl)
theorem dX10_tick_30 : decode cX10_tick 30 = .ok (.invokevirtual 484, 3) := dk_182 1 228 (dk_at dksX10_tick_1 6 rfl rfl)
theorem dX10_tick_33 : decode cX10_tick 33 = .ok (.aload_n 0, 1) := dk_42 (dk_at dksX10_tick_1 9 rfl rfl)
theorem dX10_tick_34 : decode cX10_tick 34 = .ok (.iload_n 1, 1) := dk_27 (dk_at dksX10_tick_1 10 rfl rfl)
theorem dX10_tick_35 : decode cX10_tick 35 = .ok (.invokevirtual 487, 3) := dk_182 1 231 (dk_at dksX10_tick_1 11 rfl rfl)
theorem dX10_tick_38 : decode cX10_tick 38 = .ok (.iload_n 1, 1) := dk_27 (dk_at dksX10_tick_1 14 rfl rfl)
theorem dX10_tick_39 : decode cX10_tick 39 = .ok (.iconst 1, 1) := dk_4 (dk_at dksX10_tick_1 15 rfl rfl)
theorem dX10_tick_40 : decode cX10_tick 40 = .ok (.iadd, 1) := dk_96 (dk_at dksX10_tick_1 16 rfl rfl)
theorem dX10_tick_41 : decode cX10_tick 41 = .ok (.aload_n 0, 1) := dk_42 (dk_at dksX10_tick_1 17 rfl rfl)
theorem dX10_tick_42 : decode cX10_tick 42 = .ok (.getfield 9, 3) := dk_180 0 9 (dk_at dksX10_tick_1 18 rfl rfl)
theorem dX10_tick_45 : decode cX10_tick 45 = .ok (.iconst 1, 1) := dk_4 (dk_at dksX10_tick_1 21 rfl rfl)
theorem dX10_tick_46 : decode cX10_tick 46 = .ok (.iaload, 1) := dk_46 (dk_at dksX10_tick_1 22 rfl rfl)
theorem dX10_tick_47 : decode cX10_tick 47 = .ok (.irem, 1) := dk_112 (dk_at dksX10_tick_1 23 rfl rfl)
theorem dX10_tick_48 : decode cX10_tick 48 = .ok (.ifCond .eq 4, 3) := dk_153 0 4 (dk_at dksX10_tick_2 0 rfl rfl)
theorem dX10_tick_51 : decode cX10_tick 51 = .ok (.return_, 1) := dk_177 (dk_at dksX10_tick_2 3 rfl rfl)
theorem dX10_tick_52 : decode cX10_tick 52 = .ok (.aload_n 0, 1) := dk_42 (dk_at dksX10_tick_2 4 rfl rfl)
theorem dX10_tick_53 : decode cX10_tick 53 = .ok (.getfield 442, 3) := dk_180 1 186 (dk_at dksX10_tick_2 5 rfl rfl)
theorem dX10_tick_56 : decode cX10_tick 56 = .ok (.ifCond .ne 8, 3) := dk_154 0 8 (dk_at dksX10_tick_2 8 rfl rfl)
theorem dX10_tick_59 : decode cX10_tick 59 = .ok (.aload_n 0, 1) := dk_42 (dk_at dksX10_tick_2 11 rfl rfl)
theorem dX10_tick_60 : decode cX10_tick 60 = .ok (.iload_n 1, 1) := dk_27 (dk_at dksX10_tick_2 12 rfl rfl)
theorem dX10_tick_61 : decode cX10_tick 61 = .ok (.invokevirtual 490, 3) := dk_182 1 234 (dk_at dksX10_tick_2 13 rfl rfl)
theorem dX10_tick_64 : decode cX10_tick 64 = .ok (.aload_n 0, 1) := dk_42 (dk_at dksX10_tick_2 16 rfl rfl)
theorem dX10_tick_65 : decode cX10_tick 65 = .ok (.getfield 424, 3) := dk_180 1 168 (dk_at dksX10_tick_2 17 rfl rfl)
theorem dX10_tick_68 : decode cX10_tick 68 = .ok (.iconst (-1), 1) := dk_2 (dk_at dksX10_tick_2 20 rfl rfl)
theorem dX10_tick_69 : decode cX10_tick 69 = .ok (.if_icmp .ne 7, 3) := dk_160 0 7 (dk_at dksX10_tick_2 21 rfl rfl)
theorem dX10_tick_72 : decode cX10_tick 72 = .ok (.aload_n 0, 1) := dk_42 (dk_at dksX10_tick_3 0 rfl rfl)
theorem dX10_tick_73 : decode cX10_tick 73 = .ok (.invokevirtual 493, 3) := dk_182 1 237 (dk_at dksX10_tick_3 1 rfl rfl)
theorem dX10_tick_76 : decode cX10_tick 76 = .ok (.return_, 1) := dk_177 (dk_at dksX10_tick_3 4 rfl rfl)
abbrev cX10_begins : ByteArray := prog_18_method_83_code
def yX10_begins : MethodName := ⟨RX10, "begins", "(I)V"⟩
def dkwX10_begins_4 : List UInt8 := [96, 79, 42, 180, 0, 70, 28, 3, 79, 42, 180, 0, 73, 28, 3, 79, 132, 2, 1, 167, 255, 146, 177]
abbrev dktX10_begins_4 : List UInt8 := dkwX10_begins_4 ++ []
def dkwX10_begins_3 : List UInt8 := [180, 0, 120, 16, 51, 28, 104, 42, 180, 0, 67, 28, 46, 96, 27, 79, 42, 180, 0, 67, 28, 92, 46, 4]
abbrev dktX10_begins_3 : List UInt8 := dkwX10_begins_3 ++ dktX10_begins_4
def dkwX10_begins_2 : List UInt8 := [180, 0, 64, 28, 42, 180, 0, 67, 28, 46, 79, 42, 180, 0, 67, 28, 46, 16, 51, 162, 0, 20, 42]
abbrev dktX10_begins_2 : List UInt8 := dkwX10_begins_2 ++ dktX10_begins_3
def dkwX10_begins_1 : List UInt8 := [28, 182, 1, 100, 112, 154, 0, 80, 42, 180, 0, 64, 28, 46, 2, 159, 0, 6, 167, 0, 67, 42]
abbrev dktX10_begins_1 : List UInt8 := dkwX10_begins_1 ++ dktX10_begins_2
def dkwX10_begins_0 : List UInt8 := [3, 61, 28, 42, 180, 0, 9, 7, 46, 162, 0, 106, 27, 42, 180, 0, 61, 28, 46, 161, 0, 90, 27, 42]
abbrev dktX10_begins_0 : List UInt8 := dkwX10_begins_0 ++ dktX10_begins_1
theorem dksX10_begins_0 : cX10_begins.data.toList.drop 0 = dktX10_begins_0 := by decide +kernel
theorem dksX10_begins_1 : cX10_begins.data.toList.drop 24 = dktX10_begins_1 := dk_seg dksX10_begins_0 24 rfl rfl
theorem dksX10_begins_2 : cX10_begins.data.toList.drop 46 = dktX10_begins_2 := dk_seg dksX10_begins_1 22 rfl rfl
theorem dksX10_begins_3 : cX10_begins.data.toList.drop 69 = dktX10_begins_3 := dk_seg dksX10_begins_2 23 rfl rfl
theorem dksX10_begins_4 : cX10_begins.data.toList.drop 93 = dktX10_begins_4 := dk_seg dksX10_begins_3 24 rfl rfl
theorem dX10_begins_0 : decode cX10_begins 0 = .ok (.iconst 0, 1) := dk_3 (dk_at dksX10_begins_0 0 rfl rfl)
theorem dX10_begins_1 : decode cX10_begins 1 = .ok (.istore_n 2, 1) := dk_61 (dk_at dksX10_begins_0 1 rfl rfl)
theorem dX10_begins_2 : decode cX10_begins 2 = .ok (.iload_n 2, 1) := dk_28 (dk_at dksX10_begins_0 2 rfl rfl)
theorem dX10_begins_3 : decode cX10_begins 3 = .ok (.aload_n 0, 1) := dk_42 (dk_at dksX10_begins_0 3 rfl rfl)
theorem dX10_begins_4 : decode cX10_begins 4 = .ok (.getfield 9, 3) := dk_180 0 9 (dk_at dksX10_begins_0 4 rfl rfl)
theorem dX10_begins_7 : decode cX10_begins 7 = .ok (.iconst 4, 1) := dk_7 (dk_at dksX10_begins_0 7 rfl rfl)
theorem dX10_begins_8 : decode cX10_begins 8 = .ok (.iaload, 1) := dk_46 (dk_at dksX10_begins_0 8 rfl rfl)
theorem dX10_begins_9 : decode cX10_begins 9 = .ok (.if_icmp .ge 106, 3) := dk_162 0 106 (dk_at dksX10_begins_0 9 rfl rfl)
theorem dX10_begins_12 : decode cX10_begins 12 = .ok (.iload_n 1, 1) := dk_27 (dk_at dksX10_begins_0 12 rfl rfl)
theorem dX10_begins_13 : decode cX10_begins 13 = .ok (.aload_n 0, 1) := dk_42 (dk_at dksX10_begins_0 13 rfl rfl)
theorem dX10_begins_14 : decode cX10_begins 14 = .ok (.getfield 61, 3) := dk_180 0 61 (dk_at dksX10_begins_0 14 rfl rfl)
theorem dX10_begins_17 : decode cX10_begins 17 = .ok (.iload_n 2, 1) := dk_28 (dk_at dksX10_begins_0 17 rfl rfl)
theorem dX10_begins_18 : decode cX10_begins 18 = .ok (.iaload, 1) := dk_46 (dk_at dksX10_begins_0 18 rfl rfl)
theorem dX10_begins_19 : decode cX10_begins 19 = .ok (.if_icmp .lt 90, 3) := dk_161 0 90 (dk_at dksX10_begins_0 19 rfl rfl)
theorem dX10_begins_22 : decode cX10_begins 22 = .ok (.iload_n 1, 1) := dk_27 (dk_at dksX10_begins_0 22 rfl rfl)
theorem dX10_begins_23 : decode cX10_begins 23 = .ok (.aload_n 0, 1) := dk_42 (dk_at dksX10_begins_0 23 rfl rfl)
theorem dX10_begins_24 : decode cX10_begins 24 = .ok (.iload_n 2, 1) := dk_28 (dk_at dksX10_begins_1 0 rfl rfl)
theorem dX10_begins_25 : decode cX10_begins 25 = .ok (.invokevirtual 356, 3) := dk_182 1 100 (dk_at dksX10_begins_1 1 rfl rfl)
theorem dX10_begins_28 : decode cX10_begins 28 = .ok (.irem, 1) := dk_112 (dk_at dksX10_begins_1 4 rfl rfl)
theorem dX10_begins_29 : decode cX10_begins 29 = .ok (.ifCond .ne 80, 3) := dk_154 0 80 (dk_at dksX10_begins_1 5 rfl rfl)
theorem dX10_begins_32 : decode cX10_begins 32 = .ok (.aload_n 0, 1) := dk_42 (dk_at dksX10_begins_1 8 rfl rfl)
theorem dX10_begins_33 : decode cX10_begins 33 = .ok (.getfield 64, 3) := dk_180 0 64 (dk_at dksX10_begins_1 9 rfl rfl)
theorem dX10_begins_36 : decode cX10_begins 36 = .ok (.iload_n 2, 1) := dk_28 (dk_at dksX10_begins_1 12 rfl rfl)
theorem dX10_begins_37 : decode cX10_begins 37 = .ok (.iaload, 1) := dk_46 (dk_at dksX10_begins_1 13 rfl rfl)
theorem dX10_begins_38 : decode cX10_begins 38 = .ok (.iconst (-1), 1) := dk_2 (dk_at dksX10_begins_1 14 rfl rfl)
theorem dX10_begins_39 : decode cX10_begins 39 = .ok (.if_icmp .eq 6, 3) := dk_159 0 6 (dk_at dksX10_begins_1 15 rfl rfl)
theorem dX10_begins_42 : decode cX10_begins 42 = .ok (.goto 67, 3) := dk_167 0 67 (dk_at dksX10_begins_1 18 rfl rfl)
theorem dX10_begins_45 : decode cX10_begins 45 = .ok (.aload_n 0, 1) := dk_42 (dk_at dksX10_begins_1 21 rfl rfl)
theorem dX10_begins_46 : decode cX10_begins 46 = .ok (.getfield 64, 3) := dk_180 0 64 (dk_at dksX10_begins_2 0 rfl rfl)
theorem dX10_begins_49 : decode cX10_begins 49 = .ok (.iload_n 2, 1) := dk_28 (dk_at dksX10_begins_2 3 rfl rfl)
theorem dX10_begins_50 : decode cX10_begins 50 = .ok (.aload_n 0, 1) := dk_42 (dk_at dksX10_begins_2 4 rfl rfl)
theorem dX10_begins_51 : decode cX10_begins 51 = .ok (.getfield 67, 3) := dk_180 0 67 (dk_at dksX10_begins_2 5 rfl rfl)
theorem dX10_begins_54 : decode cX10_begins 54 = .ok (.iload_n 2, 1) := dk_28 (dk_at dksX10_begins_2 8 rfl rfl)
theorem dX10_begins_55 : decode cX10_begins 55 = .ok (.iaload, 1) := dk_46 (dk_at dksX10_begins_2 9 rfl rfl)
theorem dX10_begins_56 : decode cX10_begins 56 = .ok (.iastore, 1) := dk_79 (dk_at dksX10_begins_2 10 rfl rfl)
theorem dX10_begins_57 : decode cX10_begins 57 = .ok (.aload_n 0, 1) := dk_42 (dk_at dksX10_begins_2 11 rfl rfl)
theorem dX10_begins_58 : decode cX10_begins 58 = .ok (.getfield 67, 3) := dk_180 0 67 (dk_at dksX10_begins_2 12 rfl rfl)
theorem dX10_begins_61 : decode cX10_begins 61 = .ok (.iload_n 2, 1) := dk_28 (dk_at dksX10_begins_2 15 rfl rfl)
theorem dX10_begins_62 : decode cX10_begins 62 = .ok (.iaload, 1) := dk_46 (dk_at dksX10_begins_2 16 rfl rfl)
theorem dX10_begins_63 : decode cX10_begins 63 = .ok (.bipush 51, 2) := dk_16 51 (dk_at dksX10_begins_2 17 rfl rfl)
theorem dX10_begins_65 : decode cX10_begins 65 = .ok (.if_icmp .ge 20, 3) := dk_162 0 20 (dk_at dksX10_begins_2 19 rfl rfl)
theorem dX10_begins_68 : decode cX10_begins 68 = .ok (.aload_n 0, 1) := dk_42 (dk_at dksX10_begins_2 22 rfl rfl)
theorem dX10_begins_69 : decode cX10_begins 69 = .ok (.getfield 120, 3) := dk_180 0 120 (dk_at dksX10_begins_3 0 rfl rfl)
theorem dX10_begins_72 : decode cX10_begins 72 = .ok (.bipush 51, 2) := dk_16 51 (dk_at dksX10_begins_3 3 rfl rfl)
theorem dX10_begins_74 : decode cX10_begins 74 = .ok (.iload_n 2, 1) := dk_28 (dk_at dksX10_begins_3 5 rfl rfl)
theorem dX10_begins_75 : decode cX10_begins 75 = .ok (.imul, 1) := dk_104 (dk_at dksX10_begins_3 6 rfl rfl)
theorem dX10_begins_76 : decode cX10_begins 76 = .ok (.aload_n 0, 1) := dk_42 (dk_at dksX10_begins_3 7 rfl rfl)
theorem dX10_begins_77 : decode cX10_begins 77 = .ok (.getfield 67, 3) := dk_180 0 67 (dk_at dksX10_begins_3 8 rfl rfl)
theorem dX10_begins_80 : decode cX10_begins 80 = .ok (.iload_n 2, 1) := dk_28 (dk_at dksX10_begins_3 11 rfl rfl)
theorem dX10_begins_81 : decode cX10_begins 81 = .ok (.iaload, 1) := dk_46 (dk_at dksX10_begins_3 12 rfl rfl)
theorem dX10_begins_82 : decode cX10_begins 82 = .ok (.iadd, 1) := dk_96 (dk_at dksX10_begins_3 13 rfl rfl)
theorem dX10_begins_83 : decode cX10_begins 83 = .ok (.iload_n 1, 1) := dk_27 (dk_at dksX10_begins_3 14 rfl rfl)
theorem dX10_begins_84 : decode cX10_begins 84 = .ok (.iastore, 1) := dk_79 (dk_at dksX10_begins_3 15 rfl rfl)
theorem dX10_begins_85 : decode cX10_begins 85 = .ok (.aload_n 0, 1) := dk_42 (dk_at dksX10_begins_3 16 rfl rfl)
theorem dX10_begins_86 : decode cX10_begins 86 = .ok (.getfield 67, 3) := dk_180 0 67 (dk_at dksX10_begins_3 17 rfl rfl)
theorem dX10_begins_89 : decode cX10_begins 89 = .ok (.iload_n 2, 1) := dk_28 (dk_at dksX10_begins_3 20 rfl rfl)
theorem dX10_begins_90 : decode cX10_begins 90 = .ok (.dup2, 1) := dk_92 (dk_at dksX10_begins_3 21 rfl rfl)
theorem dX10_begins_91 : decode cX10_begins 91 = .ok (.iaload, 1) := dk_46 (dk_at dksX10_begins_3 22 rfl rfl)
theorem dX10_begins_92 : decode cX10_begins 92 = .ok (.iconst 1, 1) := dk_4 (dk_at dksX10_begins_3 23 rfl rfl)
theorem dX10_begins_93 : decode cX10_begins 93 = .ok (.iadd, 1) := dk_96 (dk_at dksX10_begins_4 0 rfl rfl)
theorem dX10_begins_94 : decode cX10_begins 94 = .ok (.iastore, 1) := dk_79 (dk_at dksX10_begins_4 1 rfl rfl)
theorem dX10_begins_95 : decode cX10_begins 95 = .ok (.aload_n 0, 1) := dk_42 (dk_at dksX10_begins_4 2 rfl rfl)
theorem dX10_begins_96 : decode cX10_begins 96 = .ok (.getfield 70, 3) := dk_180 0 70 (dk_at dksX10_begins_4 3 rfl rfl)
theorem dX10_begins_99 : decode cX10_begins 99 = .ok (.iload_n 2, 1) := dk_28 (dk_at dksX10_begins_4 6 rfl rfl)
theorem dX10_begins_100 : decode cX10_begins 100 = .ok (.iconst 0, 1) := dk_3 (dk_at dksX10_begins_4 7 rfl rfl)
theorem dX10_begins_101 : decode cX10_begins 101 = .ok (.iastore, 1) := dk_79 (dk_at dksX10_begins_4 8 rfl rfl)
theorem dX10_begins_102 : decode cX10_begins 102 = .ok (.aload_n 0, 1) := dk_42 (dk_at dksX10_begins_4 9 rfl rfl)
theorem dX10_begins_103 : decode cX10_begins 103 = .ok (.getfield 73, 3) := dk_180 0 73 (dk_at dksX10_begins_4 10 rfl rfl)
theorem dX10_begins_106 : decode cX10_begins 106 = .ok (.iload_n 2, 1) := dk_28 (dk_at dksX10_begins_4 13 rfl rfl)
theorem dX10_begins_107 : decode cX10_begins 107 = .ok (.iconst 0, 1) := dk_3 (dk_at dksX10_begins_4 14 rfl rfl)
theorem dX10_begins_108 : decode cX10_begins 108 = .ok (.iastore, 1) := dk_79 (dk_at dksX10_begins_4 15 rfl rfl)
theorem dX10_begins_109 : decode cX10_begins 109 = .ok (.iinc 2 1, 3) := dk_132 2 1 (dk_at dksX10_begins_4 16 rfl rfl)
theorem dX10_begins_112 : decode cX10_begins 112 = .ok (.goto (-110), 3) := dk_167 255 146 (dk_at dksX10_begins_4 19 rfl rfl)
theorem dX10_begins_115 : decode cX10_begins 115 = .ok (.return_, 1) := dk_177 (dk_at dksX10_begins_4 22 rfl rfl)
abbrev cX10_whoHas : ByteArray := prog_18_method_84_code
def yX10_whoHas : MethodName := ⟨RX10, "whoHas", "()I"⟩
def dkwX10_whoHas_1 : List UInt8 := [42, 180, 0, 70, 27, 46, 182, 1, 197, 4, 159, 0, 5, 27, 172, 132, 1, 1, 167, 255, 216, 2, 172]
abbrev dktX10_whoHas_1 : List UInt8 := dkwX10_whoHas_1 ++ []
def dkwX10_whoHas_0 : List UInt8 := [3, 60, 27, 42, 180, 0, 9, 7, 46, 162, 0, 36, 42, 180, 0, 64, 27, 46, 2, 159, 0, 20, 42, 27]
abbrev dktX10_whoHas_0 : List UInt8 := dkwX10_whoHas_0 ++ dktX10_whoHas_1
theorem dksX10_whoHas_0 : cX10_whoHas.data.toList.drop 0 = dktX10_whoHas_0 := by decide +kernel
theorem dksX10_whoHas_1 : cX10_whoHas.data.toList.drop 24 = dktX10_whoHas_1 := dk_seg dksX10_whoHas_0 24 rfl rfl
theorem dX10_whoHas_0 : decode cX10_whoHas 0 = .ok (.iconst 0, 1) := dk_3 (dk_at dksX10_whoHas_0 0 rfl rfl)
theorem dX10_whoHas_1 : decode cX10_whoHas 1 = .ok (.istore_n 1, 1) := dk_60 (dk_at dksX10_whoHas_0 1 rfl rfl)
theorem dX10_whoHas_2 : decode cX10_whoHas 2 = .ok (.iload_n 1, 1) := dk_27 (dk_at dksX10_whoHas_0 2 rfl rfl)
theorem dX10_whoHas_3 : decode cX10_whoHas 3 = .ok (.aload_n 0, 1) := dk_42 (dk_at dksX10_whoHas_0 3 rfl rfl)
theorem dX10_whoHas_4 : decode cX10_whoHas 4 = .ok (.getfield 9, 3) := dk_180 0 9 (dk_at dksX10_whoHas_0 4 rfl rfl)
theorem dX10_whoHas_7 : decode cX10_whoHas 7 = .ok (.iconst 4, 1) := dk_7 (dk_at dksX10_whoHas_0 7 rfl rfl)
theorem dX10_whoHas_8 : decode cX10_whoHas 8 = .ok (.iaload, 1) := dk_46 (dk_at dksX10_whoHas_0 8 rfl rfl)
theorem dX10_whoHas_9 : decode cX10_whoHas 9 = .ok (.if_icmp .ge 36, 3) := dk_162 0 36 (dk_at dksX10_whoHas_0 9 rfl rfl)
theorem dX10_whoHas_12 : decode cX10_whoHas 12 = .ok (.aload_n 0, 1) := dk_42 (dk_at dksX10_whoHas_0 12 rfl rfl)
theorem dX10_whoHas_13 : decode cX10_whoHas 13 = .ok (.getfield 64, 3) := dk_180 0 64 (dk_at dksX10_whoHas_0 13 rfl rfl)
theorem dX10_whoHas_16 : decode cX10_whoHas 16 = .ok (.iload_n 1, 1) := dk_27 (dk_at dksX10_whoHas_0 16 rfl rfl)
theorem dX10_whoHas_17 : decode cX10_whoHas 17 = .ok (.iaload, 1) := dk_46 (dk_at dksX10_whoHas_0 17 rfl rfl)
theorem dX10_whoHas_18 : decode cX10_whoHas 18 = .ok (.iconst (-1), 1) := dk_2 (dk_at dksX10_whoHas_0 18 rfl rfl)
theorem dX10_whoHas_19 : decode cX10_whoHas 19 = .ok (.if_icmp .eq 20, 3) := dk_159 0 20 (dk_at dksX10_whoHas_0 19 rfl rfl)
theorem dX10_whoHas_22 : decode cX10_whoHas 22 = .ok (.aload_n 0, 1) := dk_42 (dk_at dksX10_whoHas_0 22 rfl rfl)
theorem dX10_whoHas_23 : decode cX10_whoHas 23 = .ok (.iload_n 1, 1) := dk_27 (dk_at dksX10_whoHas_0 23 rfl rfl)
theorem dX10_whoHas_24 : decode cX10_whoHas 24 = .ok (.aload_n 0, 1) := dk_42 (dk_at dksX10_whoHas_1 0 rfl rfl)
theorem dX10_whoHas_25 : decode cX10_whoHas 25 = .ok (.getfield 70, 3) := dk_180 0 70 (dk_at dksX10_whoHas_1 1 rfl rfl)
theorem dX10_whoHas_28 : decode cX10_whoHas 28 = .ok (.iload_n 1, 1) := dk_27 (dk_at dksX10_whoHas_1 4 rfl rfl)
theorem dX10_whoHas_29 : decode cX10_whoHas 29 = .ok (.iaload, 1) := dk_46 (dk_at dksX10_whoHas_1 5 rfl rfl)
theorem dX10_whoHas_30 : decode cX10_whoHas 30 = .ok (.invokevirtual 453, 3) := dk_182 1 197 (dk_at dksX10_whoHas_1 6 rfl rfl)
theorem dX10_whoHas_33 : decode cX10_whoHas 33 = .ok (.iconst 1, 1) := dk_4 (dk_at dksX10_whoHas_1 9 rfl rfl)
theorem dX10_whoHas_34 : decode cX10_whoHas 34 = .ok (.if_icmp .eq 5, 3) := dk_159 0 5 (dk_at dksX10_whoHas_1 10 rfl rfl)
theorem dX10_whoHas_37 : decode cX10_whoHas 37 = .ok (.iload_n 1, 1) := dk_27 (dk_at dksX10_whoHas_1 13 rfl rfl)
theorem dX10_whoHas_38 : decode cX10_whoHas 38 = .ok (.ireturn, 1) := dk_172 (dk_at dksX10_whoHas_1 14 rfl rfl)
theorem dX10_whoHas_39 : decode cX10_whoHas 39 = .ok (.iinc 1 1, 3) := dk_132 1 1 (dk_at dksX10_whoHas_1 15 rfl rfl)
theorem dX10_whoHas_42 : decode cX10_whoHas 42 = .ok (.goto (-40), 3) := dk_167 255 216 (dk_at dksX10_whoHas_1 18 rfl rfl)
theorem dX10_whoHas_45 : decode cX10_whoHas 45 = .ok (.iconst (-1), 1) := dk_2 (dk_at dksX10_whoHas_1 21 rfl rfl)
theorem dX10_whoHas_46 : decode cX10_whoHas 46 = .ok (.ireturn, 1) := dk_172 (dk_at dksX10_whoHas_1 22 rfl rfl)
abbrev cX10_changeAt : ByteArray := prog_18_method_73_code
def yX10_changeAt : MethodName := ⟨RX10, "changeAt", "(II)I"⟩
def dkwX10_changeAt_4 : List UInt8 := [132, 3, 1, 167, 255, 161, 2, 172]
abbrev dktX10_changeAt_4 : List UInt8 := dkwX10_changeAt_4 ++ []
def dkwX10_changeAt_3 : List UInt8 := [29, 7, 182, 1, 94, 96, 4, 100, 133, 184, 0, 152, 153, 0, 10, 42, 29, 3, 182, 1, 94, 172]
abbrev dktX10_changeAt_3 : List UInt8 := dkwX10_changeAt_3 ++ dktX10_changeAt_4
def dkwX10_changeAt_2 : List UInt8 := [167, 0, 46, 42, 180, 0, 64, 27, 46, 133, 42, 29, 5, 182, 1, 94, 133, 42, 29, 5, 182, 1, 94, 42]
abbrev dktX10_changeAt_2 : List UInt8 := dkwX10_changeAt_2 ++ dktX10_changeAt_3
def dkwX10_changeAt_1 : List UInt8 := [6, 163, 0, 69, 42, 29, 4, 182, 1, 94, 27, 160, 0, 59, 42, 29, 6, 182, 1, 94, 28, 159, 0, 6]
abbrev dktX10_changeAt_1 : List UInt8 := dkwX10_changeAt_1 ++ dktX10_changeAt_2
def dkwX10_changeAt_0 : List UInt8 := [3, 62, 29, 42, 182, 1, 171, 162, 0, 93, 29, 42, 180, 0, 55, 159, 0, 79, 42, 29, 3, 182, 1, 94]
abbrev dktX10_changeAt_0 : List UInt8 := dkwX10_changeAt_0 ++ dktX10_changeAt_1
theorem dksX10_changeAt_0 : cX10_changeAt.data.toList.drop 0 = dktX10_changeAt_0 := by decide +kernel
theorem dksX10_changeAt_1 : cX10_changeAt.data.toList.drop 24 = dktX10_changeAt_1 := dk_seg dksX10_changeAt_0 24 rfl rfl
theorem dksX10_changeAt_2 : cX10_changeAt.data.toList.drop 48 = dktX10_changeAt_2 := dk_seg dksX10_changeAt_1 24 rfl rfl
theorem dksX10_changeAt_3 : cX10_changeAt.data.toList.drop 72 = dktX10_changeAt_3 := dk_seg dksX10_changeAt_2 24 rfl rfl
theorem dksX10_changeAt_4 : cX10_changeAt.data.toList.drop 94 = dktX10_changeAt_4 := dk_seg dksX10_changeAt_3 22 rfl rfl
theorem dX10_changeAt_0 : decode cX10_changeAt 0 = .ok (.iconst 0, 1) := dk_3 (dk_at dksX10_changeAt_0 0 rfl rfl)
theorem dX10_changeAt_1 : decode cX10_changeAt 1 = .ok (.istore_n 3, 1) := dk_62 (dk_at dksX10_changeAt_0 1 rfl rfl)
theorem dX10_changeAt_2 : decode cX10_changeAt 2 = .ok (.iload_n 3, 1) := dk_29 (dk_at dksX10_changeAt_0 2 rfl rfl)
theorem dX10_changeAt_3 : decode cX10_changeAt 3 = .ok (.aload_n 0, 1) := dk_42 (dk_at dksX10_changeAt_0 3 rfl rfl)
theorem dX10_changeAt_4 : decode cX10_changeAt 4 = .ok (.invokevirtual 427, 3) := dk_182 1 171 (dk_at dksX10_changeAt_0 4 rfl rfl)
theorem dX10_changeAt_7 : decode cX10_changeAt 7 = .ok (.if_icmp .ge 93, 3) := dk_162 0 93 (dk_at dksX10_changeAt_0 7 rfl rfl)
theorem dX10_changeAt_10 : decode cX10_changeAt 10 = .ok (.iload_n 3, 1) := dk_29 (dk_at dksX10_changeAt_0 10 rfl rfl)
theorem dX10_changeAt_11 : decode cX10_changeAt 11 = .ok (.aload_n 0, 1) := dk_42 (dk_at dksX10_changeAt_0 11 rfl rfl)
theorem dX10_changeAt_12 : decode cX10_changeAt 12 = .ok (.getfield 55, 3) := dk_180 0 55 (dk_at dksX10_changeAt_0 12 rfl rfl)
theorem dX10_changeAt_15 : decode cX10_changeAt 15 = .ok (.if_icmp .eq 79, 3) := dk_159 0 79 (dk_at dksX10_changeAt_0 15 rfl rfl)
theorem dX10_changeAt_18 : decode cX10_changeAt 18 = .ok (.aload_n 0, 1) := dk_42 (dk_at dksX10_changeAt_0 18 rfl rfl)
theorem dX10_changeAt_19 : decode cX10_changeAt 19 = .ok (.iload_n 3, 1) := dk_29 (dk_at dksX10_changeAt_0 19 rfl rfl)
theorem dX10_changeAt_20 : decode cX10_changeAt 20 = .ok (.iconst 0, 1) := dk_3 (dk_at dksX10_changeAt_0 20 rfl rfl)
theorem dX10_changeAt_21 : decode cX10_changeAt 21 = .ok (.invokevirtual 350, 3) := dk_182 1 94 (dk_at dksX10_changeAt_0 21 rfl rfl)
theorem dX10_changeAt_24 : decode cX10_changeAt 24 = .ok (.iconst 3, 1) := dk_6 (dk_at dksX10_changeAt_1 0 rfl rfl)
theorem dX10_changeAt_25 : decode cX10_changeAt 25 = .ok (.if_icmp .gt 69, 3) := dk_163 0 69 (dk_at dksX10_changeAt_1 1 rfl rfl)
theorem dX10_changeAt_28 : decode cX10_changeAt 28 = .ok (.aload_n 0, 1) := dk_42 (dk_at dksX10_changeAt_1 4 rfl rfl)
theorem dX10_changeAt_29 : decode cX10_changeAt 29 = .ok (.iload_n 3, 1) := dk_29 (dk_at dksX10_changeAt_1 5 rfl rfl)
theorem dX10_changeAt_30 : decode cX10_changeAt 30 = .ok (.iconst 1, 1) := dk_4 (dk_at dksX10_changeAt_1 6 rfl rfl)
theorem dX10_changeAt_31 : decode cX10_changeAt 31 = .ok (.invokevirtual 350, 3) := dk_182 1 94 (dk_at dksX10_changeAt_1 7 rfl rfl)
theorem dX10_changeAt_34 : decode cX10_changeAt 34 = .ok (.iload_n 1, 1) := dk_27 (dk_at dksX10_changeAt_1 10 rfl rfl)
theorem dX10_changeAt_35 : decode cX10_changeAt 35 = .ok (.if_icmp .ne 59, 3) := dk_160 0 59 (dk_at dksX10_changeAt_1 11 rfl rfl)
theorem dX10_changeAt_38 : decode cX10_changeAt 38 = .ok (.aload_n 0, 1) := dk_42 (dk_at dksX10_changeAt_1 14 rfl rfl)
theorem dX10_changeAt_39 : decode cX10_changeAt 39 = .ok (.iload_n 3, 1) := dk_29 (dk_at dksX10_changeAt_1 15 rfl rfl)
theorem dX10_changeAt_40 : decode cX10_changeAt 40 = .ok (.iconst 3, 1) := dk_6 (dk_at dksX10_changeAt_1 16 rfl rfl)
theorem dX10_changeAt_41 : decode cX10_changeAt 41 = .ok (.invokevirtual 350, 3) := dk_182 1 94 (dk_at dksX10_changeAt_1 17 rfl rfl)
theorem dX10_changeAt_44 : decode cX10_changeAt 44 = .ok (.iload_n 2, 1) := dk_28 (dk_at dksX10_changeAt_1 20 rfl rfl)
theorem dX10_changeAt_45 : decode cX10_changeAt 45 = .ok (.if_icmp .eq 6, 3) := dk_159 0 6 (dk_at dksX10_changeAt_1 21 rfl rfl)
theorem dX10_changeAt_48 : decode cX10_changeAt 48 = .ok (.goto 46, 3) := dk_167 0 46 (dk_at dksX10_changeAt_2 0 rfl rfl)
theorem dX10_changeAt_51 : decode cX10_changeAt 51 = .ok (.aload_n 0, 1) := dk_42 (dk_at dksX10_changeAt_2 3 rfl rfl)
theorem dX10_changeAt_52 : decode cX10_changeAt 52 = .ok (.getfield 64, 3) := dk_180 0 64 (dk_at dksX10_changeAt_2 4 rfl rfl)
theorem dX10_changeAt_55 : decode cX10_changeAt 55 = .ok (.iload_n 1, 1) := dk_27 (dk_at dksX10_changeAt_2 7 rfl rfl)
theorem dX10_changeAt_56 : decode cX10_changeAt 56 = .ok (.iaload, 1) := dk_46 (dk_at dksX10_changeAt_2 8 rfl rfl)
theorem dX10_changeAt_57 : decode cX10_changeAt 57 = .ok (.i2l, 1) := dk_133 (dk_at dksX10_changeAt_2 9 rfl rfl)
theorem dX10_changeAt_58 : decode cX10_changeAt 58 = .ok (.aload_n 0, 1) := dk_42 (dk_at dksX10_changeAt_2 10 rfl rfl)
theorem dX10_changeAt_59 : decode cX10_changeAt 59 = .ok (.iload_n 3, 1) := dk_29 (dk_at dksX10_changeAt_2 11 rfl rfl)
theorem dX10_changeAt_60 : decode cX10_changeAt 60 = .ok (.iconst 2, 1) := dk_5 (dk_at dksX10_changeAt_2 12 rfl rfl)
theorem dX10_changeAt_61 : decode cX10_changeAt 61 = .ok (.invokevirtual 350, 3) := dk_182 1 94 (dk_at dksX10_changeAt_2 13 rfl rfl)
theorem dX10_changeAt_64 : decode cX10_changeAt 64 = .ok (.i2l, 1) := dk_133 (dk_at dksX10_changeAt_2 16 rfl rfl)
theorem dX10_changeAt_65 : decode cX10_changeAt 65 = .ok (.aload_n 0, 1) := dk_42 (dk_at dksX10_changeAt_2 17 rfl rfl)
theorem dX10_changeAt_66 : decode cX10_changeAt 66 = .ok (.iload_n 3, 1) := dk_29 (dk_at dksX10_changeAt_2 18 rfl rfl)
theorem dX10_changeAt_67 : decode cX10_changeAt 67 = .ok (.iconst 2, 1) := dk_5 (dk_at dksX10_changeAt_2 19 rfl rfl)
theorem dX10_changeAt_68 : decode cX10_changeAt 68 = .ok (.invokevirtual 350, 3) := dk_182 1 94 (dk_at dksX10_changeAt_2 20 rfl rfl)
theorem dX10_changeAt_71 : decode cX10_changeAt 71 = .ok (.aload_n 0, 1) := dk_42 (dk_at dksX10_changeAt_2 23 rfl rfl)
theorem dX10_changeAt_72 : decode cX10_changeAt 72 = .ok (.iload_n 3, 1) := dk_29 (dk_at dksX10_changeAt_3 0 rfl rfl)
theorem dX10_changeAt_73 : decode cX10_changeAt 73 = .ok (.iconst 4, 1) := dk_7 (dk_at dksX10_changeAt_3 1 rfl rfl)
theorem dX10_changeAt_74 : decode cX10_changeAt 74 = .ok (.invokevirtual 350, 3) := dk_182 1 94 (dk_at dksX10_changeAt_3 2 rfl rfl)
theorem dX10_changeAt_77 : decode cX10_changeAt 77 = .ok (.iadd, 1) := dk_96 (dk_at dksX10_changeAt_3 5 rfl rfl)
theorem dX10_changeAt_78 : decode cX10_changeAt 78 = .ok (.iconst 1, 1) := dk_4 (dk_at dksX10_changeAt_3 6 rfl rfl)
theorem dX10_changeAt_79 : decode cX10_changeAt 79 = .ok (.isub, 1) := dk_100 (dk_at dksX10_changeAt_3 7 rfl rfl)
theorem dX10_changeAt_80 : decode cX10_changeAt 80 = .ok (.i2l, 1) := dk_133 (dk_at dksX10_changeAt_3 8 rfl rfl)
theorem dX10_changeAt_81 : decode cX10_changeAt 81 = .ok (.invokestatic 152, 3) := dk_184 0 152 (dk_at dksX10_changeAt_3 9 rfl rfl)
theorem dX10_changeAt_84 : decode cX10_changeAt 84 = .ok (.ifCond .eq 10, 3) := dk_153 0 10 (dk_at dksX10_changeAt_3 12 rfl rfl)
theorem dX10_changeAt_87 : decode cX10_changeAt 87 = .ok (.aload_n 0, 1) := dk_42 (dk_at dksX10_changeAt_3 15 rfl rfl)
theorem dX10_changeAt_88 : decode cX10_changeAt 88 = .ok (.iload_n 3, 1) := dk_29 (dk_at dksX10_changeAt_3 16 rfl rfl)
theorem dX10_changeAt_89 : decode cX10_changeAt 89 = .ok (.iconst 0, 1) := dk_3 (dk_at dksX10_changeAt_3 17 rfl rfl)
theorem dX10_changeAt_90 : decode cX10_changeAt 90 = .ok (.invokevirtual 350, 3) := dk_182 1 94 (dk_at dksX10_changeAt_3 18 rfl rfl)
theorem dX10_changeAt_93 : decode cX10_changeAt 93 = .ok (.ireturn, 1) := dk_172 (dk_at dksX10_changeAt_3 21 rfl rfl)
theorem dX10_changeAt_94 : decode cX10_changeAt 94 = .ok (.iinc 3 1, 3) := dk_132 3 1 (dk_at dksX10_changeAt_4 0 rfl rfl)
theorem dX10_changeAt_97 : decode cX10_changeAt 97 = .ok (.goto (-95), 3) := dk_167 255 161 (dk_at dksX10_changeAt_4 3 rfl rfl)
theorem dX10_changeAt_100 : decode cX10_changeAt 100 = .ok (.iconst (-1), 1) := dk_2 (dk_at dksX10_changeAt_4 6 rfl rfl)
theorem dX10_changeAt_101 : decode cX10_changeAt 101 = .ok (.ireturn, 1) := dk_172 (dk_at dksX10_changeAt_4 7 rfl rfl)
abbrev cX10_injections : ByteArray := prog_18_method_72_code
def yX10_injections : MethodName := ⟨RX10, "injections", "()I"⟩
def dkwX10_injections_0 : List UInt8 := [42, 182, 1, 89, 42, 180, 1, 159, 96, 172]
abbrev dktX10_injections_0 : List UInt8 := dkwX10_injections_0 ++ []
theorem dksX10_injections_0 : cX10_injections.data.toList.drop 0 = dktX10_injections_0 := by decide +kernel
theorem dX10_injections_0 : decode cX10_injections 0 = .ok (.aload_n 0, 1) := dk_42 (dk_at dksX10_injections_0 0 rfl rfl)
theorem dX10_injections_1 : decode cX10_injections 1 = .ok (.invokevirtual 345, 3) := dk_182 1 89 (dk_at dksX10_injections_0 1 rfl rfl)
theorem dX10_injections_4 : decode cX10_injections 4 = .ok (.aload_n 0, 1) := dk_42 (dk_at dksX10_injections_0 4 rfl rfl)
theorem dX10_injections_5 : decode cX10_injections 5 = .ok (.getfield 415, 3) := dk_180 1 159 (dk_at dksX10_injections_0 5 rfl rfl)
theorem dX10_injections_8 : decode cX10_injections 8 = .ok (.iadd, 1) := dk_96 (dk_at dksX10_injections_0 8 rfl rfl)
theorem dX10_injections_9 : decode cX10_injections 9 = .ok (.ireturn, 1) := dk_172 (dk_at dksX10_injections_0 9 rfl rfl)
abbrev cX10_works : ByteArray := prog_18_method_86_code
def yX10_works : MethodName := ⟨RX10, "works", "(II)V"⟩
def dkwX10_works_5 : List UInt8 := [79, 42, 180, 0, 73, 27, 3, 79, 177]
abbrev dktX10_works_5 : List UInt8 := dkwX10_works_5 ++ []
def dkwX10_works_4 : List UInt8 := [180, 0, 70, 27, 42, 27, 42, 180, 0, 70, 27, 46, 42, 180, 0, 64, 27, 46, 21, 5, 112, 182, 1, 140]
abbrev dktX10_works_4 : List UInt8 := dkwX10_works_4 ++ dktX10_works_5
def dkwX10_works_3 : List UInt8 := [182, 1, 68, 54, 5, 29, 5, 159, 0, 8, 21, 5, 154, 0, 10, 42, 27, 28, 182, 1, 213, 177, 42]
abbrev dktX10_works_3 : List UInt8 := dkwX10_works_3 ++ dktX10_works_4
def dkwX10_works_2 : List UInt8 := [153, 0, 14, 42, 180, 0, 73, 27, 46, 21, 4, 162, 0, 4, 177, 42, 27, 42, 180, 0, 70, 27, 46]
abbrev dktX10_works_2 : List UInt8 := dkwX10_works_2 ++ dktX10_works_3
def dkwX10_works_1 : List UInt8 := [42, 180, 0, 70, 27, 46, 182, 1, 74, 29, 6, 160, 0, 7, 5, 167, 0, 4, 4, 104, 54, 4, 29]
abbrev dktX10_works_1 : List UInt8 := dkwX10_works_1 ++ dktX10_works_2
def dkwX10_works_0 : List UInt8 := [42, 27, 42, 180, 0, 70, 27, 46, 182, 1, 197, 62, 42, 180, 0, 73, 27, 92, 46, 4, 96, 79, 42, 27]
abbrev dktX10_works_0 : List UInt8 := dkwX10_works_0 ++ dktX10_works_1
theorem dksX10_works_0 : cX10_works.data.toList.drop 0 = dktX10_works_0 := by decide +kernel
theorem dksX10_works_1 : cX10_works.data.toList.drop 24 = dktX10_works_1 := dk_seg dksX10_works_0 24 rfl rfl
theorem dksX10_works_2 : cX10_works.data.toList.drop 47 = dktX10_works_2 := dk_seg dksX10_works_1 23 rfl rfl
theorem dksX10_works_3 : cX10_works.data.toList.drop 70 = dktX10_works_3 := dk_seg dksX10_works_2 23 rfl rfl
theorem dksX10_works_4 : cX10_works.data.toList.drop 93 = dktX10_works_4 := dk_seg dksX10_works_3 23 rfl rfl
theorem dksX10_works_5 : cX10_works.data.toList.drop 117 = dktX10_works_5 := dk_seg dksX10_works_4 24 rfl rfl
theorem dX10_works_0 : decode cX10_works 0 = .ok (.aload_n 0, 1) := dk_42 (dk_at dksX10_works_0 0 rfl rfl)
theorem dX10_works_1 : decode cX10_works 1 = .ok (.iload_n 1, 1) := dk_27 (dk_at dksX10_works_0 1 rfl rfl)
theorem dX10_works_2 : decode cX10_works 2 = .ok (.aload_n 0, 1) := dk_42 (dk_at dksX10_works_0 2 rfl rfl)
theorem dX10_works_3 : decode cX10_works 3 = .ok (.getfield 70, 3) := dk_180 0 70 (dk_at dksX10_works_0 3 rfl rfl)
theorem dX10_works_6 : decode cX10_works 6 = .ok (.iload_n 1, 1) := dk_27 (dk_at dksX10_works_0 6 rfl rfl)
theorem dX10_works_7 : decode cX10_works 7 = .ok (.iaload, 1) := dk_46 (dk_at dksX10_works_0 7 rfl rfl)
theorem dX10_works_8 : decode cX10_works 8 = .ok (.invokevirtual 453, 3) := dk_182 1 197 (dk_at dksX10_works_0 8 rfl rfl)
theorem dX10_works_11 : decode cX10_works 11 = .ok (.istore_n 3, 1) := dk_62 (dk_at dksX10_works_0 11 rfl rfl)
theorem dX10_works_12 : decode cX10_works 12 = .ok (.aload_n 0, 1) := dk_42 (dk_at dksX10_works_0 12 rfl rfl)
theorem dX10_works_13 : decode cX10_works 13 = .ok (.getfield 73, 3) := dk_180 0 73 (dk_at dksX10_works_0 13 rfl rfl)
theorem dX10_works_16 : decode cX10_works 16 = .ok (.iload_n 1, 1) := dk_27 (dk_at dksX10_works_0 16 rfl rfl)
theorem dX10_works_17 : decode cX10_works 17 = .ok (.dup2, 1) := dk_92 (dk_at dksX10_works_0 17 rfl rfl)
theorem dX10_works_18 : decode cX10_works 18 = .ok (.iaload, 1) := dk_46 (dk_at dksX10_works_0 18 rfl rfl)
theorem dX10_works_19 : decode cX10_works 19 = .ok (.iconst 1, 1) := dk_4 (dk_at dksX10_works_0 19 rfl rfl)
theorem dX10_works_20 : decode cX10_works 20 = .ok (.iadd, 1) := dk_96 (dk_at dksX10_works_0 20 rfl rfl)
theorem dX10_works_21 : decode cX10_works 21 = .ok (.iastore, 1) := dk_79 (dk_at dksX10_works_0 21 rfl rfl)
theorem dX10_works_22 : decode cX10_works 22 = .ok (.aload_n 0, 1) := dk_42 (dk_at dksX10_works_0 22 rfl rfl)
theorem dX10_works_23 : decode cX10_works 23 = .ok (.iload_n 1, 1) := dk_27 (dk_at dksX10_works_0 23 rfl rfl)
theorem dX10_works_24 : decode cX10_works 24 = .ok (.aload_n 0, 1) := dk_42 (dk_at dksX10_works_1 0 rfl rfl)
theorem dX10_works_25 : decode cX10_works 25 = .ok (.getfield 70, 3) := dk_180 0 70 (dk_at dksX10_works_1 1 rfl rfl)
theorem dX10_works_28 : decode cX10_works 28 = .ok (.iload_n 1, 1) := dk_27 (dk_at dksX10_works_1 4 rfl rfl)
theorem dX10_works_29 : decode cX10_works 29 = .ok (.iaload, 1) := dk_46 (dk_at dksX10_works_1 5 rfl rfl)
theorem dX10_works_30 : decode cX10_works 30 = .ok (.invokevirtual 330, 3) := dk_182 1 74 (dk_at dksX10_works_1 6 rfl rfl)
theorem dX10_works_33 : decode cX10_works 33 = .ok (.iload_n 3, 1) := dk_29 (dk_at dksX10_works_1 9 rfl rfl)
theorem dX10_works_34 : decode cX10_works 34 = .ok (.iconst 3, 1) := dk_6 (dk_at dksX10_works_1 10 rfl rfl)
theorem dX10_works_35 : decode cX10_works 35 = .ok (.if_icmp .ne 7, 3) := dk_160 0 7 (dk_at dksX10_works_1 11 rfl rfl)
theorem dX10_works_38 : decode cX10_works 38 = .ok (.iconst 2, 1) := dk_5 (dk_at dksX10_works_1 14 rfl rfl)
theorem dX10_works_39 : decode cX10_works 39 = .ok (.goto 4, 3) := dk_167 0 4 (dk_at dksX10_works_1 15 rfl rfl)
theorem dX10_works_42 : decode cX10_works 42 = .ok (.iconst 1, 1) := dk_4 (dk_at dksX10_works_1 18 rfl rfl)
theorem dX10_works_43 : decode cX10_works 43 = .ok (.imul, 1) := dk_104 (dk_at dksX10_works_1 19 rfl rfl)
theorem dX10_works_44 : decode cX10_works 44 = .ok (.istore 4, 2) := dk_54 4 (dk_at dksX10_works_1 20 rfl rfl)
theorem dX10_works_46 : decode cX10_works 46 = .ok (.iload_n 3, 1) := dk_29 (dk_at dksX10_works_1 22 rfl rfl)
theorem dX10_works_47 : decode cX10_works 47 = .ok (.ifCond .eq 14, 3) := dk_153 0 14 (dk_at dksX10_works_2 0 rfl rfl)
theorem dX10_works_50 : decode cX10_works 50 = .ok (.aload_n 0, 1) := dk_42 (dk_at dksX10_works_2 3 rfl rfl)
theorem dX10_works_51 : decode cX10_works 51 = .ok (.getfield 73, 3) := dk_180 0 73 (dk_at dksX10_works_2 4 rfl rfl)
theorem dX10_works_54 : decode cX10_works 54 = .ok (.iload_n 1, 1) := dk_27 (dk_at dksX10_works_2 7 rfl rfl)
theorem dX10_works_55 : decode cX10_works 55 = .ok (.iaload, 1) := dk_46 (dk_at dksX10_works_2 8 rfl rfl)
theorem dX10_works_56 : decode cX10_works 56 = .ok (.iload 4, 2) := dk_21 4 (dk_at dksX10_works_2 9 rfl rfl)
theorem dX10_works_58 : decode cX10_works 58 = .ok (.if_icmp .ge 4, 3) := dk_162 0 4 (dk_at dksX10_works_2 11 rfl rfl)
theorem dX10_works_61 : decode cX10_works 61 = .ok (.return_, 1) := dk_177 (dk_at dksX10_works_2 14 rfl rfl)
theorem dX10_works_62 : decode cX10_works 62 = .ok (.aload_n 0, 1) := dk_42 (dk_at dksX10_works_2 15 rfl rfl)
theorem dX10_works_63 : decode cX10_works 63 = .ok (.iload_n 1, 1) := dk_27 (dk_at dksX10_works_2 16 rfl rfl)
theorem dX10_works_64 : decode cX10_works 64 = .ok (.aload_n 0, 1) := dk_42 (dk_at dksX10_works_2 17 rfl rfl)
theorem dX10_works_65 : decode cX10_works 65 = .ok (.getfield 70, 3) := dk_180 0 70 (dk_at dksX10_works_2 18 rfl rfl)
theorem dX10_works_68 : decode cX10_works 68 = .ok (.iload_n 1, 1) := dk_27 (dk_at dksX10_works_2 21 rfl rfl)
theorem dX10_works_69 : decode cX10_works 69 = .ok (.iaload, 1) := dk_46 (dk_at dksX10_works_2 22 rfl rfl)
theorem dX10_works_70 : decode cX10_works 70 = .ok (.invokevirtual 324, 3) := dk_182 1 68 (dk_at dksX10_works_3 0 rfl rfl)
theorem dX10_works_73 : decode cX10_works 73 = .ok (.istore 5, 2) := dk_54 5 (dk_at dksX10_works_3 3 rfl rfl)
theorem dX10_works_75 : decode cX10_works 75 = .ok (.iload_n 3, 1) := dk_29 (dk_at dksX10_works_3 5 rfl rfl)
theorem dX10_works_76 : decode cX10_works 76 = .ok (.iconst 2, 1) := dk_5 (dk_at dksX10_works_3 6 rfl rfl)
theorem dX10_works_77 : decode cX10_works 77 = .ok (.if_icmp .eq 8, 3) := dk_159 0 8 (dk_at dksX10_works_3 7 rfl rfl)
theorem dX10_works_80 : decode cX10_works 80 = .ok (.iload 5, 2) := dk_21 5 (dk_at dksX10_works_3 10 rfl rfl)
theorem dX10_works_82 : decode cX10_works 82 = .ok (.ifCond .ne 10, 3) := dk_154 0 10 (dk_at dksX10_works_3 12 rfl rfl)
theorem dX10_works_85 : decode cX10_works 85 = .ok (.aload_n 0, 1) := dk_42 (dk_at dksX10_works_3 15 rfl rfl)
theorem dX10_works_86 : decode cX10_works 86 = .ok (.iload_n 1, 1) := dk_27 (dk_at dksX10_works_3 16 rfl rfl)
theorem dX10_works_87 : decode cX10_works 87 = .ok (.iload_n 2, 1) := dk_28 (dk_at dksX10_works_3 17 rfl rfl)
theorem dX10_works_88 : decode cX10_works 88 = .ok (.invokevirtual 469, 3) := dk_182 1 213 (dk_at dksX10_works_3 18 rfl rfl)
theorem dX10_works_91 : decode cX10_works 91 = .ok (.return_, 1) := dk_177 (dk_at dksX10_works_3 21 rfl rfl)
theorem dX10_works_92 : decode cX10_works 92 = .ok (.aload_n 0, 1) := dk_42 (dk_at dksX10_works_3 22 rfl rfl)
theorem dX10_works_93 : decode cX10_works 93 = .ok (.getfield 70, 3) := dk_180 0 70 (dk_at dksX10_works_4 0 rfl rfl)
theorem dX10_works_96 : decode cX10_works 96 = .ok (.iload_n 1, 1) := dk_27 (dk_at dksX10_works_4 3 rfl rfl)
theorem dX10_works_97 : decode cX10_works 97 = .ok (.aload_n 0, 1) := dk_42 (dk_at dksX10_works_4 4 rfl rfl)
theorem dX10_works_98 : decode cX10_works 98 = .ok (.iload_n 1, 1) := dk_27 (dk_at dksX10_works_4 5 rfl rfl)
theorem dX10_works_99 : decode cX10_works 99 = .ok (.aload_n 0, 1) := dk_42 (dk_at dksX10_works_4 6 rfl rfl)
theorem dX10_works_100 : decode cX10_works 100 = .ok (.getfield 70, 3) := dk_180 0 70 (dk_at dksX10_works_4 7 rfl rfl)
theorem dX10_works_103 : decode cX10_works 103 = .ok (.iload_n 1, 1) := dk_27 (dk_at dksX10_works_4 10 rfl rfl)
theorem dX10_works_104 : decode cX10_works 104 = .ok (.iaload, 1) := dk_46 (dk_at dksX10_works_4 11 rfl rfl)
theorem dX10_works_105 : decode cX10_works 105 = .ok (.aload_n 0, 1) := dk_42 (dk_at dksX10_works_4 12 rfl rfl)
theorem dX10_works_106 : decode cX10_works 106 = .ok (.getfield 64, 3) := dk_180 0 64 (dk_at dksX10_works_4 13 rfl rfl)
theorem dX10_works_109 : decode cX10_works 109 = .ok (.iload_n 1, 1) := dk_27 (dk_at dksX10_works_4 16 rfl rfl)
theorem dX10_works_110 : decode cX10_works 110 = .ok (.iaload, 1) := dk_46 (dk_at dksX10_works_4 17 rfl rfl)
theorem dX10_works_111 : decode cX10_works 111 = .ok (.iload 5, 2) := dk_21 5 (dk_at dksX10_works_4 18 rfl rfl)
theorem dX10_works_113 : decode cX10_works 113 = .ok (.irem, 1) := dk_112 (dk_at dksX10_works_4 20 rfl rfl)
theorem dX10_works_114 : decode cX10_works 114 = .ok (.invokevirtual 396, 3) := dk_182 1 140 (dk_at dksX10_works_4 21 rfl rfl)
theorem dX10_works_117 : decode cX10_works 117 = .ok (.iastore, 1) := dk_79 (dk_at dksX10_works_5 0 rfl rfl)
theorem dX10_works_118 : decode cX10_works 118 = .ok (.aload_n 0, 1) := dk_42 (dk_at dksX10_works_5 1 rfl rfl)
theorem dX10_works_119 : decode cX10_works 119 = .ok (.getfield 73, 3) := dk_180 0 73 (dk_at dksX10_works_5 2 rfl rfl)
theorem dX10_works_122 : decode cX10_works 122 = .ok (.iload_n 1, 1) := dk_27 (dk_at dksX10_works_5 5 rfl rfl)
theorem dX10_works_123 : decode cX10_works 123 = .ok (.iconst 0, 1) := dk_3 (dk_at dksX10_works_5 6 rfl rfl)
theorem dX10_works_124 : decode cX10_works 124 = .ok (.iastore, 1) := dk_79 (dk_at dksX10_works_5 7 rfl rfl)
theorem dX10_works_125 : decode cX10_works 125 = .ok (.return_, 1) := dk_177 (dk_at dksX10_works_5 8 rfl rfl)
abbrev cX10_kickNow : ByteArray := prog_18_method_85_code
def yX10_kickNow : MethodName := ⟨RX10, "kickNow", "(II)V"⟩
def dkwX10_kickNow_12 : List UInt8 := [79, 177]
abbrev dktX10_kickNow_12 : List UInt8 := dkwX10_kickNow_12 ++ []
def dkwX10_kickNow_11 : List UInt8 := [180, 0, 101, 27, 46, 96, 29, 79, 42, 180, 0, 101, 27, 92, 46, 4, 96, 79, 42, 180, 0, 104, 27, 28]
abbrev dktX10_kickNow_11 : List UInt8 := dkwX10_kickNow_11 ++ dktX10_kickNow_12
def dkwX10_kickNow_10 : List UInt8 := [27, 4, 84, 42, 180, 0, 85, 27, 92, 46, 4, 96, 79, 42, 180, 0, 117, 17, 0, 200, 27, 104, 42]
abbrev dktX10_kickNow_10 : List UInt8 := dkwX10_kickNow_10 ++ dktX10_kickNow_11
def dkwX10_kickNow_9 : List UInt8 := [180, 0, 76, 27, 46, 104, 16, 7, 96, 16, 64, 112, 79, 42, 180, 0, 79, 27, 28, 79, 42, 180, 0, 82]
abbrev dktX10_kickNow_9 : List UInt8 := dkwX10_kickNow_9 ++ dktX10_kickNow_10
def dkwX10_kickNow_8 : List UInt8 := [12, 42, 180, 0, 91, 27, 48, 102, 19, 1, 212, 106, 98, 81, 42, 180, 0, 76, 27, 16, 13, 42]
abbrev dktX10_kickNow_8 : List UInt8 := dkwX10_kickNow_8 ++ dktX10_kickNow_9
def dkwX10_kickNow_7 : List UInt8 := [141, 99, 82, 42, 180, 0, 114, 27, 92, 46, 4, 96, 79, 42, 180, 0, 91, 27, 42, 180, 0, 91, 27, 48]
abbrev dktX10_kickNow_7 : List UInt8 := dkwX10_kickNow_7 ++ dktX10_kickNow_8
def dkwX10_kickNow_6 : List UInt8 := [156, 0, 8, 23, 5, 167, 0, 9, 42, 180, 0, 107, 27, 48, 81, 42, 180, 0, 110, 27, 92, 49, 23, 5]
abbrev dktX10_kickNow_6 : List UInt8 := dkwX10_kickNow_6 ++ dktX10_kickNow_7
def dkwX10_kickNow_5 : List UInt8 := [180, 0, 107, 27, 42, 180, 0, 114, 27, 46, 153, 0, 15, 23, 5, 42, 180, 0, 107, 27, 48, 150]
abbrev dktX10_kickNow_5 : List UInt8 := dkwX10_kickNow_5 ++ dktX10_kickNow_6
def dkwX10_kickNow_4 : List UInt8 := [27, 182, 1, 209, 29, 100, 134, 42, 27, 182, 1, 209, 42, 27, 182, 1, 203, 100, 134, 110, 56, 5, 42]
abbrev dktX10_kickNow_4 : List UInt8 := dkwX10_kickNow_4 ++ dktX10_kickNow_5
def dkwX10_kickNow_3 : List UInt8 := [21, 4, 158, 0, 12, 42, 27, 21, 4, 28, 182, 1, 206, 177, 42, 180, 0, 82, 27, 51, 153, 0, 86, 42]
abbrev dktX10_kickNow_3 : List UInt8 := dkwX10_kickNow_3 ++ dktX10_kickNow_4
def dkwX10_kickNow_2 : List UInt8 := [29, 42, 27, 182, 1, 203, 162, 0, 7, 4, 167, 0, 4, 3, 54, 4, 42, 180, 0, 64, 27, 2, 79]
abbrev dktX10_kickNow_2 : List UInt8 := dkwX10_kickNow_2 ++ dktX10_kickNow_3
def dkwX10_kickNow_1 : List UInt8 := [167, 0, 38, 42, 27, 182, 1, 200, 153, 0, 7, 7, 167, 0, 26, 42, 180, 0, 82, 27, 51, 153, 0, 16]
abbrev dktX10_kickNow_1 : List UInt8 := dkwX10_kickNow_1 ++ dktX10_kickNow_2
def dkwX10_kickNow_0 : List UInt8 := [28, 42, 180, 0, 79, 27, 46, 100, 62, 42, 27, 42, 180, 0, 70, 27, 46, 182, 1, 68, 158, 0, 7, 6]
abbrev dktX10_kickNow_0 : List UInt8 := dkwX10_kickNow_0 ++ dktX10_kickNow_1
theorem dksX10_kickNow_0 : cX10_kickNow.data.toList.drop 0 = dktX10_kickNow_0 := by decide +kernel
theorem dksX10_kickNow_1 : cX10_kickNow.data.toList.drop 24 = dktX10_kickNow_1 := dk_seg dksX10_kickNow_0 24 rfl rfl
theorem dksX10_kickNow_2 : cX10_kickNow.data.toList.drop 48 = dktX10_kickNow_2 := dk_seg dksX10_kickNow_1 24 rfl rfl
theorem dksX10_kickNow_3 : cX10_kickNow.data.toList.drop 71 = dktX10_kickNow_3 := dk_seg dksX10_kickNow_2 23 rfl rfl
theorem dksX10_kickNow_4 : cX10_kickNow.data.toList.drop 95 = dktX10_kickNow_4 := dk_seg dksX10_kickNow_3 24 rfl rfl
theorem dksX10_kickNow_5 : cX10_kickNow.data.toList.drop 118 = dktX10_kickNow_5 := dk_seg dksX10_kickNow_4 23 rfl rfl
theorem dksX10_kickNow_6 : cX10_kickNow.data.toList.drop 140 = dktX10_kickNow_6 := dk_seg dksX10_kickNow_5 22 rfl rfl
theorem dksX10_kickNow_7 : cX10_kickNow.data.toList.drop 164 = dktX10_kickNow_7 := dk_seg dksX10_kickNow_6 24 rfl rfl
theorem dksX10_kickNow_8 : cX10_kickNow.data.toList.drop 188 = dktX10_kickNow_8 := dk_seg dksX10_kickNow_7 24 rfl rfl
theorem dksX10_kickNow_9 : cX10_kickNow.data.toList.drop 210 = dktX10_kickNow_9 := dk_seg dksX10_kickNow_8 22 rfl rfl
theorem dksX10_kickNow_10 : cX10_kickNow.data.toList.drop 234 = dktX10_kickNow_10 := dk_seg dksX10_kickNow_9 24 rfl rfl
theorem dksX10_kickNow_11 : cX10_kickNow.data.toList.drop 257 = dktX10_kickNow_11 := dk_seg dksX10_kickNow_10 23 rfl rfl
theorem dksX10_kickNow_12 : cX10_kickNow.data.toList.drop 281 = dktX10_kickNow_12 := dk_seg dksX10_kickNow_11 24 rfl rfl
theorem dX10_kickNow_0 : decode cX10_kickNow 0 = .ok (.iload_n 2, 1) := dk_28 (dk_at dksX10_kickNow_0 0 rfl rfl)
theorem dX10_kickNow_1 : decode cX10_kickNow 1 = .ok (.aload_n 0, 1) := dk_42 (dk_at dksX10_kickNow_0 1 rfl rfl)
theorem dX10_kickNow_2 : decode cX10_kickNow 2 = .ok (.getfield 79, 3) := dk_180 0 79 (dk_at dksX10_kickNow_0 2 rfl rfl)
theorem dX10_kickNow_5 : decode cX10_kickNow 5 = .ok (.iload_n 1, 1) := dk_27 (dk_at dksX10_kickNow_0 5 rfl rfl)
theorem dX10_kickNow_6 : decode cX10_kickNow 6 = .ok (.iaload, 1) := dk_46 (dk_at dksX10_kickNow_0 6 rfl rfl)
theorem dX10_kickNow_7 : decode cX10_kickNow 7 = .ok (.isub, 1) := dk_100 (dk_at dksX10_kickNow_0 7 rfl rfl)
theorem dX10_kickNow_8 : decode cX10_kickNow 8 = .ok (.istore_n 3, 1) := dk_62 (dk_at dksX10_kickNow_0 8 rfl rfl)
theorem dX10_kickNow_9 : decode cX10_kickNow 9 = .ok (.aload_n 0, 1) := dk_42 (dk_at dksX10_kickNow_0 9 rfl rfl)
theorem dX10_kickNow_10 : decode cX10_kickNow 10 = .ok (.iload_n 1, 1) := dk_27 (dk_at dksX10_kickNow_0 10 rfl rfl)
theorem dX10_kickNow_11 : decode cX10_kickNow 11 = .ok (.aload_n 0, 1) := dk_42 (dk_at dksX10_kickNow_0 11 rfl rfl)
theorem dX10_kickNow_12 : decode cX10_kickNow 12 = .ok (.getfield 70, 3) := dk_180 0 70 (dk_at dksX10_kickNow_0 12 rfl rfl)
theorem dX10_kickNow_15 : decode cX10_kickNow 15 = .ok (.iload_n 1, 1) := dk_27 (dk_at dksX10_kickNow_0 15 rfl rfl)
theorem dX10_kickNow_16 : decode cX10_kickNow 16 = .ok (.iaload, 1) := dk_46 (dk_at dksX10_kickNow_0 16 rfl rfl)
theorem dX10_kickNow_17 : decode cX10_kickNow 17 = .ok (.invokevirtual 324, 3) := dk_182 1 68 (dk_at dksX10_kickNow_0 17 rfl rfl)
theorem dX10_kickNow_20 : decode cX10_kickNow 20 = .ok (.ifCond .le 7, 3) := dk_158 0 7 (dk_at dksX10_kickNow_0 20 rfl rfl)
theorem dX10_kickNow_23 : decode cX10_kickNow 23 = .ok (.iconst 3, 1) := dk_6 (dk_at dksX10_kickNow_0 23 rfl rfl)
theorem dX10_kickNow_24 : decode cX10_kickNow 24 = .ok (.goto 38, 3) := dk_167 0 38 (dk_at dksX10_kickNow_1 0 rfl rfl)
theorem dX10_kickNow_27 : decode cX10_kickNow 27 = .ok (.aload_n 0, 1) := dk_42 (dk_at dksX10_kickNow_1 3 rfl rfl)
theorem dX10_kickNow_28 : decode cX10_kickNow 28 = .ok (.iload_n 1, 1) := dk_27 (dk_at dksX10_kickNow_1 4 rfl rfl)
theorem dX10_kickNow_29 : decode cX10_kickNow 29 = .ok (.invokevirtual 456, 3) := dk_182 1 200 (dk_at dksX10_kickNow_1 5 rfl rfl)
theorem dX10_kickNow_32 : decode cX10_kickNow 32 = .ok (.ifCond .eq 7, 3) := dk_153 0 7 (dk_at dksX10_kickNow_1 8 rfl rfl)
theorem dX10_kickNow_35 : decode cX10_kickNow 35 = .ok (.iconst 4, 1) := dk_7 (dk_at dksX10_kickNow_1 11 rfl rfl)
theorem dX10_kickNow_36 : decode cX10_kickNow 36 = .ok (.goto 26, 3) := dk_167 0 26 (dk_at dksX10_kickNow_1 12 rfl rfl)
theorem dX10_kickNow_39 : decode cX10_kickNow 39 = .ok (.aload_n 0, 1) := dk_42 (dk_at dksX10_kickNow_1 15 rfl rfl)
theorem dX10_kickNow_40 : decode cX10_kickNow 40 = .ok (.getfield 82, 3) := dk_180 0 82 (dk_at dksX10_kickNow_1 16 rfl rfl)
theorem dX10_kickNow_43 : decode cX10_kickNow 43 = .ok (.iload_n 1, 1) := dk_27 (dk_at dksX10_kickNow_1 19 rfl rfl)
theorem dX10_kickNow_44 : decode cX10_kickNow 44 = .ok (.baload, 1) := dk_51 (dk_at dksX10_kickNow_1 20 rfl rfl)
theorem dX10_kickNow_45 : decode cX10_kickNow 45 = .ok (.ifCond .eq 16, 3) := dk_153 0 16 (dk_at dksX10_kickNow_1 21 rfl rfl)
theorem dX10_kickNow_48 : decode cX10_kickNow 48 = .ok (.iload_n 3, 1) := dk_29 (dk_at dksX10_kickNow_2 0 rfl rfl)
theorem dX10_kickNow_49 : decode cX10_kickNow 49 = .ok (.aload_n 0, 1) := dk_42 (dk_at dksX10_kickNow_2 1 rfl rfl)
theorem dX10_kickNow_50 : decode cX10_kickNow 50 = .ok (.iload_n 1, 1) := dk_27 (dk_at dksX10_kickNow_2 2 rfl rfl)
theorem dX10_kickNow_51 : decode cX10_kickNow 51 = .ok (.invokevirtual 459, 3) := dk_182 1 203 (dk_at dksX10_kickNow_2 3 rfl rfl)
theorem dX10_kickNow_54 : decode cX10_kickNow 54 = .ok (.if_icmp .ge 7, 3) := dk_162 0 7 (dk_at dksX10_kickNow_2 6 rfl rfl)
theorem dX10_kickNow_57 : decode cX10_kickNow 57 = .ok (.iconst 1, 1) := dk_4 (dk_at dksX10_kickNow_2 9 rfl rfl)
theorem dX10_kickNow_58 : decode cX10_kickNow 58 = .ok (.goto 4, 3) := dk_167 0 4 (dk_at dksX10_kickNow_2 10 rfl rfl)
theorem dX10_kickNow_61 : decode cX10_kickNow 61 = .ok (.iconst 0, 1) := dk_3 (dk_at dksX10_kickNow_2 13 rfl rfl)
theorem dX10_kickNow_62 : decode cX10_kickNow 62 = .ok (.istore 4, 2) := dk_54 4 (dk_at dksX10_kickNow_2 14 rfl rfl)
theorem dX10_kickNow_64 : decode cX10_kickNow 64 = .ok (.aload_n 0, 1) := dk_42 (dk_at dksX10_kickNow_2 16 rfl rfl)
theorem dX10_kickNow_65 : decode cX10_kickNow 65 = .ok (.getfield 64, 3) := dk_180 0 64 (dk_at dksX10_kickNow_2 17 rfl rfl)
theorem dX10_kickNow_68 : decode cX10_kickNow 68 = .ok (.iload_n 1, 1) := dk_27 (dk_at dksX10_kickNow_2 20 rfl rfl)
theorem dX10_kickNow_69 : decode cX10_kickNow 69 = .ok (.iconst (-1), 1) := dk_2 (dk_at dksX10_kickNow_2 21 rfl rfl)
theorem dX10_kickNow_70 : decode cX10_kickNow 70 = .ok (.iastore, 1) := dk_79 (dk_at dksX10_kickNow_2 22 rfl rfl)
theorem dX10_kickNow_71 : decode cX10_kickNow 71 = .ok (.iload 4, 2) := dk_21 4 (dk_at dksX10_kickNow_3 0 rfl rfl)
theorem dX10_kickNow_73 : decode cX10_kickNow 73 = .ok (.ifCond .le 12, 3) := dk_158 0 12 (dk_at dksX10_kickNow_3 2 rfl rfl)
theorem dX10_kickNow_76 : decode cX10_kickNow 76 = .ok (.aload_n 0, 1) := dk_42 (dk_at dksX10_kickNow_3 5 rfl rfl)
theorem dX10_kickNow_77 : decode cX10_kickNow 77 = .ok (.iload_n 1, 1) := dk_27 (dk_at dksX10_kickNow_3 6 rfl rfl)
theorem dX10_kickNow_78 : decode cX10_kickNow 78 = .ok (.iload 4, 2) := dk_21 4 (dk_at dksX10_kickNow_3 7 rfl rfl)
theorem dX10_kickNow_80 : decode cX10_kickNow 80 = .ok (.iload_n 2, 1) := dk_28 (dk_at dksX10_kickNow_3 9 rfl rfl)
theorem dX10_kickNow_81 : decode cX10_kickNow 81 = .ok (.invokevirtual 462, 3) := dk_182 1 206 (dk_at dksX10_kickNow_3 10 rfl rfl)
theorem dX10_kickNow_84 : decode cX10_kickNow 84 = .ok (.return_, 1) := dk_177 (dk_at dksX10_kickNow_3 13 rfl rfl)
theorem dX10_kickNow_85 : decode cX10_kickNow 85 = .ok (.aload_n 0, 1) := dk_42 (dk_at dksX10_kickNow_3 14 rfl rfl)
theorem dX10_kickNow_86 : decode cX10_kickNow 86 = .ok (.getfield 82, 3) := dk_180 0 82 (dk_at dksX10_kickNow_3 15 rfl rfl)
theorem dX10_kickNow_89 : decode cX10_kickNow 89 = .ok (.iload_n 1, 1) := dk_27 (dk_at dksX10_kickNow_3 18 rfl rfl)
theorem dX10_kickNow_90 : decode cX10_kickNow 90 = .ok (.baload, 1) := dk_51 (dk_at dksX10_kickNow_3 19 rfl rfl)
theorem dX10_kickNow_91 : decode cX10_kickNow 91 = .ok (.ifCond .eq 86, 3) := dk_153 0 86 (dk_at dksX10_kickNow_3 20 rfl rfl)
theorem dX10_kickNow_94 : decode cX10_kickNow 94 = .ok (.aload_n 0, 1) := dk_42 (dk_at dksX10_kickNow_3 23 rfl rfl)
theorem dX10_kickNow_95 : decode cX10_kickNow 95 = .ok (.iload_n 1, 1) := dk_27 (dk_at dksX10_kickNow_4 0 rfl rfl)
theorem dX10_kickNow_96 : decode cX10_kickNow 96 = .ok (.invokevirtual 465, 3) := dk_182 1 209 (dk_at dksX10_kickNow_4 1 rfl rfl)
theorem dX10_kickNow_99 : decode cX10_kickNow 99 = .ok (.iload_n 3, 1) := dk_29 (dk_at dksX10_kickNow_4 4 rfl rfl)
theorem dX10_kickNow_100 : decode cX10_kickNow 100 = .ok (.isub, 1) := dk_100 (dk_at dksX10_kickNow_4 5 rfl rfl)
theorem dX10_kickNow_101 : decode cX10_kickNow 101 = .ok (.i2f, 1) := dk_134 (dk_at dksX10_kickNow_4 6 rfl rfl)
theorem dX10_kickNow_102 : decode cX10_kickNow 102 = .ok (.aload_n 0, 1) := dk_42 (dk_at dksX10_kickNow_4 7 rfl rfl)
theorem dX10_kickNow_103 : decode cX10_kickNow 103 = .ok (.iload_n 1, 1) := dk_27 (dk_at dksX10_kickNow_4 8 rfl rfl)
theorem dX10_kickNow_104 : decode cX10_kickNow 104 = .ok (.invokevirtual 465, 3) := dk_182 1 209 (dk_at dksX10_kickNow_4 9 rfl rfl)
theorem dX10_kickNow_107 : decode cX10_kickNow 107 = .ok (.aload_n 0, 1) := dk_42 (dk_at dksX10_kickNow_4 12 rfl rfl)
theorem dX10_kickNow_108 : decode cX10_kickNow 108 = .ok (.iload_n 1, 1) := dk_27 (dk_at dksX10_kickNow_4 13 rfl rfl)
theorem dX10_kickNow_109 : decode cX10_kickNow 109 = .ok (.invokevirtual 459, 3) := dk_182 1 203 (dk_at dksX10_kickNow_4 14 rfl rfl)
theorem dX10_kickNow_112 : decode cX10_kickNow 112 = .ok (.isub, 1) := dk_100 (dk_at dksX10_kickNow_4 17 rfl rfl)
theorem dX10_kickNow_113 : decode cX10_kickNow 113 = .ok (.i2f, 1) := dk_134 (dk_at dksX10_kickNow_4 18 rfl rfl)
theorem dX10_kickNow_114 : decode cX10_kickNow 114 = .ok (.fdiv, 1) := dk_110 (dk_at dksX10_kickNow_4 19 rfl rfl)
theorem dX10_kickNow_115 : decode cX10_kickNow 115 = .ok (.fstore 5, 2) := dk_56 5 (dk_at dksX10_kickNow_4 20 rfl rfl)
theorem dX10_kickNow_117 : decode cX10_kickNow 117 = .ok (.aload_n 0, 1) := dk_42 (dk_at dksX10_kickNow_4 22 rfl rfl)
theorem dX10_kickNow_118 : decode cX10_kickNow 118 = .ok (.getfield 107, 3) := dk_180 0 107 (dk_at dksX10_kickNow_5 0 rfl rfl)
theorem dX10_kickNow_121 : decode cX10_kickNow 121 = .ok (.iload_n 1, 1) := dk_27 (dk_at dksX10_kickNow_5 3 rfl rfl)
theorem dX10_kickNow_122 : decode cX10_kickNow 122 = .ok (.aload_n 0, 1) := dk_42 (dk_at dksX10_kickNow_5 4 rfl rfl)
theorem dX10_kickNow_123 : decode cX10_kickNow 123 = .ok (.getfield 114, 3) := dk_180 0 114 (dk_at dksX10_kickNow_5 5 rfl rfl)
theorem dX10_kickNow_126 : decode cX10_kickNow 126 = .ok (.iload_n 1, 1) := dk_27 (dk_at dksX10_kickNow_5 8 rfl rfl)
theorem dX10_kickNow_127 : decode cX10_kickNow 127 = .ok (.iaload, 1) := dk_46 (dk_at dksX10_kickNow_5 9 rfl rfl)
theorem dX10_kickNow_128 : decode cX10_kickNow 128 = .ok (.ifCond .eq 15, 3) := dk_153 0 15 (dk_at dksX10_kickNow_5 10 rfl rfl)
theorem dX10_kickNow_131 : decode cX10_kickNow 131 = .ok (.fload 5, 2) := dk_23 5 (dk_at dksX10_kickNow_5 13 rfl rfl)
theorem dX10_kickNow_133 : decode cX10_kickNow 133 = .ok (.aload_n 0, 1) := dk_42 (dk_at dksX10_kickNow_5 15 rfl rfl)
theorem dX10_kickNow_134 : decode cX10_kickNow 134 = .ok (.getfield 107, 3) := dk_180 0 107 (dk_at dksX10_kickNow_5 16 rfl rfl)
theorem dX10_kickNow_137 : decode cX10_kickNow 137 = .ok (.iload_n 1, 1) := dk_27 (dk_at dksX10_kickNow_5 19 rfl rfl)
theorem dX10_kickNow_138 : decode cX10_kickNow 138 = .ok (.faload, 1) := dk_48 (dk_at dksX10_kickNow_5 20 rfl rfl)
theorem dX10_kickNow_139 : decode cX10_kickNow 139 = .ok (.fcmp .g, 1) := dk_150 (dk_at dksX10_kickNow_5 21 rfl rfl)
theorem dX10_kickNow_140 : decode cX10_kickNow 140 = .ok (.ifCond .ge 8, 3) := dk_156 0 8 (dk_at dksX10_kickNow_6 0 rfl rfl)
theorem dX10_kickNow_143 : decode cX10_kickNow 143 = .ok (.fload 5, 2) := dk_23 5 (dk_at dksX10_kickNow_6 3 rfl rfl)
theorem dX10_kickNow_145 : decode cX10_kickNow 145 = .ok (.goto 9, 3) := dk_167 0 9 (dk_at dksX10_kickNow_6 5 rfl rfl)
theorem dX10_kickNow_148 : decode cX10_kickNow 148 = .ok (.aload_n 0, 1) := dk_42 (dk_at dksX10_kickNow_6 8 rfl rfl)
theorem dX10_kickNow_149 : decode cX10_kickNow 149 = .ok (.getfield 107, 3) := dk_180 0 107 (dk_at dksX10_kickNow_6 9 rfl rfl)
theorem dX10_kickNow_152 : decode cX10_kickNow 152 = .ok (.iload_n 1, 1) := dk_27 (dk_at dksX10_kickNow_6 12 rfl rfl)
theorem dX10_kickNow_153 : decode cX10_kickNow 153 = .ok (.faload, 1) := dk_48 (dk_at dksX10_kickNow_6 13 rfl rfl)
theorem dX10_kickNow_154 : decode cX10_kickNow 154 = .ok (.fastore, 1) := dk_81 (dk_at dksX10_kickNow_6 14 rfl rfl)
theorem dX10_kickNow_155 : decode cX10_kickNow 155 = .ok (.aload_n 0, 1) := dk_42 (dk_at dksX10_kickNow_6 15 rfl rfl)
theorem dX10_kickNow_156 : decode cX10_kickNow 156 = .ok (.getfield 110, 3) := dk_180 0 110 (dk_at dksX10_kickNow_6 16 rfl rfl)
theorem dX10_kickNow_159 : decode cX10_kickNow 159 = .ok (.iload_n 1, 1) := dk_27 (dk_at dksX10_kickNow_6 19 rfl rfl)
theorem dX10_kickNow_160 : decode cX10_kickNow 160 = .ok (.dup2, 1) := dk_92 (dk_at dksX10_kickNow_6 20 rfl rfl)
theorem dX10_kickNow_161 : decode cX10_kickNow 161 = .ok (.daload, 1) := dk_49 (dk_at dksX10_kickNow_6 21 rfl rfl)
theorem dX10_kickNow_162 : decode cX10_kickNow 162 = .ok (.fload 5, 2) := dk_23 5 (dk_at dksX10_kickNow_6 22 rfl rfl)
theorem dX10_kickNow_164 : decode cX10_kickNow 164 = .ok (.f2d, 1) := dk_141 (dk_at dksX10_kickNow_7 0 rfl rfl)
theorem dX10_kickNow_165 : decode cX10_kickNow 165 = .ok (.dadd, 1) := dk_99 (dk_at dksX10_kickNow_7 1 rfl rfl)
theorem dX10_kickNow_166 : decode cX10_kickNow 166 = .ok (.dastore, 1) := dk_82 (dk_at dksX10_kickNow_7 2 rfl rfl)
theorem dX10_kickNow_167 : decode cX10_kickNow 167 = .ok (.aload_n 0, 1) := dk_42 (dk_at dksX10_kickNow_7 3 rfl rfl)
theorem dX10_kickNow_168 : decode cX10_kickNow 168 = .ok (.getfield 114, 3) := dk_180 0 114 (dk_at dksX10_kickNow_7 4 rfl rfl)
theorem dX10_kickNow_171 : decode cX10_kickNow 171 = .ok (.iload_n 1, 1) := dk_27 (dk_at dksX10_kickNow_7 7 rfl rfl)
theorem dX10_kickNow_172 : decode cX10_kickNow 172 = .ok (.dup2, 1) := dk_92 (dk_at dksX10_kickNow_7 8 rfl rfl)
theorem dX10_kickNow_173 : decode cX10_kickNow 173 = .ok (.iaload, 1) := dk_46 (dk_at dksX10_kickNow_7 9 rfl rfl)
theorem dX10_kickNow_174 : decode cX10_kickNow 174 = .ok (.iconst 1, 1) := dk_4 (dk_at dksX10_kickNow_7 10 rfl rfl)
theorem dX10_kickNow_175 : decode cX10_kickNow 175 = .ok (.iadd, 1) := dk_96 (dk_at dksX10_kickNow_7 11 rfl rfl)
theorem dX10_kickNow_176 : decode cX10_kickNow 176 = .ok (.iastore, 1) := dk_79 (dk_at dksX10_kickNow_7 12 rfl rfl)
theorem dX10_kickNow_177 : decode cX10_kickNow 177 = .ok (.aload_n 0, 1) := dk_42 (dk_at dksX10_kickNow_7 13 rfl rfl)
theorem dX10_kickNow_178 : decode cX10_kickNow 178 = .ok (.getfield 91, 3) := dk_180 0 91 (dk_at dksX10_kickNow_7 14 rfl rfl)
theorem dX10_kickNow_181 : decode cX10_kickNow 181 = .ok (.iload_n 1, 1) := dk_27 (dk_at dksX10_kickNow_7 17 rfl rfl)
theorem dX10_kickNow_182 : decode cX10_kickNow 182 = .ok (.aload_n 0, 1) := dk_42 (dk_at dksX10_kickNow_7 18 rfl rfl)
theorem dX10_kickNow_183 : decode cX10_kickNow 183 = .ok (.getfield 91, 3) := dk_180 0 91 (dk_at dksX10_kickNow_7 19 rfl rfl)
theorem dX10_kickNow_186 : decode cX10_kickNow 186 = .ok (.iload_n 1, 1) := dk_27 (dk_at dksX10_kickNow_7 22 rfl rfl)
theorem dX10_kickNow_187 : decode cX10_kickNow 187 = .ok (.faload, 1) := dk_48 (dk_at dksX10_kickNow_7 23 rfl rfl)
theorem dX10_kickNow_188 : decode cX10_kickNow 188 = .ok (.fconst 1, 1) := dk_12 (dk_at dksX10_kickNow_8 0 rfl rfl)
theorem dX10_kickNow_189 : decode cX10_kickNow 189 = .ok (.aload_n 0, 1) := dk_42 (dk_at dksX10_kickNow_8 1 rfl rfl)
theorem dX10_kickNow_190 : decode cX10_kickNow 190 = .ok (.getfield 91, 3) := dk_180 0 91 (dk_at dksX10_kickNow_8 2 rfl rfl)
theorem dX10_kickNow_193 : decode cX10_kickNow 193 = .ok (.iload_n 1, 1) := dk_27 (dk_at dksX10_kickNow_8 5 rfl rfl)
theorem dX10_kickNow_194 : decode cX10_kickNow 194 = .ok (.faload, 1) := dk_48 (dk_at dksX10_kickNow_8 6 rfl rfl)
theorem dX10_kickNow_195 : decode cX10_kickNow 195 = .ok (.fsub, 1) := dk_102 (dk_at dksX10_kickNow_8 7 rfl rfl)
theorem dX10_kickNow_196 : decode cX10_kickNow 196 = .ok (.ldc_w 468, 3) := dk_19 1 212 (dk_at dksX10_kickNow_8 8 rfl rfl)
theorem dX10_kickNow_199 : decode cX10_kickNow 199 = .ok (.fmul, 1) := dk_106 (dk_at dksX10_kickNow_8 11 rfl rfl)
theorem dX10_kickNow_200 : decode cX10_kickNow 200 = .ok (.fadd, 1) := dk_98 (dk_at dksX10_kickNow_8 12 rfl rfl)
theorem dX10_kickNow_201 : decode cX10_kickNow 201 = .ok (.fastore, 1) := dk_81 (dk_at dksX10_kickNow_8 13 rfl rfl)
theorem dX10_kickNow_202 : decode cX10_kickNow 202 = .ok (.aload_n 0, 1) := dk_42 (dk_at dksX10_kickNow_8 14 rfl rfl)
theorem dX10_kickNow_203 : decode cX10_kickNow 203 = .ok (.getfield 76, 3) := dk_180 0 76 (dk_at dksX10_kickNow_8 15 rfl rfl)
theorem dX10_kickNow_206 : decode cX10_kickNow 206 = .ok (.iload_n 1, 1) := dk_27 (dk_at dksX10_kickNow_8 18 rfl rfl)
theorem dX10_kickNow_207 : decode cX10_kickNow 207 = .ok (.bipush 13, 2) := dk_16 13 (dk_at dksX10_kickNow_8 19 rfl rfl)
theorem dX10_kickNow_209 : decode cX10_kickNow 209 = .ok (.aload_n 0, 1) := dk_42 (dk_at dksX10_kickNow_8 21 rfl rfl)
theorem dX10_kickNow_210 : decode cX10_kickNow 210 = .ok (.getfield 76, 3) := dk_180 0 76 (dk_at dksX10_kickNow_9 0 rfl rfl)
theorem dX10_kickNow_213 : decode cX10_kickNow 213 = .ok (.iload_n 1, 1) := dk_27 (dk_at dksX10_kickNow_9 3 rfl rfl)
theorem dX10_kickNow_214 : decode cX10_kickNow 214 = .ok (.iaload, 1) := dk_46 (dk_at dksX10_kickNow_9 4 rfl rfl)
theorem dX10_kickNow_215 : decode cX10_kickNow 215 = .ok (.imul, 1) := dk_104 (dk_at dksX10_kickNow_9 5 rfl rfl)
theorem dX10_kickNow_216 : decode cX10_kickNow 216 = .ok (.bipush 7, 2) := dk_16 7 (dk_at dksX10_kickNow_9 6 rfl rfl)
theorem dX10_kickNow_218 : decode cX10_kickNow 218 = .ok (.iadd, 1) := dk_96 (dk_at dksX10_kickNow_9 8 rfl rfl)
theorem dX10_kickNow_219 : decode cX10_kickNow 219 = .ok (.bipush 64, 2) := dk_16 64 (dk_at dksX10_kickNow_9 9 rfl rfl)
theorem dX10_kickNow_221 : decode cX10_kickNow 221 = .ok (.irem, 1) := dk_112 (dk_at dksX10_kickNow_9 11 rfl rfl)
theorem dX10_kickNow_222 : decode cX10_kickNow 222 = .ok (.iastore, 1) := dk_79 (dk_at dksX10_kickNow_9 12 rfl rfl)
theorem dX10_kickNow_223 : decode cX10_kickNow 223 = .ok (.aload_n 0, 1) := dk_42 (dk_at dksX10_kickNow_9 13 rfl rfl)
theorem dX10_kickNow_224 : decode cX10_kickNow 224 = .ok (.getfield 79, 3) := dk_180 0 79 (dk_at dksX10_kickNow_9 14 rfl rfl)
theorem dX10_kickNow_227 : decode cX10_kickNow 227 = .ok (.iload_n 1, 1) := dk_27 (dk_at dksX10_kickNow_9 17 rfl rfl)
theorem dX10_kickNow_228 : decode cX10_kickNow 228 = .ok (.iload_n 2, 1) := dk_28 (dk_at dksX10_kickNow_9 18 rfl rfl)
theorem dX10_kickNow_229 : decode cX10_kickNow 229 = .ok (.iastore, 1) := dk_79 (dk_at dksX10_kickNow_9 19 rfl rfl)
theorem dX10_kickNow_230 : decode cX10_kickNow 230 = .ok (.aload_n 0, 1) := dk_42 (dk_at dksX10_kickNow_9 20 rfl rfl)
theorem dX10_kickNow_231 : decode cX10_kickNow 231 = .ok (.getfield 82, 3) := dk_180 0 82 (dk_at dksX10_kickNow_9 21 rfl rfl)
theorem dX10_kickNow_234 : decode cX10_kickNow 234 = .ok (.iload_n 1, 1) := dk_27 (dk_at dksX10_kickNow_10 0 rfl rfl)
theorem dX10_kickNow_235 : decode cX10_kickNow 235 = .ok (.iconst 1, 1) := dk_4 (dk_at dksX10_kickNow_10 1 rfl rfl)
theorem dX10_kickNow_236 : decode cX10_kickNow 236 = .ok (.bastore, 1) := dk_84 (dk_at dksX10_kickNow_10 2 rfl rfl)
theorem dX10_kickNow_237 : decode cX10_kickNow 237 = .ok (.aload_n 0, 1) := dk_42 (dk_at dksX10_kickNow_10 3 rfl rfl)
theorem dX10_kickNow_238 : decode cX10_kickNow 238 = .ok (.getfield 85, 3) := dk_180 0 85 (dk_at dksX10_kickNow_10 4 rfl rfl)
theorem dX10_kickNow_241 : decode cX10_kickNow 241 = .ok (.iload_n 1, 1) := dk_27 (dk_at dksX10_kickNow_10 7 rfl rfl)
theorem dX10_kickNow_242 : decode cX10_kickNow 242 = .ok (.dup2, 1) := dk_92 (dk_at dksX10_kickNow_10 8 rfl rfl)
theorem dX10_kickNow_243 : decode cX10_kickNow 243 = .ok (.iaload, 1) := dk_46 (dk_at dksX10_kickNow_10 9 rfl rfl)
theorem dX10_kickNow_244 : decode cX10_kickNow 244 = .ok (.iconst 1, 1) := dk_4 (dk_at dksX10_kickNow_10 10 rfl rfl)
theorem dX10_kickNow_245 : decode cX10_kickNow 245 = .ok (.iadd, 1) := dk_96 (dk_at dksX10_kickNow_10 11 rfl rfl)
theorem dX10_kickNow_246 : decode cX10_kickNow 246 = .ok (.iastore, 1) := dk_79 (dk_at dksX10_kickNow_10 12 rfl rfl)
theorem dX10_kickNow_247 : decode cX10_kickNow 247 = .ok (.aload_n 0, 1) := dk_42 (dk_at dksX10_kickNow_10 13 rfl rfl)
theorem dX10_kickNow_248 : decode cX10_kickNow 248 = .ok (.getfield 117, 3) := dk_180 0 117 (dk_at dksX10_kickNow_10 14 rfl rfl)
theorem dX10_kickNow_251 : decode cX10_kickNow 251 = .ok (.sipush 200, 3) := dk_17 0 200 (dk_at dksX10_kickNow_10 17 rfl rfl)
theorem dX10_kickNow_254 : decode cX10_kickNow 254 = .ok (.iload_n 1, 1) := dk_27 (dk_at dksX10_kickNow_10 20 rfl rfl)
theorem dX10_kickNow_255 : decode cX10_kickNow 255 = .ok (.imul, 1) := dk_104 (dk_at dksX10_kickNow_10 21 rfl rfl)
theorem dX10_kickNow_256 : decode cX10_kickNow 256 = .ok (.aload_n 0, 1) := dk_42 (dk_at dksX10_kickNow_10 22 rfl rfl)
theorem dX10_kickNow_257 : decode cX10_kickNow 257 = .ok (.getfield 101, 3) := dk_180 0 101 (dk_at dksX10_kickNow_11 0 rfl rfl)
theorem dX10_kickNow_260 : decode cX10_kickNow 260 = .ok (.iload_n 1, 1) := dk_27 (dk_at dksX10_kickNow_11 3 rfl rfl)
theorem dX10_kickNow_261 : decode cX10_kickNow 261 = .ok (.iaload, 1) := dk_46 (dk_at dksX10_kickNow_11 4 rfl rfl)
theorem dX10_kickNow_262 : decode cX10_kickNow 262 = .ok (.iadd, 1) := dk_96 (dk_at dksX10_kickNow_11 5 rfl rfl)
theorem dX10_kickNow_263 : decode cX10_kickNow 263 = .ok (.iload_n 3, 1) := dk_29 (dk_at dksX10_kickNow_11 6 rfl rfl)
theorem dX10_kickNow_264 : decode cX10_kickNow 264 = .ok (.iastore, 1) := dk_79 (dk_at dksX10_kickNow_11 7 rfl rfl)
theorem dX10_kickNow_265 : decode cX10_kickNow 265 = .ok (.aload_n 0, 1) := dk_42 (dk_at dksX10_kickNow_11 8 rfl rfl)
theorem dX10_kickNow_266 : decode cX10_kickNow 266 = .ok (.getfield 101, 3) := dk_180 0 101 (dk_at dksX10_kickNow_11 9 rfl rfl)
theorem dX10_kickNow_269 : decode cX10_kickNow 269 = .ok (.iload_n 1, 1) := dk_27 (dk_at dksX10_kickNow_11 12 rfl rfl)
theorem dX10_kickNow_270 : decode cX10_kickNow 270 = .ok (.dup2, 1) := dk_92 (dk_at dksX10_kickNow_11 13 rfl rfl)
theorem dX10_kickNow_271 : decode cX10_kickNow 271 = .ok (.iaload, 1) := dk_46 (dk_at dksX10_kickNow_11 14 rfl rfl)
theorem dX10_kickNow_272 : decode cX10_kickNow 272 = .ok (.iconst 1, 1) := dk_4 (dk_at dksX10_kickNow_11 15 rfl rfl)
theorem dX10_kickNow_273 : decode cX10_kickNow 273 = .ok (.iadd, 1) := dk_96 (dk_at dksX10_kickNow_11 16 rfl rfl)
theorem dX10_kickNow_274 : decode cX10_kickNow 274 = .ok (.iastore, 1) := dk_79 (dk_at dksX10_kickNow_11 17 rfl rfl)
theorem dX10_kickNow_275 : decode cX10_kickNow 275 = .ok (.aload_n 0, 1) := dk_42 (dk_at dksX10_kickNow_11 18 rfl rfl)
theorem dX10_kickNow_276 : decode cX10_kickNow 276 = .ok (.getfield 104, 3) := dk_180 0 104 (dk_at dksX10_kickNow_11 19 rfl rfl)
theorem dX10_kickNow_279 : decode cX10_kickNow 279 = .ok (.iload_n 1, 1) := dk_27 (dk_at dksX10_kickNow_11 22 rfl rfl)
theorem dX10_kickNow_280 : decode cX10_kickNow 280 = .ok (.iload_n 2, 1) := dk_28 (dk_at dksX10_kickNow_11 23 rfl rfl)
theorem dX10_kickNow_281 : decode cX10_kickNow 281 = .ok (.iastore, 1) := dk_79 (dk_at dksX10_kickNow_12 0 rfl rfl)
theorem dX10_kickNow_282 : decode cX10_kickNow 282 = .ok (.return_, 1) := dk_177 (dk_at dksX10_kickNow_12 1 rfl rfl)
abbrev cX10_isWrong : ByteArray := prog_18_method_74_code
def yX10_isWrong : MethodName := ⟨RX10, "isWrong", "(I)Z"⟩
def dkwX10_isWrong_3 : List UInt8 := [153, 0, 5, 4, 172, 132, 2, 1, 167, 255, 179, 3, 172]
abbrev dktX10_isWrong_3 : List UInt8 := dkwX10_isWrong_3 ++ []
def dkwX10_isWrong_2 : List UInt8 := [182, 1, 94, 133, 42, 28, 5, 182, 1, 94, 42, 28, 7, 182, 1, 94, 96, 4, 100, 133, 184, 0, 152]
abbrev dktX10_isWrong_2 : List UInt8 := dkwX10_isWrong_2 ++ dktX10_isWrong_3
def dkwX10_isWrong_1 : List UInt8 := [7, 160, 0, 51, 42, 28, 4, 182, 1, 94, 27, 160, 0, 41, 42, 180, 0, 64, 27, 46, 133, 42, 28, 5]
abbrev dktX10_isWrong_1 : List UInt8 := dkwX10_isWrong_1 ++ dktX10_isWrong_2
def dkwX10_isWrong_0 : List UInt8 := [3, 61, 28, 42, 182, 1, 171, 162, 0, 75, 28, 42, 180, 0, 55, 159, 0, 61, 42, 28, 3, 182, 1, 94]
abbrev dktX10_isWrong_0 : List UInt8 := dkwX10_isWrong_0 ++ dktX10_isWrong_1
theorem dksX10_isWrong_0 : cX10_isWrong.data.toList.drop 0 = dktX10_isWrong_0 := by decide +kernel
theorem dksX10_isWrong_1 : cX10_isWrong.data.toList.drop 24 = dktX10_isWrong_1 := dk_seg dksX10_isWrong_0 24 rfl rfl
theorem dksX10_isWrong_2 : cX10_isWrong.data.toList.drop 48 = dktX10_isWrong_2 := dk_seg dksX10_isWrong_1 24 rfl rfl
theorem dksX10_isWrong_3 : cX10_isWrong.data.toList.drop 71 = dktX10_isWrong_3 := dk_seg dksX10_isWrong_2 23 rfl rfl
theorem dX10_isWrong_0 : decode cX10_isWrong 0 = .ok (.iconst 0, 1) := dk_3 (dk_at dksX10_isWrong_0 0 rfl rfl)
theorem dX10_isWrong_1 : decode cX10_isWrong 1 = .ok (.istore_n 2, 1) := dk_61 (dk_at dksX10_isWrong_0 1 rfl rfl)
theorem dX10_isWrong_2 : decode cX10_isWrong 2 = .ok (.iload_n 2, 1) := dk_28 (dk_at dksX10_isWrong_0 2 rfl rfl)
theorem dX10_isWrong_3 : decode cX10_isWrong 3 = .ok (.aload_n 0, 1) := dk_42 (dk_at dksX10_isWrong_0 3 rfl rfl)
theorem dX10_isWrong_4 : decode cX10_isWrong 4 = .ok (.invokevirtual 427, 3) := dk_182 1 171 (dk_at dksX10_isWrong_0 4 rfl rfl)
theorem dX10_isWrong_7 : decode cX10_isWrong 7 = .ok (.if_icmp .ge 75, 3) := dk_162 0 75 (dk_at dksX10_isWrong_0 7 rfl rfl)
theorem dX10_isWrong_10 : decode cX10_isWrong 10 = .ok (.iload_n 2, 1) := dk_28 (dk_at dksX10_isWrong_0 10 rfl rfl)
theorem dX10_isWrong_11 : decode cX10_isWrong 11 = .ok (.aload_n 0, 1) := dk_42 (dk_at dksX10_isWrong_0 11 rfl rfl)
theorem dX10_isWrong_12 : decode cX10_isWrong 12 = .ok (.getfield 55, 3) := dk_180 0 55 (dk_at dksX10_isWrong_0 12 rfl rfl)
theorem dX10_isWrong_15 : decode cX10_isWrong 15 = .ok (.if_icmp .eq 61, 3) := dk_159 0 61 (dk_at dksX10_isWrong_0 15 rfl rfl)
theorem dX10_isWrong_18 : decode cX10_isWrong 18 = .ok (.aload_n 0, 1) := dk_42 (dk_at dksX10_isWrong_0 18 rfl rfl)
theorem dX10_isWrong_19 : decode cX10_isWrong 19 = .ok (.iload_n 2, 1) := dk_28 (dk_at dksX10_isWrong_0 19 rfl rfl)
theorem dX10_isWrong_20 : decode cX10_isWrong 20 = .ok (.iconst 0, 1) := dk_3 (dk_at dksX10_isWrong_0 20 rfl rfl)
theorem dX10_isWrong_21 : decode cX10_isWrong 21 = .ok (.invokevirtual 350, 3) := dk_182 1 94 (dk_at dksX10_isWrong_0 21 rfl rfl)
theorem dX10_isWrong_24 : decode cX10_isWrong 24 = .ok (.iconst 4, 1) := dk_7 (dk_at dksX10_isWrong_1 0 rfl rfl)
theorem dX10_isWrong_25 : decode cX10_isWrong 25 = .ok (.if_icmp .ne 51, 3) := dk_160 0 51 (dk_at dksX10_isWrong_1 1 rfl rfl)
theorem dX10_isWrong_28 : decode cX10_isWrong 28 = .ok (.aload_n 0, 1) := dk_42 (dk_at dksX10_isWrong_1 4 rfl rfl)
theorem dX10_isWrong_29 : decode cX10_isWrong 29 = .ok (.iload_n 2, 1) := dk_28 (dk_at dksX10_isWrong_1 5 rfl rfl)
theorem dX10_isWrong_30 : decode cX10_isWrong 30 = .ok (.iconst 1, 1) := dk_4 (dk_at dksX10_isWrong_1 6 rfl rfl)
theorem dX10_isWrong_31 : decode cX10_isWrong 31 = .ok (.invokevirtual 350, 3) := dk_182 1 94 (dk_at dksX10_isWrong_1 7 rfl rfl)
theorem dX10_isWrong_34 : decode cX10_isWrong 34 = .ok (.iload_n 1, 1) := dk_27 (dk_at dksX10_isWrong_1 10 rfl rfl)
theorem dX10_isWrong_35 : decode cX10_isWrong 35 = .ok (.if_icmp .ne 41, 3) := dk_160 0 41 (dk_at dksX10_isWrong_1 11 rfl rfl)
theorem dX10_isWrong_38 : decode cX10_isWrong 38 = .ok (.aload_n 0, 1) := dk_42 (dk_at dksX10_isWrong_1 14 rfl rfl)
theorem dX10_isWrong_39 : decode cX10_isWrong 39 = .ok (.getfield 64, 3) := dk_180 0 64 (dk_at dksX10_isWrong_1 15 rfl rfl)
theorem dX10_isWrong_42 : decode cX10_isWrong 42 = .ok (.iload_n 1, 1) := dk_27 (dk_at dksX10_isWrong_1 18 rfl rfl)
theorem dX10_isWrong_43 : decode cX10_isWrong 43 = .ok (.iaload, 1) := dk_46 (dk_at dksX10_isWrong_1 19 rfl rfl)
theorem dX10_isWrong_44 : decode cX10_isWrong 44 = .ok (.i2l, 1) := dk_133 (dk_at dksX10_isWrong_1 20 rfl rfl)
theorem dX10_isWrong_45 : decode cX10_isWrong 45 = .ok (.aload_n 0, 1) := dk_42 (dk_at dksX10_isWrong_1 21 rfl rfl)
theorem dX10_isWrong_46 : decode cX10_isWrong 46 = .ok (.iload_n 2, 1) := dk_28 (dk_at dksX10_isWrong_1 22 rfl rfl)
theorem dX10_isWrong_47 : decode cX10_isWrong 47 = .ok (.iconst 2, 1) := dk_5 (dk_at dksX10_isWrong_1 23 rfl rfl)
theorem dX10_isWrong_48 : decode cX10_isWrong 48 = .ok (.invokevirtual 350, 3) := dk_182 1 94 (dk_at dksX10_isWrong_2 0 rfl rfl)
theorem dX10_isWrong_51 : decode cX10_isWrong 51 = .ok (.i2l, 1) := dk_133 (dk_at dksX10_isWrong_2 3 rfl rfl)
theorem dX10_isWrong_52 : decode cX10_isWrong 52 = .ok (.aload_n 0, 1) := dk_42 (dk_at dksX10_isWrong_2 4 rfl rfl)
theorem dX10_isWrong_53 : decode cX10_isWrong 53 = .ok (.iload_n 2, 1) := dk_28 (dk_at dksX10_isWrong_2 5 rfl rfl)
theorem dX10_isWrong_54 : decode cX10_isWrong 54 = .ok (.iconst 2, 1) := dk_5 (dk_at dksX10_isWrong_2 6 rfl rfl)
theorem dX10_isWrong_55 : decode cX10_isWrong 55 = .ok (.invokevirtual 350, 3) := dk_182 1 94 (dk_at dksX10_isWrong_2 7 rfl rfl)
theorem dX10_isWrong_58 : decode cX10_isWrong 58 = .ok (.aload_n 0, 1) := dk_42 (dk_at dksX10_isWrong_2 10 rfl rfl)
theorem dX10_isWrong_59 : decode cX10_isWrong 59 = .ok (.iload_n 2, 1) := dk_28 (dk_at dksX10_isWrong_2 11 rfl rfl)
theorem dX10_isWrong_60 : decode cX10_isWrong 60 = .ok (.iconst 4, 1) := dk_7 (dk_at dksX10_isWrong_2 12 rfl rfl)
theorem dX10_isWrong_61 : decode cX10_isWrong 61 = .ok (.invokevirtual 350, 3) := dk_182 1 94 (dk_at dksX10_isWrong_2 13 rfl rfl)
theorem dX10_isWrong_64 : decode cX10_isWrong 64 = .ok (.iadd, 1) := dk_96 (dk_at dksX10_isWrong_2 16 rfl rfl)
theorem dX10_isWrong_65 : decode cX10_isWrong 65 = .ok (.iconst 1, 1) := dk_4 (dk_at dksX10_isWrong_2 17 rfl rfl)
theorem dX10_isWrong_66 : decode cX10_isWrong 66 = .ok (.isub, 1) := dk_100 (dk_at dksX10_isWrong_2 18 rfl rfl)
theorem dX10_isWrong_67 : decode cX10_isWrong 67 = .ok (.i2l, 1) := dk_133 (dk_at dksX10_isWrong_2 19 rfl rfl)
theorem dX10_isWrong_68 : decode cX10_isWrong 68 = .ok (.invokestatic 152, 3) := dk_184 0 152 (dk_at dksX10_isWrong_2 20 rfl rfl)
theorem dX10_isWrong_71 : decode cX10_isWrong 71 = .ok (.ifCond .eq 5, 3) := dk_153 0 5 (dk_at dksX10_isWrong_3 0 rfl rfl)
theorem dX10_isWrong_74 : decode cX10_isWrong 74 = .ok (.iconst 1, 1) := dk_4 (dk_at dksX10_isWrong_3 3 rfl rfl)
theorem dX10_isWrong_75 : decode cX10_isWrong 75 = .ok (.ireturn, 1) := dk_172 (dk_at dksX10_isWrong_3 4 rfl rfl)
theorem dX10_isWrong_76 : decode cX10_isWrong 76 = .ok (.iinc 2 1, 3) := dk_132 2 1 (dk_at dksX10_isWrong_3 5 rfl rfl)
theorem dX10_isWrong_79 : decode cX10_isWrong 79 = .ok (.goto (-77), 3) := dk_167 255 179 (dk_at dksX10_isWrong_3 8 rfl rfl)
theorem dX10_isWrong_82 : decode cX10_isWrong 82 = .ok (.iconst 0, 1) := dk_3 (dk_at dksX10_isWrong_3 11 rfl rfl)
theorem dX10_isWrong_83 : decode cX10_isWrong 83 = .ok (.ireturn, 1) := dk_172 (dk_at dksX10_isWrong_3 12 rfl rfl)
abbrev cX10_openOf : ByteArray := prog_18_method_68_code
def yX10_openOf : MethodName := ⟨RX10, "openOf", "(I)I"⟩
def dkwX10_openOf_0 : List UInt8 := [27, 42, 180, 0, 58, 160, 0, 10, 42, 180, 1, 153, 167, 0, 9, 42, 27, 5, 182, 0, 156, 172]
abbrev dktX10_openOf_0 : List UInt8 := dkwX10_openOf_0 ++ []
theorem dksX10_openOf_0 : cX10_openOf.data.toList.drop 0 = dktX10_openOf_0 := by decide +kernel
theorem dX10_openOf_0 : decode cX10_openOf 0 = .ok (.iload_n 1, 1) := dk_27 (dk_at dksX10_openOf_0 0 rfl rfl)
theorem dX10_openOf_1 : decode cX10_openOf 1 = .ok (.aload_n 0, 1) := dk_42 (dk_at dksX10_openOf_0 1 rfl rfl)
theorem dX10_openOf_2 : decode cX10_openOf 2 = .ok (.getfield 58, 3) := dk_180 0 58 (dk_at dksX10_openOf_0 2 rfl rfl)
theorem dX10_openOf_5 : decode cX10_openOf 5 = .ok (.if_icmp .ne 10, 3) := dk_160 0 10 (dk_at dksX10_openOf_0 5 rfl rfl)
theorem dX10_openOf_8 : decode cX10_openOf 8 = .ok (.aload_n 0, 1) := dk_42 (dk_at dksX10_openOf_0 8 rfl rfl)
theorem dX10_openOf_9 : decode cX10_openOf 9 = .ok (.getfield 409, 3) := dk_180 1 153 (dk_at dksX10_openOf_0 9 rfl rfl)
theorem dX10_openOf_12 : decode cX10_openOf 12 = .ok (.goto 9, 3) := dk_167 0 9 (dk_at dksX10_openOf_0 12 rfl rfl)
theorem dX10_openOf_15 : decode cX10_openOf 15 = .ok (.aload_n 0, 1) := dk_42 (dk_at dksX10_openOf_0 15 rfl rfl)
theorem dX10_openOf_16 : decode cX10_openOf 16 = .ok (.iload_n 1, 1) := dk_27 (dk_at dksX10_openOf_0 16 rfl rfl)
theorem dX10_openOf_17 : decode cX10_openOf 17 = .ok (.iconst 2, 1) := dk_5 (dk_at dksX10_openOf_0 17 rfl rfl)
theorem dX10_openOf_18 : decode cX10_openOf 18 = .ok (.invokevirtual 156, 3) := dk_182 0 156 (dk_at dksX10_openOf_0 18 rfl rfl)
theorem dX10_openOf_21 : decode cX10_openOf 21 = .ok (.ireturn, 1) := dk_172 (dk_at dksX10_openOf_0 21 rfl rfl)
abbrev cX10_faultOf : ByteArray := prog_18_method_82_code
def yX10_faultOf : MethodName := ⟨RX10, "faultOf", "(III)V"⟩
def dkwX10_faultOf_4 : List UInt8 := [182, 0, 156, 29, 182, 1, 194, 177]
abbrev dktX10_faultOf_4 : List UInt8 := dkwX10_faultOf_4 ++ []
def dkwX10_faultOf_3 : List UInt8 := [3, 96, 184, 0, 191, 54, 4, 42, 29, 28, 27, 21, 4, 182, 1, 191, 42, 21, 4, 27, 42, 27, 3]
abbrev dktX10_faultOf_3 : List UInt8 := dkwX10_faultOf_3 ++ dktX10_faultOf_4
def dkwX10_faultOf_2 : List UInt8 := [180, 0, 91, 27, 48, 42, 180, 0, 9, 5, 46, 134, 19, 1, 190, 110, 150, 156, 0, 7, 4, 167, 0, 4]
abbrev dktX10_faultOf_2 : List UInt8 := dkwX10_faultOf_2 ++ dktX10_faultOf_3
def dkwX10_faultOf_1 : List UInt8 := [42, 180, 0, 95, 27, 3, 79, 42, 180, 0, 98, 27, 4, 84, 6, 42, 180, 0, 88, 27, 46, 4, 100, 42]
abbrev dktX10_faultOf_1 : List UInt8 := dkwX10_faultOf_1 ++ dktX10_faultOf_2
def dkwX10_faultOf_0 : List UInt8 := [42, 180, 0, 88, 27, 92, 46, 4, 96, 79, 42, 180, 0, 91, 27, 42, 180, 0, 91, 27, 48, 13, 110, 81]
abbrev dktX10_faultOf_0 : List UInt8 := dkwX10_faultOf_0 ++ dktX10_faultOf_1
theorem dksX10_faultOf_0 : cX10_faultOf.data.toList.drop 0 = dktX10_faultOf_0 := by decide +kernel
theorem dksX10_faultOf_1 : cX10_faultOf.data.toList.drop 24 = dktX10_faultOf_1 := dk_seg dksX10_faultOf_0 24 rfl rfl
theorem dksX10_faultOf_2 : cX10_faultOf.data.toList.drop 48 = dktX10_faultOf_2 := dk_seg dksX10_faultOf_1 24 rfl rfl
theorem dksX10_faultOf_3 : cX10_faultOf.data.toList.drop 72 = dktX10_faultOf_3 := dk_seg dksX10_faultOf_2 24 rfl rfl
theorem dksX10_faultOf_4 : cX10_faultOf.data.toList.drop 95 = dktX10_faultOf_4 := dk_seg dksX10_faultOf_3 23 rfl rfl
theorem dX10_faultOf_0 : decode cX10_faultOf 0 = .ok (.aload_n 0, 1) := dk_42 (dk_at dksX10_faultOf_0 0 rfl rfl)
theorem dX10_faultOf_1 : decode cX10_faultOf 1 = .ok (.getfield 88, 3) := dk_180 0 88 (dk_at dksX10_faultOf_0 1 rfl rfl)
theorem dX10_faultOf_4 : decode cX10_faultOf 4 = .ok (.iload_n 1, 1) := dk_27 (dk_at dksX10_faultOf_0 4 rfl rfl)
theorem dX10_faultOf_5 : decode cX10_faultOf 5 = .ok (.dup2, 1) := dk_92 (dk_at dksX10_faultOf_0 5 rfl rfl)
theorem dX10_faultOf_6 : decode cX10_faultOf 6 = .ok (.iaload, 1) := dk_46 (dk_at dksX10_faultOf_0 6 rfl rfl)
theorem dX10_faultOf_7 : decode cX10_faultOf 7 = .ok (.iconst 1, 1) := dk_4 (dk_at dksX10_faultOf_0 7 rfl rfl)
theorem dX10_faultOf_8 : decode cX10_faultOf 8 = .ok (.iadd, 1) := dk_96 (dk_at dksX10_faultOf_0 8 rfl rfl)
theorem dX10_faultOf_9 : decode cX10_faultOf 9 = .ok (.iastore, 1) := dk_79 (dk_at dksX10_faultOf_0 9 rfl rfl)
theorem dX10_faultOf_10 : decode cX10_faultOf 10 = .ok (.aload_n 0, 1) := dk_42 (dk_at dksX10_faultOf_0 10 rfl rfl)
theorem dX10_faultOf_11 : decode cX10_faultOf 11 = .ok (.getfield 91, 3) := dk_180 0 91 (dk_at dksX10_faultOf_0 11 rfl rfl)
theorem dX10_faultOf_14 : decode cX10_faultOf 14 = .ok (.iload_n 1, 1) := dk_27 (dk_at dksX10_faultOf_0 14 rfl rfl)
theorem dX10_faultOf_15 : decode cX10_faultOf 15 = .ok (.aload_n 0, 1) := dk_42 (dk_at dksX10_faultOf_0 15 rfl rfl)
theorem dX10_faultOf_16 : decode cX10_faultOf 16 = .ok (.getfield 91, 3) := dk_180 0 91 (dk_at dksX10_faultOf_0 16 rfl rfl)
theorem dX10_faultOf_19 : decode cX10_faultOf 19 = .ok (.iload_n 1, 1) := dk_27 (dk_at dksX10_faultOf_0 19 rfl rfl)
theorem dX10_faultOf_20 : decode cX10_faultOf 20 = .ok (.faload, 1) := dk_48 (dk_at dksX10_faultOf_0 20 rfl rfl)
theorem dX10_faultOf_21 : decode cX10_faultOf 21 = .ok (.fconst 2, 1) := dk_13 (dk_at dksX10_faultOf_0 21 rfl rfl)
theorem dX10_faultOf_22 : decode cX10_faultOf 22 = .ok (.fdiv, 1) := dk_110 (dk_at dksX10_faultOf_0 22 rfl rfl)
theorem dX10_faultOf_23 : decode cX10_faultOf 23 = .ok (.fastore, 1) := dk_81 (dk_at dksX10_faultOf_0 23 rfl rfl)
theorem dX10_faultOf_24 : decode cX10_faultOf 24 = .ok (.aload_n 0, 1) := dk_42 (dk_at dksX10_faultOf_1 0 rfl rfl)
theorem dX10_faultOf_25 : decode cX10_faultOf 25 = .ok (.getfield 95, 3) := dk_180 0 95 (dk_at dksX10_faultOf_1 1 rfl rfl)
theorem dX10_faultOf_28 : decode cX10_faultOf 28 = .ok (.iload_n 1, 1) := dk_27 (dk_at dksX10_faultOf_1 4 rfl rfl)
theorem dX10_faultOf_29 : decode cX10_faultOf 29 = .ok (.iconst 0, 1) := dk_3 (dk_at dksX10_faultOf_1 5 rfl rfl)
theorem dX10_faultOf_30 : decode cX10_faultOf 30 = .ok (.iastore, 1) := dk_79 (dk_at dksX10_faultOf_1 6 rfl rfl)
theorem dX10_faultOf_31 : decode cX10_faultOf 31 = .ok (.aload_n 0, 1) := dk_42 (dk_at dksX10_faultOf_1 7 rfl rfl)
theorem dX10_faultOf_32 : decode cX10_faultOf 32 = .ok (.getfield 98, 3) := dk_180 0 98 (dk_at dksX10_faultOf_1 8 rfl rfl)
theorem dX10_faultOf_35 : decode cX10_faultOf 35 = .ok (.iload_n 1, 1) := dk_27 (dk_at dksX10_faultOf_1 11 rfl rfl)
theorem dX10_faultOf_36 : decode cX10_faultOf 36 = .ok (.iconst 1, 1) := dk_4 (dk_at dksX10_faultOf_1 12 rfl rfl)
theorem dX10_faultOf_37 : decode cX10_faultOf 37 = .ok (.bastore, 1) := dk_84 (dk_at dksX10_faultOf_1 13 rfl rfl)
theorem dX10_faultOf_38 : decode cX10_faultOf 38 = .ok (.iconst 3, 1) := dk_6 (dk_at dksX10_faultOf_1 14 rfl rfl)
theorem dX10_faultOf_39 : decode cX10_faultOf 39 = .ok (.aload_n 0, 1) := dk_42 (dk_at dksX10_faultOf_1 15 rfl rfl)
theorem dX10_faultOf_40 : decode cX10_faultOf 40 = .ok (.getfield 88, 3) := dk_180 0 88 (dk_at dksX10_faultOf_1 16 rfl rfl)
theorem dX10_faultOf_43 : decode cX10_faultOf 43 = .ok (.iload_n 1, 1) := dk_27 (dk_at dksX10_faultOf_1 19 rfl rfl)
theorem dX10_faultOf_44 : decode cX10_faultOf 44 = .ok (.iaload, 1) := dk_46 (dk_at dksX10_faultOf_1 20 rfl rfl)
theorem dX10_faultOf_45 : decode cX10_faultOf 45 = .ok (.iconst 1, 1) := dk_4 (dk_at dksX10_faultOf_1 21 rfl rfl)
theorem dX10_faultOf_46 : decode cX10_faultOf 46 = .ok (.isub, 1) := dk_100 (dk_at dksX10_faultOf_1 22 rfl rfl)
theorem dX10_faultOf_47 : decode cX10_faultOf 47 = .ok (.aload_n 0, 1) := dk_42 (dk_at dksX10_faultOf_1 23 rfl rfl)
theorem dX10_faultOf_48 : decode cX10_faultOf 48 = .ok (.getfield 91, 3) := dk_180 0 91 (dk_at dksX10_faultOf_2 0 rfl rfl)
theorem dX10_faultOf_51 : decode cX10_faultOf 51 = .ok (.iload_n 1, 1) := dk_27 (dk_at dksX10_faultOf_2 3 rfl rfl)
theorem dX10_faultOf_52 : decode cX10_faultOf 52 = .ok (.faload, 1) := dk_48 (dk_at dksX10_faultOf_2 4 rfl rfl)
theorem dX10_faultOf_53 : decode cX10_faultOf 53 = .ok (.aload_n 0, 1) := dk_42 (dk_at dksX10_faultOf_2 5 rfl rfl)
theorem dX10_faultOf_54 : decode cX10_faultOf 54 = .ok (.getfield 9, 3) := dk_180 0 9 (dk_at dksX10_faultOf_2 6 rfl rfl)
theorem dX10_faultOf_57 : decode cX10_faultOf 57 = .ok (.iconst 2, 1) := dk_5 (dk_at dksX10_faultOf_2 9 rfl rfl)
theorem dX10_faultOf_58 : decode cX10_faultOf 58 = .ok (.iaload, 1) := dk_46 (dk_at dksX10_faultOf_2 10 rfl rfl)
theorem dX10_faultOf_59 : decode cX10_faultOf 59 = .ok (.i2f, 1) := dk_134 (dk_at dksX10_faultOf_2 11 rfl rfl)
theorem dX10_faultOf_60 : decode cX10_faultOf 60 = .ok (.ldc_w 446, 3) := dk_19 1 190 (dk_at dksX10_faultOf_2 12 rfl rfl)
theorem dX10_faultOf_63 : decode cX10_faultOf 63 = .ok (.fdiv, 1) := dk_110 (dk_at dksX10_faultOf_2 15 rfl rfl)
theorem dX10_faultOf_64 : decode cX10_faultOf 64 = .ok (.fcmp .g, 1) := dk_150 (dk_at dksX10_faultOf_2 16 rfl rfl)
theorem dX10_faultOf_65 : decode cX10_faultOf 65 = .ok (.ifCond .ge 7, 3) := dk_156 0 7 (dk_at dksX10_faultOf_2 17 rfl rfl)
theorem dX10_faultOf_68 : decode cX10_faultOf 68 = .ok (.iconst 1, 1) := dk_4 (dk_at dksX10_faultOf_2 20 rfl rfl)
theorem dX10_faultOf_69 : decode cX10_faultOf 69 = .ok (.goto 4, 3) := dk_167 0 4 (dk_at dksX10_faultOf_2 21 rfl rfl)
theorem dX10_faultOf_72 : decode cX10_faultOf 72 = .ok (.iconst 0, 1) := dk_3 (dk_at dksX10_faultOf_3 0 rfl rfl)
theorem dX10_faultOf_73 : decode cX10_faultOf 73 = .ok (.iadd, 1) := dk_96 (dk_at dksX10_faultOf_3 1 rfl rfl)
theorem dX10_faultOf_74 : decode cX10_faultOf 74 = .ok (.invokestatic 191, 3) := dk_184 0 191 (dk_at dksX10_faultOf_3 2 rfl rfl)
theorem dX10_faultOf_77 : decode cX10_faultOf 77 = .ok (.istore 4, 2) := dk_54 4 (dk_at dksX10_faultOf_3 5 rfl rfl)
theorem dX10_faultOf_79 : decode cX10_faultOf 79 = .ok (.aload_n 0, 1) := dk_42 (dk_at dksX10_faultOf_3 7 rfl rfl)
theorem dX10_faultOf_80 : decode cX10_faultOf 80 = .ok (.iload_n 3, 1) := dk_29 (dk_at dksX10_faultOf_3 8 rfl rfl)
theorem dX10_faultOf_81 : decode cX10_faultOf 81 = .ok (.iload_n 2, 1) := dk_28 (dk_at dksX10_faultOf_3 9 rfl rfl)
theorem dX10_faultOf_82 : decode cX10_faultOf 82 = .ok (.iload_n 1, 1) := dk_27 (dk_at dksX10_faultOf_3 10 rfl rfl)
theorem dX10_faultOf_83 : decode cX10_faultOf 83 = .ok (.iload 4, 2) := dk_21 4 (dk_at dksX10_faultOf_3 11 rfl rfl)
theorem dX10_faultOf_85 : decode cX10_faultOf 85 = .ok (.invokevirtual 447, 3) := dk_182 1 191 (dk_at dksX10_faultOf_3 13 rfl rfl)
theorem dX10_faultOf_88 : decode cX10_faultOf 88 = .ok (.aload_n 0, 1) := dk_42 (dk_at dksX10_faultOf_3 16 rfl rfl)
theorem dX10_faultOf_89 : decode cX10_faultOf 89 = .ok (.iload 4, 2) := dk_21 4 (dk_at dksX10_faultOf_3 17 rfl rfl)
theorem dX10_faultOf_91 : decode cX10_faultOf 91 = .ok (.iload_n 1, 1) := dk_27 (dk_at dksX10_faultOf_3 19 rfl rfl)
theorem dX10_faultOf_92 : decode cX10_faultOf 92 = .ok (.aload_n 0, 1) := dk_42 (dk_at dksX10_faultOf_3 20 rfl rfl)
theorem dX10_faultOf_93 : decode cX10_faultOf 93 = .ok (.iload_n 1, 1) := dk_27 (dk_at dksX10_faultOf_3 21 rfl rfl)
theorem dX10_faultOf_94 : decode cX10_faultOf 94 = .ok (.iconst 0, 1) := dk_3 (dk_at dksX10_faultOf_3 22 rfl rfl)
theorem dX10_faultOf_95 : decode cX10_faultOf 95 = .ok (.invokevirtual 156, 3) := dk_182 0 156 (dk_at dksX10_faultOf_4 0 rfl rfl)
theorem dX10_faultOf_98 : decode cX10_faultOf 98 = .ok (.iload_n 3, 1) := dk_29 (dk_at dksX10_faultOf_4 3 rfl rfl)
theorem dX10_faultOf_99 : decode cX10_faultOf 99 = .ok (.invokevirtual 450, 3) := dk_182 1 194 (dk_at dksX10_faultOf_4 4 rfl rfl)
theorem dX10_faultOf_102 : decode cX10_faultOf 102 = .ok (.return_, 1) := dk_177 (dk_at dksX10_faultOf_4 7 rfl rfl)
abbrev cX10_records : ByteArray := prog_18_method_81_code
def yX10_records : MethodName := ⟨RX10, "records", "(IIII)V"⟩
def dkwX10_records_2 : List UInt8 := [181, 1, 162, 177]
abbrev dktX10_records_2 : List UInt8 := dkwX10_records_2 ++ []
def dkwX10_records_1 : List UInt8 := [42, 180, 1, 162, 29, 79, 42, 180, 0, 144, 42, 180, 1, 162, 21, 4, 79, 42, 89, 180, 1, 162, 4, 96]
abbrev dktX10_records_1 : List UInt8 := dkwX10_records_1 ++ dktX10_records_2
def dkwX10_records_0 : List UInt8 := [42, 180, 0, 135, 42, 180, 1, 162, 27, 79, 42, 180, 0, 138, 42, 180, 1, 162, 28, 79, 42, 180, 0, 141]
abbrev dktX10_records_0 : List UInt8 := dkwX10_records_0 ++ dktX10_records_1
theorem dksX10_records_0 : cX10_records.data.toList.drop 0 = dktX10_records_0 := by decide +kernel
theorem dksX10_records_1 : cX10_records.data.toList.drop 24 = dktX10_records_1 := dk_seg dksX10_records_0 24 rfl rfl
theorem dksX10_records_2 : cX10_records.data.toList.drop 48 = dktX10_records_2 := dk_seg dksX10_records_1 24 rfl rfl
theorem dX10_records_0 : decode cX10_records 0 = .ok (.aload_n 0, 1) := dk_42 (dk_at dksX10_records_0 0 rfl rfl)
theorem dX10_records_1 : decode cX10_records 1 = .ok (.getfield 135, 3) := dk_180 0 135 (dk_at dksX10_records_0 1 rfl rfl)
theorem dX10_records_4 : decode cX10_records 4 = .ok (.aload_n 0, 1) := dk_42 (dk_at dksX10_records_0 4 rfl rfl)
theorem dX10_records_5 : decode cX10_records 5 = .ok (.getfield 418, 3) := dk_180 1 162 (dk_at dksX10_records_0 5 rfl rfl)
theorem dX10_records_8 : decode cX10_records 8 = .ok (.iload_n 1, 1) := dk_27 (dk_at dksX10_records_0 8 rfl rfl)
theorem dX10_records_9 : decode cX10_records 9 = .ok (.iastore, 1) := dk_79 (dk_at dksX10_records_0 9 rfl rfl)
theorem dX10_records_10 : decode cX10_records 10 = .ok (.aload_n 0, 1) := dk_42 (dk_at dksX10_records_0 10 rfl rfl)
theorem dX10_records_11 : decode cX10_records 11 = .ok (.getfield 138, 3) := dk_180 0 138 (dk_at dksX10_records_0 11 rfl rfl)
theorem dX10_records_14 : decode cX10_records 14 = .ok (.aload_n 0, 1) := dk_42 (dk_at dksX10_records_0 14 rfl rfl)
theorem dX10_records_15 : decode cX10_records 15 = .ok (.getfield 418, 3) := dk_180 1 162 (dk_at dksX10_records_0 15 rfl rfl)
theorem dX10_records_18 : decode cX10_records 18 = .ok (.iload_n 2, 1) := dk_28 (dk_at dksX10_records_0 18 rfl rfl)
theorem dX10_records_19 : decode cX10_records 19 = .ok (.iastore, 1) := dk_79 (dk_at dksX10_records_0 19 rfl rfl)
theorem dX10_records_20 : decode cX10_records 20 = .ok (.aload_n 0, 1) := dk_42 (dk_at dksX10_records_0 20 rfl rfl)
theorem dX10_records_21 : decode cX10_records 21 = .ok (.getfield 141, 3) := dk_180 0 141 (dk_at dksX10_records_0 21 rfl rfl)
theorem dX10_records_24 : decode cX10_records 24 = .ok (.aload_n 0, 1) := dk_42 (dk_at dksX10_records_1 0 rfl rfl)
theorem dX10_records_25 : decode cX10_records 25 = .ok (.getfield 418, 3) := dk_180 1 162 (dk_at dksX10_records_1 1 rfl rfl)
theorem dX10_records_28 : decode cX10_records 28 = .ok (.iload_n 3, 1) := dk_29 (dk_at dksX10_records_1 4 rfl rfl)
theorem dX10_records_29 : decode cX10_records 29 = .ok (.iastore, 1) := dk_79 (dk_at dksX10_records_1 5 rfl rfl)
theorem dX10_records_30 : decode cX10_records 30 = .ok (.aload_n 0, 1) := dk_42 (dk_at dksX10_records_1 6 rfl rfl)
theorem dX10_records_31 : decode cX10_records 31 = .ok (.getfield 144, 3) := dk_180 0 144 (dk_at dksX10_records_1 7 rfl rfl)
theorem dX10_records_34 : decode cX10_records 34 = .ok (.aload_n 0, 1) := dk_42 (dk_at dksX10_records_1 10 rfl rfl)
theorem dX10_records_35 : decode cX10_records 35 = .ok (.getfield 418, 3) := dk_180 1 162 (dk_at dksX10_records_1 11 rfl rfl)
theorem dX10_records_38 : decode cX10_records 38 = .ok (.iload 4, 2) := dk_21 4 (dk_at dksX10_records_1 14 rfl rfl)
theorem dX10_records_40 : decode cX10_records 40 = .ok (.iastore, 1) := dk_79 (dk_at dksX10_records_1 16 rfl rfl)
theorem dX10_records_41 : decode cX10_records 41 = .ok (.aload_n 0, 1) := dk_42 (dk_at dksX10_records_1 17 rfl rfl)
theorem dX10_records_42 : decode cX10_records 42 = .ok (.dup, 1) := dk_89 (dk_at dksX10_records_1 18 rfl rfl)
theorem dX10_records_43 : decode cX10_records 43 = .ok (.getfield 418, 3) := dk_180 1 162 (dk_at dksX10_records_1 19 rfl rfl)
theorem dX10_records_46 : decode cX10_records 46 = .ok (.iconst 1, 1) := dk_4 (dk_at dksX10_records_1 22 rfl rfl)
theorem dX10_records_47 : decode cX10_records 47 = .ok (.iadd, 1) := dk_96 (dk_at dksX10_records_1 23 rfl rfl)
theorem dX10_records_48 : decode cX10_records 48 = .ok (.putfield 418, 3) := dk_181 1 162 (dk_at dksX10_records_2 0 rfl rfl)
theorem dX10_records_51 : decode cX10_records 51 = .ok (.return_, 1) := dk_177 (dk_at dksX10_records_2 3 rfl rfl)
abbrev cX10_climbs : ByteArray := prog_18_method_80_code
def yX10_climbs : MethodName := ⟨RX10, "climbs", "(IIII)V"⟩
def dkwX10_climbs_6 : List UInt8 := [96, 181, 1, 165, 42, 180, 1, 165, 6, 160, 0, 9, 42, 21, 4, 181, 1, 168, 177]
abbrev dktX10_climbs_6 : List UInt8 := dkwX10_climbs_6 ++ []
def dkwX10_climbs_5 : List UInt8 := [21, 5, 21, 4, 182, 1, 180, 132, 5, 1, 167, 255, 234, 42, 4, 181, 1, 186, 42, 89, 180, 1, 165, 4]
abbrev dktX10_climbs_5 : List UInt8 := dkwX10_climbs_5 ++ dktX10_climbs_6
def dkwX10_climbs_4 : List UInt8 := [182, 1, 177, 132, 5, 1, 167, 255, 234, 3, 54, 5, 21, 5, 42, 180, 0, 9, 6, 46, 162, 0, 17, 42]
abbrev dktX10_climbs_4 : List UInt8 := dkwX10_climbs_4 ++ dktX10_climbs_5
def dkwX10_climbs_3 : List UInt8 := [162, 0, 4, 177, 3, 54, 5, 21, 5, 42, 180, 0, 9, 7, 46, 162, 0, 17, 42, 21, 5, 21, 4]
abbrev dktX10_climbs_3 : List UInt8 := dkwX10_climbs_3 ++ dktX10_climbs_4
def dkwX10_climbs_2 : List UInt8 := [182, 1, 177, 132, 5, 1, 167, 255, 223, 27, 5, 160, 0, 10, 42, 29, 21, 4, 182, 1, 183, 27, 6]
abbrev dktX10_climbs_2 : List UInt8 := dkwX10_climbs_2 ++ dktX10_climbs_3
def dkwX10_climbs_1 : List UInt8 := [180, 0, 9, 7, 46, 162, 0, 28, 42, 21, 5, 3, 182, 0, 156, 29, 160, 0, 11, 42, 21, 5, 21, 4]
abbrev dktX10_climbs_1 : List UInt8 := dkwX10_climbs_1 ++ dktX10_climbs_2
def dkwX10_climbs_0 : List UInt8 := [27, 154, 0, 10, 42, 28, 21, 4, 182, 1, 177, 27, 4, 160, 0, 42, 3, 54, 5, 21, 5, 42]
abbrev dktX10_climbs_0 : List UInt8 := dkwX10_climbs_0 ++ dktX10_climbs_1
theorem dksX10_climbs_0 : cX10_climbs.data.toList.drop 0 = dktX10_climbs_0 := by decide +kernel
theorem dksX10_climbs_1 : cX10_climbs.data.toList.drop 22 = dktX10_climbs_1 := dk_seg dksX10_climbs_0 22 rfl rfl
theorem dksX10_climbs_2 : cX10_climbs.data.toList.drop 46 = dktX10_climbs_2 := dk_seg dksX10_climbs_1 24 rfl rfl
theorem dksX10_climbs_3 : cX10_climbs.data.toList.drop 69 = dktX10_climbs_3 := dk_seg dksX10_climbs_2 23 rfl rfl
theorem dksX10_climbs_4 : cX10_climbs.data.toList.drop 92 = dktX10_climbs_4 := dk_seg dksX10_climbs_3 23 rfl rfl
theorem dksX10_climbs_5 : cX10_climbs.data.toList.drop 116 = dktX10_climbs_5 := dk_seg dksX10_climbs_4 24 rfl rfl
theorem dksX10_climbs_6 : cX10_climbs.data.toList.drop 140 = dktX10_climbs_6 := dk_seg dksX10_climbs_5 24 rfl rfl
theorem dX10_climbs_0 : decode cX10_climbs 0 = .ok (.iload_n 1, 1) := dk_27 (dk_at dksX10_climbs_0 0 rfl rfl)
theorem dX10_climbs_1 : decode cX10_climbs 1 = .ok (.ifCond .ne 10, 3) := dk_154 0 10 (dk_at dksX10_climbs_0 1 rfl rfl)
theorem dX10_climbs_4 : decode cX10_climbs 4 = .ok (.aload_n 0, 1) := dk_42 (dk_at dksX10_climbs_0 4 rfl rfl)
theorem dX10_climbs_5 : decode cX10_climbs 5 = .ok (.iload_n 2, 1) := dk_28 (dk_at dksX10_climbs_0 5 rfl rfl)
theorem dX10_climbs_6 : decode cX10_climbs 6 = .ok (.iload 4, 2) := dk_21 4 (dk_at dksX10_climbs_0 6 rfl rfl)
theorem dX10_climbs_8 : decode cX10_climbs 8 = .ok (.invokevirtual 433, 3) := dk_182 1 177 (dk_at dksX10_climbs_0 8 rfl rfl)
theorem dX10_climbs_11 : decode cX10_climbs 11 = .ok (.iload_n 1, 1) := dk_27 (dk_at dksX10_climbs_0 11 rfl rfl)
theorem dX10_climbs_12 : decode cX10_climbs 12 = .ok (.iconst 1, 1) := dk_4 (dk_at dksX10_climbs_0 12 rfl rfl)
theorem dX10_climbs_13 : decode cX10_climbs 13 = .ok (.if_icmp .ne 42, 3) := dk_160 0 42 (dk_at dksX10_climbs_0 13 rfl rfl)
theorem dX10_climbs_16 : decode cX10_climbs 16 = .ok (.iconst 0, 1) := dk_3 (dk_at dksX10_climbs_0 16 rfl rfl)
theorem dX10_climbs_17 : decode cX10_climbs 17 = .ok (.istore 5, 2) := dk_54 5 (dk_at dksX10_climbs_0 17 rfl rfl)
theorem dX10_climbs_19 : decode cX10_climbs 19 = .ok (.iload 5, 2) := dk_21 5 (dk_at dksX10_climbs_0 19 rfl rfl)
theorem dX10_climbs_21 : decode cX10_climbs 21 = .ok (.aload_n 0, 1) := dk_42 (dk_at dksX10_climbs_0 21 rfl rfl)
theorem dX10_climbs_22 : decode cX10_climbs 22 = .ok (.getfield 9, 3) := dk_180 0 9 (dk_at dksX10_climbs_1 0 rfl rfl)
theorem dX10_climbs_25 : decode cX10_climbs 25 = .ok (.iconst 4, 1) := dk_7 (dk_at dksX10_climbs_1 3 rfl rfl)
theorem dX10_climbs_26 : decode cX10_climbs 26 = .ok (.iaload, 1) := dk_46 (dk_at dksX10_climbs_1 4 rfl rfl)
theorem dX10_climbs_27 : decode cX10_climbs 27 = .ok (.if_icmp .ge 28, 3) := dk_162 0 28 (dk_at dksX10_climbs_1 5 rfl rfl)
theorem dX10_climbs_30 : decode cX10_climbs 30 = .ok (.aload_n 0, 1) := dk_42 (dk_at dksX10_climbs_1 8 rfl rfl)
theorem dX10_climbs_31 : decode cX10_climbs 31 = .ok (.iload 5, 2) := dk_21 5 (dk_at dksX10_climbs_1 9 rfl rfl)
theorem dX10_climbs_33 : decode cX10_climbs 33 = .ok (.iconst 0, 1) := dk_3 (dk_at dksX10_climbs_1 11 rfl rfl)
theorem dX10_climbs_34 : decode cX10_climbs 34 = .ok (.invokevirtual 156, 3) := dk_182 0 156 (dk_at dksX10_climbs_1 12 rfl rfl)
theorem dX10_climbs_37 : decode cX10_climbs 37 = .ok (.iload_n 3, 1) := dk_29 (dk_at dksX10_climbs_1 15 rfl rfl)
theorem dX10_climbs_38 : decode cX10_climbs 38 = .ok (.if_icmp .ne 11, 3) := dk_160 0 11 (dk_at dksX10_climbs_1 16 rfl rfl)
theorem dX10_climbs_41 : decode cX10_climbs 41 = .ok (.aload_n 0, 1) := dk_42 (dk_at dksX10_climbs_1 19 rfl rfl)
theorem dX10_climbs_42 : decode cX10_climbs 42 = .ok (.iload 5, 2) := dk_21 5 (dk_at dksX10_climbs_1 20 rfl rfl)
theorem dX10_climbs_44 : decode cX10_climbs 44 = .ok (.iload 4, 2) := dk_21 4 (dk_at dksX10_climbs_1 22 rfl rfl)
theorem dX10_climbs_46 : decode cX10_climbs 46 = .ok (.invokevirtual 433, 3) := dk_182 1 177 (dk_at dksX10_climbs_2 0 rfl rfl)
theorem dX10_climbs_49 : decode cX10_climbs 49 = .ok (.iinc 5 1, 3) := dk_132 5 1 (dk_at dksX10_climbs_2 3 rfl rfl)
theorem dX10_climbs_52 : decode cX10_climbs 52 = .ok (.goto (-33), 3) := dk_167 255 223 (dk_at dksX10_climbs_2 6 rfl rfl)
theorem dX10_climbs_55 : decode cX10_climbs 55 = .ok (.iload_n 1, 1) := dk_27 (dk_at dksX10_climbs_2 9 rfl rfl)
theorem dX10_climbs_56 : decode cX10_climbs 56 = .ok (.iconst 2, 1) := dk_5 (dk_at dksX10_climbs_2 10 rfl rfl)
theorem dX10_climbs_57 : decode cX10_climbs 57 = .ok (.if_icmp .ne 10, 3) := dk_160 0 10 (dk_at dksX10_climbs_2 11 rfl rfl)
theorem dX10_climbs_60 : decode cX10_climbs 60 = .ok (.aload_n 0, 1) := dk_42 (dk_at dksX10_climbs_2 14 rfl rfl)
theorem dX10_climbs_61 : decode cX10_climbs 61 = .ok (.iload_n 3, 1) := dk_29 (dk_at dksX10_climbs_2 15 rfl rfl)
theorem dX10_climbs_62 : decode cX10_climbs 62 = .ok (.iload 4, 2) := dk_21 4 (dk_at dksX10_climbs_2 16 rfl rfl)
theorem dX10_climbs_64 : decode cX10_climbs 64 = .ok (.invokevirtual 439, 3) := dk_182 1 183 (dk_at dksX10_climbs_2 18 rfl rfl)
theorem dX10_climbs_67 : decode cX10_climbs 67 = .ok (.iload_n 1, 1) := dk_27 (dk_at dksX10_climbs_2 21 rfl rfl)
theorem dX10_climbs_68 : decode cX10_climbs 68 = .ok (.iconst 3, 1) := dk_6 (dk_at dksX10_climbs_2 22 rfl rfl)
theorem dX10_climbs_69 : decode cX10_climbs 69 = .ok (.if_icmp .ge 4, 3) := dk_162 0 4 (dk_at dksX10_climbs_3 0 rfl rfl)
theorem dX10_climbs_72 : decode cX10_climbs 72 = .ok (.return_, 1) := dk_177 (dk_at dksX10_climbs_3 3 rfl rfl)
theorem dX10_climbs_73 : decode cX10_climbs 73 = .ok (.iconst 0, 1) := dk_3 (dk_at dksX10_climbs_3 4 rfl rfl)
theorem dX10_climbs_74 : decode cX10_climbs 74 = .ok (.istore 5, 2) := dk_54 5 (dk_at dksX10_climbs_3 5 rfl rfl)
theorem dX10_climbs_76 : decode cX10_climbs 76 = .ok (.iload 5, 2) := dk_21 5 (dk_at dksX10_climbs_3 7 rfl rfl)
theorem dX10_climbs_78 : decode cX10_climbs 78 = .ok (.aload_n 0, 1) := dk_42 (dk_at dksX10_climbs_3 9 rfl rfl)
theorem dX10_climbs_79 : decode cX10_climbs 79 = .ok (.getfield 9, 3) := dk_180 0 9 (dk_at dksX10_climbs_3 10 rfl rfl)
theorem dX10_climbs_82 : decode cX10_climbs 82 = .ok (.iconst 4, 1) := dk_7 (dk_at dksX10_climbs_3 13 rfl rfl)
theorem dX10_climbs_83 : decode cX10_climbs 83 = .ok (.iaload, 1) := dk_46 (dk_at dksX10_climbs_3 14 rfl rfl)
theorem dX10_climbs_84 : decode cX10_climbs 84 = .ok (.if_icmp .ge 17, 3) := dk_162 0 17 (dk_at dksX10_climbs_3 15 rfl rfl)
theorem dX10_climbs_87 : decode cX10_climbs 87 = .ok (.aload_n 0, 1) := dk_42 (dk_at dksX10_climbs_3 18 rfl rfl)
theorem dX10_climbs_88 : decode cX10_climbs 88 = .ok (.iload 5, 2) := dk_21 5 (dk_at dksX10_climbs_3 19 rfl rfl)
theorem dX10_climbs_90 : decode cX10_climbs 90 = .ok (.iload 4, 2) := dk_21 4 (dk_at dksX10_climbs_3 21 rfl rfl)
theorem dX10_climbs_92 : decode cX10_climbs 92 = .ok (.invokevirtual 433, 3) := dk_182 1 177 (dk_at dksX10_climbs_4 0 rfl rfl)
theorem dX10_climbs_95 : decode cX10_climbs 95 = .ok (.iinc 5 1, 3) := dk_132 5 1 (dk_at dksX10_climbs_4 3 rfl rfl)
theorem dX10_climbs_98 : decode cX10_climbs 98 = .ok (.goto (-22), 3) := dk_167 255 234 (dk_at dksX10_climbs_4 6 rfl rfl)
theorem dX10_climbs_101 : decode cX10_climbs 101 = .ok (.iconst 0, 1) := dk_3 (dk_at dksX10_climbs_4 9 rfl rfl)
theorem dX10_climbs_102 : decode cX10_climbs 102 = .ok (.istore 5, 2) := dk_54 5 (dk_at dksX10_climbs_4 10 rfl rfl)
theorem dX10_climbs_104 : decode cX10_climbs 104 = .ok (.iload 5, 2) := dk_21 5 (dk_at dksX10_climbs_4 12 rfl rfl)
theorem dX10_climbs_106 : decode cX10_climbs 106 = .ok (.aload_n 0, 1) := dk_42 (dk_at dksX10_climbs_4 14 rfl rfl)
theorem dX10_climbs_107 : decode cX10_climbs 107 = .ok (.getfield 9, 3) := dk_180 0 9 (dk_at dksX10_climbs_4 15 rfl rfl)
theorem dX10_climbs_110 : decode cX10_climbs 110 = .ok (.iconst 3, 1) := dk_6 (dk_at dksX10_climbs_4 18 rfl rfl)
theorem dX10_climbs_111 : decode cX10_climbs 111 = .ok (.iaload, 1) := dk_46 (dk_at dksX10_climbs_4 19 rfl rfl)
theorem dX10_climbs_112 : decode cX10_climbs 112 = .ok (.if_icmp .ge 17, 3) := dk_162 0 17 (dk_at dksX10_climbs_4 20 rfl rfl)
theorem dX10_climbs_115 : decode cX10_climbs 115 = .ok (.aload_n 0, 1) := dk_42 (dk_at dksX10_climbs_4 23 rfl rfl)
theorem dX10_climbs_116 : decode cX10_climbs 116 = .ok (.iload 5, 2) := dk_21 5 (dk_at dksX10_climbs_5 0 rfl rfl)
theorem dX10_climbs_118 : decode cX10_climbs 118 = .ok (.iload 4, 2) := dk_21 4 (dk_at dksX10_climbs_5 2 rfl rfl)
theorem dX10_climbs_120 : decode cX10_climbs 120 = .ok (.invokevirtual 436, 3) := dk_182 1 180 (dk_at dksX10_climbs_5 4 rfl rfl)
theorem dX10_climbs_123 : decode cX10_climbs 123 = .ok (.iinc 5 1, 3) := dk_132 5 1 (dk_at dksX10_climbs_5 7 rfl rfl)
theorem dX10_climbs_126 : decode cX10_climbs 126 = .ok (.goto (-22), 3) := dk_167 255 234 (dk_at dksX10_climbs_5 10 rfl rfl)
theorem dX10_climbs_129 : decode cX10_climbs 129 = .ok (.aload_n 0, 1) := dk_42 (dk_at dksX10_climbs_5 13 rfl rfl)
theorem dX10_climbs_130 : decode cX10_climbs 130 = .ok (.iconst 1, 1) := dk_4 (dk_at dksX10_climbs_5 14 rfl rfl)
theorem dX10_climbs_131 : decode cX10_climbs 131 = .ok (.putfield 442, 3) := dk_181 1 186 (dk_at dksX10_climbs_5 15 rfl rfl)
theorem dX10_climbs_134 : decode cX10_climbs 134 = .ok (.aload_n 0, 1) := dk_42 (dk_at dksX10_climbs_5 18 rfl rfl)
theorem dX10_climbs_135 : decode cX10_climbs 135 = .ok (.dup, 1) := dk_89 (dk_at dksX10_climbs_5 19 rfl rfl)
theorem dX10_climbs_136 : decode cX10_climbs 136 = .ok (.getfield 421, 3) := dk_180 1 165 (dk_at dksX10_climbs_5 20 rfl rfl)
theorem dX10_climbs_139 : decode cX10_climbs 139 = .ok (.iconst 1, 1) := dk_4 (dk_at dksX10_climbs_5 23 rfl rfl)
theorem dX10_climbs_140 : decode cX10_climbs 140 = .ok (.iadd, 1) := dk_96 (dk_at dksX10_climbs_6 0 rfl rfl)
theorem dX10_climbs_141 : decode cX10_climbs 141 = .ok (.putfield 421, 3) := dk_181 1 165 (dk_at dksX10_climbs_6 1 rfl rfl)
theorem dX10_climbs_144 : decode cX10_climbs 144 = .ok (.aload_n 0, 1) := dk_42 (dk_at dksX10_climbs_6 4 rfl rfl)
theorem dX10_climbs_145 : decode cX10_climbs 145 = .ok (.getfield 421, 3) := dk_180 1 165 (dk_at dksX10_climbs_6 5 rfl rfl)
theorem dX10_climbs_148 : decode cX10_climbs 148 = .ok (.iconst 3, 1) := dk_6 (dk_at dksX10_climbs_6 8 rfl rfl)
theorem dX10_climbs_149 : decode cX10_climbs 149 = .ok (.if_icmp .ne 9, 3) := dk_160 0 9 (dk_at dksX10_climbs_6 9 rfl rfl)
theorem dX10_climbs_152 : decode cX10_climbs 152 = .ok (.aload_n 0, 1) := dk_42 (dk_at dksX10_climbs_6 12 rfl rfl)
theorem dX10_climbs_153 : decode cX10_climbs 153 = .ok (.iload 4, 2) := dk_21 4 (dk_at dksX10_climbs_6 13 rfl rfl)
theorem dX10_climbs_155 : decode cX10_climbs 155 = .ok (.putfield 424, 3) := dk_181 1 168 (dk_at dksX10_climbs_6 15 rfl rfl)
theorem dX10_climbs_158 : decode cX10_climbs 158 = .ok (.return_, 1) := dk_177 (dk_at dksX10_climbs_6 18 rfl rfl)
abbrev cX10_restarts : ByteArray := prog_18_method_77_code
def yX10_restarts : MethodName := ⟨RX10, "restarts", "(II)V"⟩
def dkwX10_restarts_2 : List UInt8 := [100, 79, 42, 180, 0, 82, 27, 3, 84, 177]
abbrev dktX10_restarts_2 : List UInt8 := dkwX10_restarts_2 ++ []
def dkwX10_restarts_1 : List UInt8 := [182, 1, 100, 104, 79, 42, 180, 0, 76, 27, 4, 79, 42, 180, 0, 79, 27, 42, 180, 0, 61, 27, 46, 4]
abbrev dktX10_restarts_1 : List UInt8 := dkwX10_restarts_1 ++ dktX10_restarts_2
def dkwX10_restarts_0 : List UInt8 := [42, 180, 0, 64, 27, 2, 79, 42, 180, 0, 61, 27, 28, 42, 27, 182, 1, 100, 108, 4, 96, 42, 27]
abbrev dktX10_restarts_0 : List UInt8 := dkwX10_restarts_0 ++ dktX10_restarts_1
theorem dksX10_restarts_0 : cX10_restarts.data.toList.drop 0 = dktX10_restarts_0 := by decide +kernel
theorem dksX10_restarts_1 : cX10_restarts.data.toList.drop 23 = dktX10_restarts_1 := dk_seg dksX10_restarts_0 23 rfl rfl
theorem dksX10_restarts_2 : cX10_restarts.data.toList.drop 47 = dktX10_restarts_2 := dk_seg dksX10_restarts_1 24 rfl rfl
theorem dX10_restarts_0 : decode cX10_restarts 0 = .ok (.aload_n 0, 1) := dk_42 (dk_at dksX10_restarts_0 0 rfl rfl)
theorem dX10_restarts_1 : decode cX10_restarts 1 = .ok (.getfield 64, 3) := dk_180 0 64 (dk_at dksX10_restarts_0 1 rfl rfl)
theorem dX10_restarts_4 : decode cX10_restarts 4 = .ok (.iload_n 1, 1) := dk_27 (dk_at dksX10_restarts_0 4 rfl rfl)
theorem dX10_restarts_5 : decode cX10_restarts 5 = .ok (.iconst (-1), 1) := dk_2 (dk_at dksX10_restarts_0 5 rfl rfl)
theorem dX10_restarts_6 : decode cX10_restarts 6 = .ok (.iastore, 1) := dk_79 (dk_at dksX10_restarts_0 6 rfl rfl)
theorem dX10_restarts_7 : decode cX10_restarts 7 = .ok (.aload_n 0, 1) := dk_42 (dk_at dksX10_restarts_0 7 rfl rfl)
theorem dX10_restarts_8 : decode cX10_restarts 8 = .ok (.getfield 61, 3) := dk_180 0 61 (dk_at dksX10_restarts_0 8 rfl rfl)
theorem dX10_restarts_11 : decode cX10_restarts 11 = .ok (.iload_n 1, 1) := dk_27 (dk_at dksX10_restarts_0 11 rfl rfl)
theorem dX10_restarts_12 : decode cX10_restarts 12 = .ok (.iload_n 2, 1) := dk_28 (dk_at dksX10_restarts_0 12 rfl rfl)
theorem dX10_restarts_13 : decode cX10_restarts 13 = .ok (.aload_n 0, 1) := dk_42 (dk_at dksX10_restarts_0 13 rfl rfl)
theorem dX10_restarts_14 : decode cX10_restarts 14 = .ok (.iload_n 1, 1) := dk_27 (dk_at dksX10_restarts_0 14 rfl rfl)
theorem dX10_restarts_15 : decode cX10_restarts 15 = .ok (.invokevirtual 356, 3) := dk_182 1 100 (dk_at dksX10_restarts_0 15 rfl rfl)
theorem dX10_restarts_18 : decode cX10_restarts 18 = .ok (.idiv, 1) := dk_108 (dk_at dksX10_restarts_0 18 rfl rfl)
theorem dX10_restarts_19 : decode cX10_restarts 19 = .ok (.iconst 1, 1) := dk_4 (dk_at dksX10_restarts_0 19 rfl rfl)
theorem dX10_restarts_20 : decode cX10_restarts 20 = .ok (.iadd, 1) := dk_96 (dk_at dksX10_restarts_0 20 rfl rfl)
theorem dX10_restarts_21 : decode cX10_restarts 21 = .ok (.aload_n 0, 1) := dk_42 (dk_at dksX10_restarts_0 21 rfl rfl)
theorem dX10_restarts_22 : decode cX10_restarts 22 = .ok (.iload_n 1, 1) := dk_27 (dk_at dksX10_restarts_0 22 rfl rfl)
theorem dX10_restarts_23 : decode cX10_restarts 23 = .ok (.invokevirtual 356, 3) := dk_182 1 100 (dk_at dksX10_restarts_1 0 rfl rfl)
theorem dX10_restarts_26 : decode cX10_restarts 26 = .ok (.imul, 1) := dk_104 (dk_at dksX10_restarts_1 3 rfl rfl)
theorem dX10_restarts_27 : decode cX10_restarts 27 = .ok (.iastore, 1) := dk_79 (dk_at dksX10_restarts_1 4 rfl rfl)
theorem dX10_restarts_28 : decode cX10_restarts 28 = .ok (.aload_n 0, 1) := dk_42 (dk_at dksX10_restarts_1 5 rfl rfl)
theorem dX10_restarts_29 : decode cX10_restarts 29 = .ok (.getfield 76, 3) := dk_180 0 76 (dk_at dksX10_restarts_1 6 rfl rfl)
theorem dX10_restarts_32 : decode cX10_restarts 32 = .ok (.iload_n 1, 1) := dk_27 (dk_at dksX10_restarts_1 9 rfl rfl)
theorem dX10_restarts_33 : decode cX10_restarts 33 = .ok (.iconst 1, 1) := dk_4 (dk_at dksX10_restarts_1 10 rfl rfl)
theorem dX10_restarts_34 : decode cX10_restarts 34 = .ok (.iastore, 1) := dk_79 (dk_at dksX10_restarts_1 11 rfl rfl)
theorem dX10_restarts_35 : decode cX10_restarts 35 = .ok (.aload_n 0, 1) := dk_42 (dk_at dksX10_restarts_1 12 rfl rfl)
theorem dX10_restarts_36 : decode cX10_restarts 36 = .ok (.getfield 79, 3) := dk_180 0 79 (dk_at dksX10_restarts_1 13 rfl rfl)
theorem dX10_restarts_39 : decode cX10_restarts 39 = .ok (.iload_n 1, 1) := dk_27 (dk_at dksX10_restarts_1 16 rfl rfl)
theorem dX10_restarts_40 : decode cX10_restarts 40 = .ok (.aload_n 0, 1) := dk_42 (dk_at dksX10_restarts_1 17 rfl rfl)
theorem dX10_restarts_41 : decode cX10_restarts 41 = .ok (.getfield 61, 3) := dk_180 0 61 (dk_at dksX10_restarts_1 18 rfl rfl)
theorem dX10_restarts_44 : decode cX10_restarts 44 = .ok (.iload_n 1, 1) := dk_27 (dk_at dksX10_restarts_1 21 rfl rfl)
theorem dX10_restarts_45 : decode cX10_restarts 45 = .ok (.iaload, 1) := dk_46 (dk_at dksX10_restarts_1 22 rfl rfl)
theorem dX10_restarts_46 : decode cX10_restarts 46 = .ok (.iconst 1, 1) := dk_4 (dk_at dksX10_restarts_1 23 rfl rfl)
theorem dX10_restarts_47 : decode cX10_restarts 47 = .ok (.isub, 1) := dk_100 (dk_at dksX10_restarts_2 0 rfl rfl)
theorem dX10_restarts_48 : decode cX10_restarts 48 = .ok (.iastore, 1) := dk_79 (dk_at dksX10_restarts_2 1 rfl rfl)
theorem dX10_restarts_49 : decode cX10_restarts 49 = .ok (.aload_n 0, 1) := dk_42 (dk_at dksX10_restarts_2 2 rfl rfl)
theorem dX10_restarts_50 : decode cX10_restarts 50 = .ok (.getfield 82, 3) := dk_180 0 82 (dk_at dksX10_restarts_2 3 rfl rfl)
theorem dX10_restarts_53 : decode cX10_restarts 53 = .ok (.iload_n 1, 1) := dk_27 (dk_at dksX10_restarts_2 6 rfl rfl)
theorem dX10_restarts_54 : decode cX10_restarts 54 = .ok (.iconst 0, 1) := dk_3 (dk_at dksX10_restarts_2 7 rfl rfl)
theorem dX10_restarts_55 : decode cX10_restarts 55 = .ok (.bastore, 1) := dk_84 (dk_at dksX10_restarts_2 8 rfl rfl)
theorem dX10_restarts_56 : decode cX10_restarts 56 = .ok (.return_, 1) := dk_177 (dk_at dksX10_restarts_2 9 rfl rfl)
abbrev cX10_resets : ByteArray := prog_18_method_79_code
def yX10_resets : MethodName := ⟨RX10, "resets", "(II)V"⟩
def dkwX10_resets_3 : List UInt8 := [177]
abbrev dktX10_resets_3 : List UInt8 := dkwX10_resets_3 ++ []
def dkwX10_resets_2 : List UInt8 := [162, 0, 24, 42, 29, 27, 182, 1, 174, 153, 0, 9, 42, 29, 28, 182, 1, 180, 132, 3, 1, 167, 255, 228]
abbrev dktX10_resets_2 : List UInt8 := dkwX10_resets_2 ++ dktX10_resets_3
def dkwX10_resets_1 : List UInt8 := [153, 0, 9, 42, 29, 28, 182, 1, 177, 132, 3, 1, 167, 255, 223, 3, 62, 29, 42, 180, 0, 9, 6, 46]
abbrev dktX10_resets_1 : List UInt8 := dkwX10_resets_1 ++ dktX10_resets_2
def dkwX10_resets_0 : List UInt8 := [3, 62, 29, 42, 180, 0, 9, 7, 46, 162, 0, 29, 42, 42, 29, 3, 182, 0, 156, 27, 182, 1, 174]
abbrev dktX10_resets_0 : List UInt8 := dkwX10_resets_0 ++ dktX10_resets_1
theorem dksX10_resets_0 : cX10_resets.data.toList.drop 0 = dktX10_resets_0 := by decide +kernel
theorem dksX10_resets_1 : cX10_resets.data.toList.drop 23 = dktX10_resets_1 := dk_seg dksX10_resets_0 23 rfl rfl
theorem dksX10_resets_2 : cX10_resets.data.toList.drop 47 = dktX10_resets_2 := dk_seg dksX10_resets_1 24 rfl rfl
theorem dksX10_resets_3 : cX10_resets.data.toList.drop 71 = dktX10_resets_3 := dk_seg dksX10_resets_2 24 rfl rfl
theorem dX10_resets_0 : decode cX10_resets 0 = .ok (.iconst 0, 1) := dk_3 (dk_at dksX10_resets_0 0 rfl rfl)
theorem dX10_resets_1 : decode cX10_resets 1 = .ok (.istore_n 3, 1) := dk_62 (dk_at dksX10_resets_0 1 rfl rfl)
theorem dX10_resets_2 : decode cX10_resets 2 = .ok (.iload_n 3, 1) := dk_29 (dk_at dksX10_resets_0 2 rfl rfl)
theorem dX10_resets_3 : decode cX10_resets 3 = .ok (.aload_n 0, 1) := dk_42 (dk_at dksX10_resets_0 3 rfl rfl)
theorem dX10_resets_4 : decode cX10_resets 4 = .ok (.getfield 9, 3) := dk_180 0 9 (dk_at dksX10_resets_0 4 rfl rfl)
theorem dX10_resets_7 : decode cX10_resets 7 = .ok (.iconst 4, 1) := dk_7 (dk_at dksX10_resets_0 7 rfl rfl)
theorem dX10_resets_8 : decode cX10_resets 8 = .ok (.iaload, 1) := dk_46 (dk_at dksX10_resets_0 8 rfl rfl)
theorem dX10_resets_9 : decode cX10_resets 9 = .ok (.if_icmp .ge 29, 3) := dk_162 0 29 (dk_at dksX10_resets_0 9 rfl rfl)
theorem dX10_resets_12 : decode cX10_resets 12 = .ok (.aload_n 0, 1) := dk_42 (dk_at dksX10_resets_0 12 rfl rfl)
theorem dX10_resets_13 : decode cX10_resets 13 = .ok (.aload_n 0, 1) := dk_42 (dk_at dksX10_resets_0 13 rfl rfl)
theorem dX10_resets_14 : decode cX10_resets 14 = .ok (.iload_n 3, 1) := dk_29 (dk_at dksX10_resets_0 14 rfl rfl)
theorem dX10_resets_15 : decode cX10_resets 15 = .ok (.iconst 0, 1) := dk_3 (dk_at dksX10_resets_0 15 rfl rfl)
theorem dX10_resets_16 : decode cX10_resets 16 = .ok (.invokevirtual 156, 3) := dk_182 0 156 (dk_at dksX10_resets_0 16 rfl rfl)
theorem dX10_resets_19 : decode cX10_resets 19 = .ok (.iload_n 1, 1) := dk_27 (dk_at dksX10_resets_0 19 rfl rfl)
theorem dX10_resets_20 : decode cX10_resets 20 = .ok (.invokevirtual 430, 3) := dk_182 1 174 (dk_at dksX10_resets_0 20 rfl rfl)
theorem dX10_resets_23 : decode cX10_resets 23 = .ok (.ifCond .eq 9, 3) := dk_153 0 9 (dk_at dksX10_resets_1 0 rfl rfl)
theorem dX10_resets_26 : decode cX10_resets 26 = .ok (.aload_n 0, 1) := dk_42 (dk_at dksX10_resets_1 3 rfl rfl)
theorem dX10_resets_27 : decode cX10_resets 27 = .ok (.iload_n 3, 1) := dk_29 (dk_at dksX10_resets_1 4 rfl rfl)
theorem dX10_resets_28 : decode cX10_resets 28 = .ok (.iload_n 2, 1) := dk_28 (dk_at dksX10_resets_1 5 rfl rfl)
theorem dX10_resets_29 : decode cX10_resets 29 = .ok (.invokevirtual 433, 3) := dk_182 1 177 (dk_at dksX10_resets_1 6 rfl rfl)
theorem dX10_resets_32 : decode cX10_resets 32 = .ok (.iinc 3 1, 3) := dk_132 3 1 (dk_at dksX10_resets_1 9 rfl rfl)
theorem dX10_resets_35 : decode cX10_resets 35 = .ok (.goto (-33), 3) := dk_167 255 223 (dk_at dksX10_resets_1 12 rfl rfl)
theorem dX10_resets_38 : decode cX10_resets 38 = .ok (.iconst 0, 1) := dk_3 (dk_at dksX10_resets_1 15 rfl rfl)
theorem dX10_resets_39 : decode cX10_resets 39 = .ok (.istore_n 3, 1) := dk_62 (dk_at dksX10_resets_1 16 rfl rfl)
theorem dX10_resets_40 : decode cX10_resets 40 = .ok (.iload_n 3, 1) := dk_29 (dk_at dksX10_resets_1 17 rfl rfl)
theorem dX10_resets_41 : decode cX10_resets 41 = .ok (.aload_n 0, 1) := dk_42 (dk_at dksX10_resets_1 18 rfl rfl)
theorem dX10_resets_42 : decode cX10_resets 42 = .ok (.getfield 9, 3) := dk_180 0 9 (dk_at dksX10_resets_1 19 rfl rfl)
theorem dX10_resets_45 : decode cX10_resets 45 = .ok (.iconst 3, 1) := dk_6 (dk_at dksX10_resets_1 22 rfl rfl)
theorem dX10_resets_46 : decode cX10_resets 46 = .ok (.iaload, 1) := dk_46 (dk_at dksX10_resets_1 23 rfl rfl)
theorem dX10_resets_47 : decode cX10_resets 47 = .ok (.if_icmp .ge 24, 3) := dk_162 0 24 (dk_at dksX10_resets_2 0 rfl rfl)
theorem dX10_resets_50 : decode cX10_resets 50 = .ok (.aload_n 0, 1) := dk_42 (dk_at dksX10_resets_2 3 rfl rfl)
theorem dX10_resets_51 : decode cX10_resets 51 = .ok (.iload_n 3, 1) := dk_29 (dk_at dksX10_resets_2 4 rfl rfl)
theorem dX10_resets_52 : decode cX10_resets 52 = .ok (.iload_n 1, 1) := dk_27 (dk_at dksX10_resets_2 5 rfl rfl)
theorem dX10_resets_53 : decode cX10_resets 53 = .ok (.invokevirtual 430, 3) := dk_182 1 174 (dk_at dksX10_resets_2 6 rfl rfl)
theorem dX10_resets_56 : decode cX10_resets 56 = .ok (.ifCond .eq 9, 3) := dk_153 0 9 (dk_at dksX10_resets_2 9 rfl rfl)
theorem dX10_resets_59 : decode cX10_resets 59 = .ok (.aload_n 0, 1) := dk_42 (dk_at dksX10_resets_2 12 rfl rfl)
theorem dX10_resets_60 : decode cX10_resets 60 = .ok (.iload_n 3, 1) := dk_29 (dk_at dksX10_resets_2 13 rfl rfl)
theorem dX10_resets_61 : decode cX10_resets 61 = .ok (.iload_n 2, 1) := dk_28 (dk_at dksX10_resets_2 14 rfl rfl)
theorem dX10_resets_62 : decode cX10_resets 62 = .ok (.invokevirtual 436, 3) := dk_182 1 180 (dk_at dksX10_resets_2 15 rfl rfl)
theorem dX10_resets_65 : decode cX10_resets 65 = .ok (.iinc 3 1, 3) := dk_132 3 1 (dk_at dksX10_resets_2 18 rfl rfl)
theorem dX10_resets_68 : decode cX10_resets 68 = .ok (.goto (-28), 3) := dk_167 255 228 (dk_at dksX10_resets_2 21 rfl rfl)
theorem dX10_resets_71 : decode cX10_resets 71 = .ok (.return_, 1) := dk_177 (dk_at dksX10_resets_3 0 rfl rfl)
abbrev cX10_isUnder : ByteArray := prog_18_method_78_code
def yX10_isUnder : MethodName := ⟨RX10, "isUnder", "(II)Z"⟩
def dkwX10_isUnder_1 : List UInt8 := [29, 28, 160, 0, 7, 4, 167, 0, 4, 3, 172]
abbrev dktX10_isUnder_1 : List UInt8 := dkwX10_isUnder_1 ++ []
def dkwX10_isUnder_0 : List UInt8 := [27, 62, 29, 28, 159, 0, 20, 29, 158, 0, 16, 42, 180, 0, 9, 16, 8, 29, 96, 46, 62, 167, 255, 237]
abbrev dktX10_isUnder_0 : List UInt8 := dkwX10_isUnder_0 ++ dktX10_isUnder_1
theorem dksX10_isUnder_0 : cX10_isUnder.data.toList.drop 0 = dktX10_isUnder_0 := by decide +kernel
theorem dksX10_isUnder_1 : cX10_isUnder.data.toList.drop 24 = dktX10_isUnder_1 := dk_seg dksX10_isUnder_0 24 rfl rfl
theorem dX10_isUnder_0 : decode cX10_isUnder 0 = .ok (.iload_n 1, 1) := dk_27 (dk_at dksX10_isUnder_0 0 rfl rfl)
theorem dX10_isUnder_1 : decode cX10_isUnder 1 = .ok (.istore_n 3, 1) := dk_62 (dk_at dksX10_isUnder_0 1 rfl rfl)
theorem dX10_isUnder_2 : decode cX10_isUnder 2 = .ok (.iload_n 3, 1) := dk_29 (dk_at dksX10_isUnder_0 2 rfl rfl)
theorem dX10_isUnder_3 : decode cX10_isUnder 3 = .ok (.iload_n 2, 1) := dk_28 (dk_at dksX10_isUnder_0 3 rfl rfl)
theorem dX10_isUnder_4 : decode cX10_isUnder 4 = .ok (.if_icmp .eq 20, 3) := dk_159 0 20 (dk_at dksX10_isUnder_0 4 rfl rfl)
theorem dX10_isUnder_7 : decode cX10_isUnder 7 = .ok (.iload_n 3, 1) := dk_29 (dk_at dksX10_isUnder_0 7 rfl rfl)
theorem dX10_isUnder_8 : decode cX10_isUnder 8 = .ok (.ifCond .le 16, 3) := dk_158 0 16 (dk_at dksX10_isUnder_0 8 rfl rfl)
theorem dX10_isUnder_11 : decode cX10_isUnder 11 = .ok (.aload_n 0, 1) := dk_42 (dk_at dksX10_isUnder_0 11 rfl rfl)
theorem dX10_isUnder_12 : decode cX10_isUnder 12 = .ok (.getfield 9, 3) := dk_180 0 9 (dk_at dksX10_isUnder_0 12 rfl rfl)
theorem dX10_isUnder_15 : decode cX10_isUnder 15 = .ok (.bipush 8, 2) := dk_16 8 (dk_at dksX10_isUnder_0 15 rfl rfl)
theorem dX10_isUnder_17 : decode cX10_isUnder 17 = .ok (.iload_n 3, 1) := dk_29 (dk_at dksX10_isUnder_0 17 rfl rfl)
theorem dX10_isUnder_18 : decode cX10_isUnder 18 = .ok (.iadd, 1) := dk_96 (dk_at dksX10_isUnder_0 18 rfl rfl)
theorem dX10_isUnder_19 : decode cX10_isUnder 19 = .ok (.iaload, 1) := dk_46 (dk_at dksX10_isUnder_0 19 rfl rfl)
theorem dX10_isUnder_20 : decode cX10_isUnder 20 = .ok (.istore_n 3, 1) := dk_62 (dk_at dksX10_isUnder_0 20 rfl rfl)
theorem dX10_isUnder_21 : decode cX10_isUnder 21 = .ok (.goto (-19), 3) := dk_167 255 237 (dk_at dksX10_isUnder_0 21 rfl rfl)
theorem dX10_isUnder_24 : decode cX10_isUnder 24 = .ok (.iload_n 3, 1) := dk_29 (dk_at dksX10_isUnder_1 0 rfl rfl)
theorem dX10_isUnder_25 : decode cX10_isUnder 25 = .ok (.iload_n 2, 1) := dk_28 (dk_at dksX10_isUnder_1 1 rfl rfl)
theorem dX10_isUnder_26 : decode cX10_isUnder 26 = .ok (.if_icmp .ne 7, 3) := dk_160 0 7 (dk_at dksX10_isUnder_1 2 rfl rfl)
theorem dX10_isUnder_29 : decode cX10_isUnder 29 = .ok (.iconst 1, 1) := dk_4 (dk_at dksX10_isUnder_1 5 rfl rfl)
theorem dX10_isUnder_30 : decode cX10_isUnder 30 = .ok (.goto 4, 3) := dk_167 0 4 (dk_at dksX10_isUnder_1 6 rfl rfl)
theorem dX10_isUnder_33 : decode cX10_isUnder 33 = .ok (.iconst 0, 1) := dk_3 (dk_at dksX10_isUnder_1 9 rfl rfl)
theorem dX10_isUnder_34 : decode cX10_isUnder 34 = .ok (.ireturn, 1) := dk_172 (dk_at dksX10_isUnder_1 10 rfl rfl)
abbrev cX10_wakes : ByteArray := prog_18_method_76_code
def yX10_wakes : MethodName := ⟨RX10, "wakes", "(II)V"⟩
def dkwX10_wakes_2 : List UInt8 := [132, 3, 1, 167, 255, 208, 177]
abbrev dktX10_wakes_2 : List UInt8 := dkwX10_wakes_2 ++ []
def dkwX10_wakes_1 : List UInt8 := [182, 1, 94, 27, 160, 0, 20, 42, 29, 5, 182, 1, 94, 28, 163, 0, 10, 42, 180, 0, 123, 29, 4, 84]
abbrev dktX10_wakes_1 : List UInt8 := dkwX10_wakes_1 ++ dktX10_wakes_2
def dkwX10_wakes_0 : List UInt8 := [3, 62, 29, 42, 182, 1, 171, 162, 0, 46, 42, 29, 3, 182, 1, 94, 8, 160, 0, 30, 42, 29, 4]
abbrev dktX10_wakes_0 : List UInt8 := dkwX10_wakes_0 ++ dktX10_wakes_1
theorem dksX10_wakes_0 : cX10_wakes.data.toList.drop 0 = dktX10_wakes_0 := by decide +kernel
theorem dksX10_wakes_1 : cX10_wakes.data.toList.drop 23 = dktX10_wakes_1 := dk_seg dksX10_wakes_0 23 rfl rfl
theorem dksX10_wakes_2 : cX10_wakes.data.toList.drop 47 = dktX10_wakes_2 := dk_seg dksX10_wakes_1 24 rfl rfl
theorem dX10_wakes_0 : decode cX10_wakes 0 = .ok (.iconst 0, 1) := dk_3 (dk_at dksX10_wakes_0 0 rfl rfl)
theorem dX10_wakes_1 : decode cX10_wakes 1 = .ok (.istore_n 3, 1) := dk_62 (dk_at dksX10_wakes_0 1 rfl rfl)
theorem dX10_wakes_2 : decode cX10_wakes 2 = .ok (.iload_n 3, 1) := dk_29 (dk_at dksX10_wakes_0 2 rfl rfl)
theorem dX10_wakes_3 : decode cX10_wakes 3 = .ok (.aload_n 0, 1) := dk_42 (dk_at dksX10_wakes_0 3 rfl rfl)
theorem dX10_wakes_4 : decode cX10_wakes 4 = .ok (.invokevirtual 427, 3) := dk_182 1 171 (dk_at dksX10_wakes_0 4 rfl rfl)
theorem dX10_wakes_7 : decode cX10_wakes 7 = .ok (.if_icmp .ge 46, 3) := dk_162 0 46 (dk_at dksX10_wakes_0 7 rfl rfl)
theorem dX10_wakes_10 : decode cX10_wakes 10 = .ok (.aload_n 0, 1) := dk_42 (dk_at dksX10_wakes_0 10 rfl rfl)
theorem dX10_wakes_11 : decode cX10_wakes 11 = .ok (.iload_n 3, 1) := dk_29 (dk_at dksX10_wakes_0 11 rfl rfl)
theorem dX10_wakes_12 : decode cX10_wakes 12 = .ok (.iconst 0, 1) := dk_3 (dk_at dksX10_wakes_0 12 rfl rfl)
theorem dX10_wakes_13 : decode cX10_wakes 13 = .ok (.invokevirtual 350, 3) := dk_182 1 94 (dk_at dksX10_wakes_0 13 rfl rfl)
theorem dX10_wakes_16 : decode cX10_wakes 16 = .ok (.iconst 5, 1) := dk_8 (dk_at dksX10_wakes_0 16 rfl rfl)
theorem dX10_wakes_17 : decode cX10_wakes 17 = .ok (.if_icmp .ne 30, 3) := dk_160 0 30 (dk_at dksX10_wakes_0 17 rfl rfl)
theorem dX10_wakes_20 : decode cX10_wakes 20 = .ok (.aload_n 0, 1) := dk_42 (dk_at dksX10_wakes_0 20 rfl rfl)
theorem dX10_wakes_21 : decode cX10_wakes 21 = .ok (.iload_n 3, 1) := dk_29 (dk_at dksX10_wakes_0 21 rfl rfl)
theorem dX10_wakes_22 : decode cX10_wakes 22 = .ok (.iconst 1, 1) := dk_4 (dk_at dksX10_wakes_0 22 rfl rfl)
theorem dX10_wakes_23 : decode cX10_wakes 23 = .ok (.invokevirtual 350, 3) := dk_182 1 94 (dk_at dksX10_wakes_1 0 rfl rfl)
theorem dX10_wakes_26 : decode cX10_wakes 26 = .ok (.iload_n 1, 1) := dk_27 (dk_at dksX10_wakes_1 3 rfl rfl)
theorem dX10_wakes_27 : decode cX10_wakes 27 = .ok (.if_icmp .ne 20, 3) := dk_160 0 20 (dk_at dksX10_wakes_1 4 rfl rfl)
theorem dX10_wakes_30 : decode cX10_wakes 30 = .ok (.aload_n 0, 1) := dk_42 (dk_at dksX10_wakes_1 7 rfl rfl)
theorem dX10_wakes_31 : decode cX10_wakes 31 = .ok (.iload_n 3, 1) := dk_29 (dk_at dksX10_wakes_1 8 rfl rfl)
theorem dX10_wakes_32 : decode cX10_wakes 32 = .ok (.iconst 2, 1) := dk_5 (dk_at dksX10_wakes_1 9 rfl rfl)
theorem dX10_wakes_33 : decode cX10_wakes 33 = .ok (.invokevirtual 350, 3) := dk_182 1 94 (dk_at dksX10_wakes_1 10 rfl rfl)
theorem dX10_wakes_36 : decode cX10_wakes 36 = .ok (.iload_n 2, 1) := dk_28 (dk_at dksX10_wakes_1 13 rfl rfl)
theorem dX10_wakes_37 : decode cX10_wakes 37 = .ok (.if_icmp .gt 10, 3) := dk_163 0 10 (dk_at dksX10_wakes_1 14 rfl rfl)
theorem dX10_wakes_40 : decode cX10_wakes 40 = .ok (.aload_n 0, 1) := dk_42 (dk_at dksX10_wakes_1 17 rfl rfl)
theorem dX10_wakes_41 : decode cX10_wakes 41 = .ok (.getfield 123, 3) := dk_180 0 123 (dk_at dksX10_wakes_1 18 rfl rfl)
theorem dX10_wakes_44 : decode cX10_wakes 44 = .ok (.iload_n 3, 1) := dk_29 (dk_at dksX10_wakes_1 21 rfl rfl)
theorem dX10_wakes_45 : decode cX10_wakes 45 = .ok (.iconst 1, 1) := dk_4 (dk_at dksX10_wakes_1 22 rfl rfl)
theorem dX10_wakes_46 : decode cX10_wakes 46 = .ok (.bastore, 1) := dk_84 (dk_at dksX10_wakes_1 23 rfl rfl)
theorem dX10_wakes_47 : decode cX10_wakes 47 = .ok (.iinc 3 1, 3) := dk_132 3 1 (dk_at dksX10_wakes_2 0 rfl rfl)
theorem dX10_wakes_50 : decode cX10_wakes 50 = .ok (.goto (-48), 3) := dk_167 255 208 (dk_at dksX10_wakes_2 3 rfl rfl)
theorem dX10_wakes_53 : decode cX10_wakes 53 = .ok (.return_, 1) := dk_177 (dk_at dksX10_wakes_2 6 rfl rfl)
abbrev cX10_closeOf : ByteArray := prog_18_method_69_code
def yX10_closeOf : MethodName := ⟨RX10, "closeOf", "(I)I"⟩
def dkwX10_closeOf_0 : List UInt8 := [27, 42, 180, 0, 58, 160, 0, 10, 42, 180, 1, 156, 167, 0, 9, 42, 27, 6, 182, 0, 156, 172]
abbrev dktX10_closeOf_0 : List UInt8 := dkwX10_closeOf_0 ++ []
theorem dksX10_closeOf_0 : cX10_closeOf.data.toList.drop 0 = dktX10_closeOf_0 := by decide +kernel
theorem dX10_closeOf_0 : decode cX10_closeOf 0 = .ok (.iload_n 1, 1) := dk_27 (dk_at dksX10_closeOf_0 0 rfl rfl)
theorem dX10_closeOf_1 : decode cX10_closeOf 1 = .ok (.aload_n 0, 1) := dk_42 (dk_at dksX10_closeOf_0 1 rfl rfl)
theorem dX10_closeOf_2 : decode cX10_closeOf 2 = .ok (.getfield 58, 3) := dk_180 0 58 (dk_at dksX10_closeOf_0 2 rfl rfl)
theorem dX10_closeOf_5 : decode cX10_closeOf 5 = .ok (.if_icmp .ne 10, 3) := dk_160 0 10 (dk_at dksX10_closeOf_0 5 rfl rfl)
theorem dX10_closeOf_8 : decode cX10_closeOf 8 = .ok (.aload_n 0, 1) := dk_42 (dk_at dksX10_closeOf_0 8 rfl rfl)
theorem dX10_closeOf_9 : decode cX10_closeOf 9 = .ok (.getfield 412, 3) := dk_180 1 156 (dk_at dksX10_closeOf_0 9 rfl rfl)
theorem dX10_closeOf_12 : decode cX10_closeOf 12 = .ok (.goto 9, 3) := dk_167 0 9 (dk_at dksX10_closeOf_0 12 rfl rfl)
theorem dX10_closeOf_15 : decode cX10_closeOf 15 = .ok (.aload_n 0, 1) := dk_42 (dk_at dksX10_closeOf_0 15 rfl rfl)
theorem dX10_closeOf_16 : decode cX10_closeOf 16 = .ok (.iload_n 1, 1) := dk_27 (dk_at dksX10_closeOf_0 16 rfl rfl)
theorem dX10_closeOf_17 : decode cX10_closeOf 17 = .ok (.iconst 3, 1) := dk_6 (dk_at dksX10_closeOf_0 17 rfl rfl)
theorem dX10_closeOf_18 : decode cX10_closeOf 18 = .ok (.invokevirtual 156, 3) := dk_182 0 156 (dk_at dksX10_closeOf_0 18 rfl rfl)
theorem dX10_closeOf_21 : decode cX10_closeOf 21 = .ok (.ireturn, 1) := dk_172 (dk_at dksX10_closeOf_0 21 rfl rfl)
abbrev cX10_asksLate : ByteArray := prog_18_method_87_code
def yX10_asksLate : MethodName := ⟨RX10, "asksLate", "(I)V"⟩
def dkwX10_asksLate_2 : List UInt8 := [27, 182, 1, 206, 132, 2, 1, 167, 255, 203, 177]
abbrev dktX10_asksLate_2 : List UInt8 := dkwX10_asksLate_2 ++ []
def dkwX10_asksLate_1 : List UInt8 := [28, 46, 161, 0, 26, 27, 42, 180, 0, 79, 28, 46, 100, 42, 28, 182, 1, 209, 161, 0, 10, 42, 28, 5]
abbrev dktX10_asksLate_1 : List UInt8 := dkwX10_asksLate_1 ++ dktX10_asksLate_2
def dkwX10_asksLate_0 : List UInt8 := [3, 61, 28, 42, 180, 0, 9, 7, 46, 162, 0, 49, 42, 180, 1, 186, 154, 0, 42, 27, 42, 180, 0, 61]
abbrev dktX10_asksLate_0 : List UInt8 := dkwX10_asksLate_0 ++ dktX10_asksLate_1
theorem dksX10_asksLate_0 : cX10_asksLate.data.toList.drop 0 = dktX10_asksLate_0 := by decide +kernel
theorem dksX10_asksLate_1 : cX10_asksLate.data.toList.drop 24 = dktX10_asksLate_1 := dk_seg dksX10_asksLate_0 24 rfl rfl
theorem dksX10_asksLate_2 : cX10_asksLate.data.toList.drop 48 = dktX10_asksLate_2 := dk_seg dksX10_asksLate_1 24 rfl rfl
theorem dX10_asksLate_0 : decode cX10_asksLate 0 = .ok (.iconst 0, 1) := dk_3 (dk_at dksX10_asksLate_0 0 rfl rfl)
theorem dX10_asksLate_1 : decode cX10_asksLate 1 = .ok (.istore_n 2, 1) := dk_61 (dk_at dksX10_asksLate_0 1 rfl rfl)
theorem dX10_asksLate_2 : decode cX10_asksLate 2 = .ok (.iload_n 2, 1) := dk_28 (dk_at dksX10_asksLate_0 2 rfl rfl)
theorem dX10_asksLate_3 : decode cX10_asksLate 3 = .ok (.aload_n 0, 1) := dk_42 (dk_at dksX10_asksLate_0 3 rfl rfl)
theorem dX10_asksLate_4 : decode cX10_asksLate 4 = .ok (.getfield 9, 3) := dk_180 0 9 (dk_at dksX10_asksLate_0 4 rfl rfl)
theorem dX10_asksLate_7 : decode cX10_asksLate 7 = .ok (.iconst 4, 1) := dk_7 (dk_at dksX10_asksLate_0 7 rfl rfl)
theorem dX10_asksLate_8 : decode cX10_asksLate 8 = .ok (.iaload, 1) := dk_46 (dk_at dksX10_asksLate_0 8 rfl rfl)
theorem dX10_asksLate_9 : decode cX10_asksLate 9 = .ok (.if_icmp .ge 49, 3) := dk_162 0 49 (dk_at dksX10_asksLate_0 9 rfl rfl)
theorem dX10_asksLate_12 : decode cX10_asksLate 12 = .ok (.aload_n 0, 1) := dk_42 (dk_at dksX10_asksLate_0 12 rfl rfl)
theorem dX10_asksLate_13 : decode cX10_asksLate 13 = .ok (.getfield 442, 3) := dk_180 1 186 (dk_at dksX10_asksLate_0 13 rfl rfl)
theorem dX10_asksLate_16 : decode cX10_asksLate 16 = .ok (.ifCond .ne 42, 3) := dk_154 0 42 (dk_at dksX10_asksLate_0 16 rfl rfl)
theorem dX10_asksLate_19 : decode cX10_asksLate 19 = .ok (.iload_n 1, 1) := dk_27 (dk_at dksX10_asksLate_0 19 rfl rfl)
theorem dX10_asksLate_20 : decode cX10_asksLate 20 = .ok (.aload_n 0, 1) := dk_42 (dk_at dksX10_asksLate_0 20 rfl rfl)
theorem dX10_asksLate_21 : decode cX10_asksLate 21 = .ok (.getfield 61, 3) := dk_180 0 61 (dk_at dksX10_asksLate_0 21 rfl rfl)
theorem dX10_asksLate_24 : decode cX10_asksLate 24 = .ok (.iload_n 2, 1) := dk_28 (dk_at dksX10_asksLate_1 0 rfl rfl)
theorem dX10_asksLate_25 : decode cX10_asksLate 25 = .ok (.iaload, 1) := dk_46 (dk_at dksX10_asksLate_1 1 rfl rfl)
theorem dX10_asksLate_26 : decode cX10_asksLate 26 = .ok (.if_icmp .lt 26, 3) := dk_161 0 26 (dk_at dksX10_asksLate_1 2 rfl rfl)
theorem dX10_asksLate_29 : decode cX10_asksLate 29 = .ok (.iload_n 1, 1) := dk_27 (dk_at dksX10_asksLate_1 5 rfl rfl)
theorem dX10_asksLate_30 : decode cX10_asksLate 30 = .ok (.aload_n 0, 1) := dk_42 (dk_at dksX10_asksLate_1 6 rfl rfl)
theorem dX10_asksLate_31 : decode cX10_asksLate 31 = .ok (.getfield 79, 3) := dk_180 0 79 (dk_at dksX10_asksLate_1 7 rfl rfl)
theorem dX10_asksLate_34 : decode cX10_asksLate 34 = .ok (.iload_n 2, 1) := dk_28 (dk_at dksX10_asksLate_1 10 rfl rfl)
theorem dX10_asksLate_35 : decode cX10_asksLate 35 = .ok (.iaload, 1) := dk_46 (dk_at dksX10_asksLate_1 11 rfl rfl)
theorem dX10_asksLate_36 : decode cX10_asksLate 36 = .ok (.isub, 1) := dk_100 (dk_at dksX10_asksLate_1 12 rfl rfl)
theorem dX10_asksLate_37 : decode cX10_asksLate 37 = .ok (.aload_n 0, 1) := dk_42 (dk_at dksX10_asksLate_1 13 rfl rfl)
theorem dX10_asksLate_38 : decode cX10_asksLate 38 = .ok (.iload_n 2, 1) := dk_28 (dk_at dksX10_asksLate_1 14 rfl rfl)
theorem dX10_asksLate_39 : decode cX10_asksLate 39 = .ok (.invokevirtual 465, 3) := dk_182 1 209 (dk_at dksX10_asksLate_1 15 rfl rfl)
theorem dX10_asksLate_42 : decode cX10_asksLate 42 = .ok (.if_icmp .lt 10, 3) := dk_161 0 10 (dk_at dksX10_asksLate_1 18 rfl rfl)
theorem dX10_asksLate_45 : decode cX10_asksLate 45 = .ok (.aload_n 0, 1) := dk_42 (dk_at dksX10_asksLate_1 21 rfl rfl)
theorem dX10_asksLate_46 : decode cX10_asksLate 46 = .ok (.iload_n 2, 1) := dk_28 (dk_at dksX10_asksLate_1 22 rfl rfl)
theorem dX10_asksLate_47 : decode cX10_asksLate 47 = .ok (.iconst 2, 1) := dk_5 (dk_at dksX10_asksLate_1 23 rfl rfl)
theorem dX10_asksLate_48 : decode cX10_asksLate 48 = .ok (.iload_n 1, 1) := dk_27 (dk_at dksX10_asksLate_2 0 rfl rfl)
theorem dX10_asksLate_49 : decode cX10_asksLate 49 = .ok (.invokevirtual 462, 3) := dk_182 1 206 (dk_at dksX10_asksLate_2 1 rfl rfl)
theorem dX10_asksLate_52 : decode cX10_asksLate 52 = .ok (.iinc 2 1, 3) := dk_132 2 1 (dk_at dksX10_asksLate_2 4 rfl rfl)
theorem dX10_asksLate_55 : decode cX10_asksLate 55 = .ok (.goto (-53), 3) := dk_167 255 203 (dk_at dksX10_asksLate_2 7 rfl rfl)
theorem dX10_asksLate_58 : decode cX10_asksLate 58 = .ok (.return_, 1) := dk_177 (dk_at dksX10_asksLate_2 10 rfl rfl)
abbrev cX10_endsCycle : ByteArray := prog_18_method_89_code
def yX10_endsCycle : MethodName := ⟨RX10, "endsCycle", "(I)V"⟩
def dkwX10_endsCycle_7 : List UInt8 := [132, 2, 1, 167, 255, 175, 177]
abbrev dktX10_endsCycle_7 : List UInt8 := dkwX10_endsCycle_7 ++ []
def dkwX10_endsCycle_6 : List UInt8 := [162, 0, 6, 167, 0, 20, 42, 180, 0, 95, 28, 3, 79, 42, 180, 0, 88, 28, 92, 46, 4, 100, 79]
abbrev dktX10_endsCycle_6 : List UInt8 := dkwX10_endsCycle_6 ++ dktX10_endsCycle_7
def dkwX10_endsCycle_5 : List UInt8 := [46, 154, 0, 6, 167, 0, 43, 42, 180, 0, 95, 28, 92, 46, 4, 96, 79, 42, 180, 0, 95, 28, 46, 6]
abbrev dktX10_endsCycle_5 : List UInt8 := dkwX10_endsCycle_5 ++ dktX10_endsCycle_6
def dkwX10_endsCycle_4 : List UInt8 := [162, 0, 77, 42, 180, 1, 186, 154, 0, 70, 42, 180, 0, 98, 28, 51, 154, 0, 55, 42, 180, 0, 88, 28]
abbrev dktX10_endsCycle_4 : List UInt8 := dkwX10_endsCycle_4 ++ dktX10_endsCycle_5
def dkwX10_endsCycle_3 : List UInt8 := [16, 7, 3, 6, 182, 1, 191, 42, 6, 2, 2, 27, 182, 1, 194, 3, 61, 28, 42, 180, 0, 9, 7, 46]
abbrev dktX10_endsCycle_3 : List UInt8 := dkwX10_endsCycle_3 ++ dktX10_endsCycle_4
def dkwX10_endsCycle_2 : List UInt8 := [154, 0, 38, 42, 180, 0, 9, 6, 46, 158, 0, 29, 42, 180, 0, 129, 3, 51, 154, 0, 20, 42, 27]
abbrev dktX10_endsCycle_2 : List UInt8 := dkwX10_endsCycle_2 ++ dktX10_endsCycle_3
def dkwX10_endsCycle_1 : List UInt8 := [182, 1, 216, 154, 0, 9, 42, 28, 27, 182, 1, 219, 132, 2, 255, 167, 255, 227, 42, 180, 1, 186]
abbrev dktX10_endsCycle_1 : List UInt8 := dkwX10_endsCycle_1 ++ dktX10_endsCycle_2
def dkwX10_endsCycle_0 : List UInt8 := [42, 180, 0, 9, 6, 46, 4, 100, 61, 28, 155, 0, 31, 42, 180, 1, 186, 154, 0, 24, 42, 28, 27]
abbrev dktX10_endsCycle_0 : List UInt8 := dkwX10_endsCycle_0 ++ dktX10_endsCycle_1
theorem dksX10_endsCycle_0 : cX10_endsCycle.data.toList.drop 0 = dktX10_endsCycle_0 := by decide +kernel
theorem dksX10_endsCycle_1 : cX10_endsCycle.data.toList.drop 23 = dktX10_endsCycle_1 := dk_seg dksX10_endsCycle_0 23 rfl rfl
theorem dksX10_endsCycle_2 : cX10_endsCycle.data.toList.drop 45 = dktX10_endsCycle_2 := dk_seg dksX10_endsCycle_1 22 rfl rfl
theorem dksX10_endsCycle_3 : cX10_endsCycle.data.toList.drop 68 = dktX10_endsCycle_3 := dk_seg dksX10_endsCycle_2 23 rfl rfl
theorem dksX10_endsCycle_4 : cX10_endsCycle.data.toList.drop 92 = dktX10_endsCycle_4 := dk_seg dksX10_endsCycle_3 24 rfl rfl
theorem dksX10_endsCycle_5 : cX10_endsCycle.data.toList.drop 116 = dktX10_endsCycle_5 := dk_seg dksX10_endsCycle_4 24 rfl rfl
theorem dksX10_endsCycle_6 : cX10_endsCycle.data.toList.drop 140 = dktX10_endsCycle_6 := dk_seg dksX10_endsCycle_5 24 rfl rfl
theorem dksX10_endsCycle_7 : cX10_endsCycle.data.toList.drop 163 = dktX10_endsCycle_7 := dk_seg dksX10_endsCycle_6 23 rfl rfl
theorem dX10_endsCycle_0 : decode cX10_endsCycle 0 = .ok (.aload_n 0, 1) := dk_42 (dk_at dksX10_endsCycle_0 0 rfl rfl)
theorem dX10_endsCycle_1 : decode cX10_endsCycle 1 = .ok (.getfield 9, 3) := dk_180 0 9 (dk_at dksX10_endsCycle_0 1 rfl rfl)
theorem dX10_endsCycle_4 : decode cX10_endsCycle 4 = .ok (.iconst 3, 1) := dk_6 (dk_at dksX10_endsCycle_0 4 rfl rfl)
theorem dX10_endsCycle_5 : decode cX10_endsCycle 5 = .ok (.iaload, 1) := dk_46 (dk_at dksX10_endsCycle_0 5 rfl rfl)
theorem dX10_endsCycle_6 : decode cX10_endsCycle 6 = .ok (.iconst 1, 1) := dk_4 (dk_at dksX10_endsCycle_0 6 rfl rfl)
theorem dX10_endsCycle_7 : decode cX10_endsCycle 7 = .ok (.isub, 1) := dk_100 (dk_at dksX10_endsCycle_0 7 rfl rfl)
theorem dX10_endsCycle_8 : decode cX10_endsCycle 8 = .ok (.istore_n 2, 1) := dk_61 (dk_at dksX10_endsCycle_0 8 rfl rfl)
theorem dX10_endsCycle_9 : decode cX10_endsCycle 9 = .ok (.iload_n 2, 1) := dk_28 (dk_at dksX10_endsCycle_0 9 rfl rfl)
theorem dX10_endsCycle_10 : decode cX10_endsCycle 10 = .ok (.ifCond .lt 31, 3) := dk_155 0 31 (dk_at dksX10_endsCycle_0 10 rfl rfl)
theorem dX10_endsCycle_13 : decode cX10_endsCycle 13 = .ok (.aload_n 0, 1) := dk_42 (dk_at dksX10_endsCycle_0 13 rfl rfl)
theorem dX10_endsCycle_14 : decode cX10_endsCycle 14 = .ok (.getfield 442, 3) := dk_180 1 186 (dk_at dksX10_endsCycle_0 14 rfl rfl)
theorem dX10_endsCycle_17 : decode cX10_endsCycle 17 = .ok (.ifCond .ne 24, 3) := dk_154 0 24 (dk_at dksX10_endsCycle_0 17 rfl rfl)
theorem dX10_endsCycle_20 : decode cX10_endsCycle 20 = .ok (.aload_n 0, 1) := dk_42 (dk_at dksX10_endsCycle_0 20 rfl rfl)
theorem dX10_endsCycle_21 : decode cX10_endsCycle 21 = .ok (.iload_n 2, 1) := dk_28 (dk_at dksX10_endsCycle_0 21 rfl rfl)
theorem dX10_endsCycle_22 : decode cX10_endsCycle 22 = .ok (.iload_n 1, 1) := dk_27 (dk_at dksX10_endsCycle_0 22 rfl rfl)
theorem dX10_endsCycle_23 : decode cX10_endsCycle 23 = .ok (.invokevirtual 472, 3) := dk_182 1 216 (dk_at dksX10_endsCycle_1 0 rfl rfl)
theorem dX10_endsCycle_26 : decode cX10_endsCycle 26 = .ok (.ifCond .ne 9, 3) := dk_154 0 9 (dk_at dksX10_endsCycle_1 3 rfl rfl)
theorem dX10_endsCycle_29 : decode cX10_endsCycle 29 = .ok (.aload_n 0, 1) := dk_42 (dk_at dksX10_endsCycle_1 6 rfl rfl)
theorem dX10_endsCycle_30 : decode cX10_endsCycle 30 = .ok (.iload_n 2, 1) := dk_28 (dk_at dksX10_endsCycle_1 7 rfl rfl)
theorem dX10_endsCycle_31 : decode cX10_endsCycle 31 = .ok (.iload_n 1, 1) := dk_27 (dk_at dksX10_endsCycle_1 8 rfl rfl)
theorem dX10_endsCycle_32 : decode cX10_endsCycle 32 = .ok (.invokevirtual 475, 3) := dk_182 1 219 (dk_at dksX10_endsCycle_1 9 rfl rfl)
theorem dX10_endsCycle_35 : decode cX10_endsCycle 35 = .ok (.iinc 2 (-1), 3) := dk_132 2 255 (dk_at dksX10_endsCycle_1 12 rfl rfl)
theorem dX10_endsCycle_38 : decode cX10_endsCycle 38 = .ok (.goto (-29), 3) := dk_167 255 227 (dk_at dksX10_endsCycle_1 15 rfl rfl)
theorem dX10_endsCycle_41 : decode cX10_endsCycle 41 = .ok (.aload_n 0, 1) := dk_42 (dk_at dksX10_endsCycle_1 18 rfl rfl)
theorem dX10_endsCycle_42 : decode cX10_endsCycle 42 = .ok (.getfield 442, 3) := dk_180 1 186 (dk_at dksX10_endsCycle_1 19 rfl rfl)
theorem dX10_endsCycle_45 : decode cX10_endsCycle 45 = .ok (.ifCond .ne 38, 3) := dk_154 0 38 (dk_at dksX10_endsCycle_2 0 rfl rfl)
theorem dX10_endsCycle_48 : decode cX10_endsCycle 48 = .ok (.aload_n 0, 1) := dk_42 (dk_at dksX10_endsCycle_2 3 rfl rfl)
theorem dX10_endsCycle_49 : decode cX10_endsCycle 49 = .ok (.getfield 9, 3) := dk_180 0 9 (dk_at dksX10_endsCycle_2 4 rfl rfl)
theorem dX10_endsCycle_52 : decode cX10_endsCycle 52 = .ok (.iconst 3, 1) := dk_6 (dk_at dksX10_endsCycle_2 7 rfl rfl)
theorem dX10_endsCycle_53 : decode cX10_endsCycle 53 = .ok (.iaload, 1) := dk_46 (dk_at dksX10_endsCycle_2 8 rfl rfl)
theorem dX10_endsCycle_54 : decode cX10_endsCycle 54 = .ok (.ifCond .le 29, 3) := dk_158 0 29 (dk_at dksX10_endsCycle_2 9 rfl rfl)
theorem dX10_endsCycle_57 : decode cX10_endsCycle 57 = .ok (.aload_n 0, 1) := dk_42 (dk_at dksX10_endsCycle_2 12 rfl rfl)
theorem dX10_endsCycle_58 : decode cX10_endsCycle 58 = .ok (.getfield 129, 3) := dk_180 0 129 (dk_at dksX10_endsCycle_2 13 rfl rfl)
theorem dX10_endsCycle_61 : decode cX10_endsCycle 61 = .ok (.iconst 0, 1) := dk_3 (dk_at dksX10_endsCycle_2 16 rfl rfl)
theorem dX10_endsCycle_62 : decode cX10_endsCycle 62 = .ok (.baload, 1) := dk_51 (dk_at dksX10_endsCycle_2 17 rfl rfl)
theorem dX10_endsCycle_63 : decode cX10_endsCycle 63 = .ok (.ifCond .ne 20, 3) := dk_154 0 20 (dk_at dksX10_endsCycle_2 18 rfl rfl)
theorem dX10_endsCycle_66 : decode cX10_endsCycle 66 = .ok (.aload_n 0, 1) := dk_42 (dk_at dksX10_endsCycle_2 21 rfl rfl)
theorem dX10_endsCycle_67 : decode cX10_endsCycle 67 = .ok (.iload_n 1, 1) := dk_27 (dk_at dksX10_endsCycle_2 22 rfl rfl)
theorem dX10_endsCycle_68 : decode cX10_endsCycle 68 = .ok (.bipush 7, 2) := dk_16 7 (dk_at dksX10_endsCycle_3 0 rfl rfl)
theorem dX10_endsCycle_70 : decode cX10_endsCycle 70 = .ok (.iconst 0, 1) := dk_3 (dk_at dksX10_endsCycle_3 2 rfl rfl)
theorem dX10_endsCycle_71 : decode cX10_endsCycle 71 = .ok (.iconst 3, 1) := dk_6 (dk_at dksX10_endsCycle_3 3 rfl rfl)
theorem dX10_endsCycle_72 : decode cX10_endsCycle 72 = .ok (.invokevirtual 447, 3) := dk_182 1 191 (dk_at dksX10_endsCycle_3 4 rfl rfl)
theorem dX10_endsCycle_75 : decode cX10_endsCycle 75 = .ok (.aload_n 0, 1) := dk_42 (dk_at dksX10_endsCycle_3 7 rfl rfl)
theorem dX10_endsCycle_76 : decode cX10_endsCycle 76 = .ok (.iconst 3, 1) := dk_6 (dk_at dksX10_endsCycle_3 8 rfl rfl)
theorem dX10_endsCycle_77 : decode cX10_endsCycle 77 = .ok (.iconst (-1), 1) := dk_2 (dk_at dksX10_endsCycle_3 9 rfl rfl)
theorem dX10_endsCycle_78 : decode cX10_endsCycle 78 = .ok (.iconst (-1), 1) := dk_2 (dk_at dksX10_endsCycle_3 10 rfl rfl)
theorem dX10_endsCycle_79 : decode cX10_endsCycle 79 = .ok (.iload_n 1, 1) := dk_27 (dk_at dksX10_endsCycle_3 11 rfl rfl)
theorem dX10_endsCycle_80 : decode cX10_endsCycle 80 = .ok (.invokevirtual 450, 3) := dk_182 1 194 (dk_at dksX10_endsCycle_3 12 rfl rfl)
theorem dX10_endsCycle_83 : decode cX10_endsCycle 83 = .ok (.iconst 0, 1) := dk_3 (dk_at dksX10_endsCycle_3 15 rfl rfl)
theorem dX10_endsCycle_84 : decode cX10_endsCycle 84 = .ok (.istore_n 2, 1) := dk_61 (dk_at dksX10_endsCycle_3 16 rfl rfl)
theorem dX10_endsCycle_85 : decode cX10_endsCycle 85 = .ok (.iload_n 2, 1) := dk_28 (dk_at dksX10_endsCycle_3 17 rfl rfl)
theorem dX10_endsCycle_86 : decode cX10_endsCycle 86 = .ok (.aload_n 0, 1) := dk_42 (dk_at dksX10_endsCycle_3 18 rfl rfl)
theorem dX10_endsCycle_87 : decode cX10_endsCycle 87 = .ok (.getfield 9, 3) := dk_180 0 9 (dk_at dksX10_endsCycle_3 19 rfl rfl)
theorem dX10_endsCycle_90 : decode cX10_endsCycle 90 = .ok (.iconst 4, 1) := dk_7 (dk_at dksX10_endsCycle_3 22 rfl rfl)
theorem dX10_endsCycle_91 : decode cX10_endsCycle 91 = .ok (.iaload, 1) := dk_46 (dk_at dksX10_endsCycle_3 23 rfl rfl)
theorem dX10_endsCycle_92 : decode cX10_endsCycle 92 = .ok (.if_icmp .ge 77, 3) := dk_162 0 77 (dk_at dksX10_endsCycle_4 0 rfl rfl)
theorem dX10_endsCycle_95 : decode cX10_endsCycle 95 = .ok (.aload_n 0, 1) := dk_42 (dk_at dksX10_endsCycle_4 3 rfl rfl)
theorem dX10_endsCycle_96 : decode cX10_endsCycle 96 = .ok (.getfield 442, 3) := dk_180 1 186 (dk_at dksX10_endsCycle_4 4 rfl rfl)
theorem dX10_endsCycle_99 : decode cX10_endsCycle 99 = .ok (.ifCond .ne 70, 3) := dk_154 0 70 (dk_at dksX10_endsCycle_4 7 rfl rfl)
theorem dX10_endsCycle_102 : decode cX10_endsCycle 102 = .ok (.aload_n 0, 1) := dk_42 (dk_at dksX10_endsCycle_4 10 rfl rfl)
theorem dX10_endsCycle_103 : decode cX10_endsCycle 103 = .ok (.getfield 98, 3) := dk_180 0 98 (dk_at dksX10_endsCycle_4 11 rfl rfl)
theorem dX10_endsCycle_106 : decode cX10_endsCycle 106 = .ok (.iload_n 2, 1) := dk_28 (dk_at dksX10_endsCycle_4 14 rfl rfl)
theorem dX10_endsCycle_107 : decode cX10_endsCycle 107 = .ok (.baload, 1) := dk_51 (dk_at dksX10_endsCycle_4 15 rfl rfl)
theorem dX10_endsCycle_108 : decode cX10_endsCycle 108 = .ok (.ifCond .ne 55, 3) := dk_154 0 55 (dk_at dksX10_endsCycle_4 16 rfl rfl)
theorem dX10_endsCycle_111 : decode cX10_endsCycle 111 = .ok (.aload_n 0, 1) := dk_42 (dk_at dksX10_endsCycle_4 19 rfl rfl)
theorem dX10_endsCycle_112 : decode cX10_endsCycle 112 = .ok (.getfield 88, 3) := dk_180 0 88 (dk_at dksX10_endsCycle_4 20 rfl rfl)
theorem dX10_endsCycle_115 : decode cX10_endsCycle 115 = .ok (.iload_n 2, 1) := dk_28 (dk_at dksX10_endsCycle_4 23 rfl rfl)
theorem dX10_endsCycle_116 : decode cX10_endsCycle 116 = .ok (.iaload, 1) := dk_46 (dk_at dksX10_endsCycle_5 0 rfl rfl)
theorem dX10_endsCycle_117 : decode cX10_endsCycle 117 = .ok (.ifCond .ne 6, 3) := dk_154 0 6 (dk_at dksX10_endsCycle_5 1 rfl rfl)
theorem dX10_endsCycle_120 : decode cX10_endsCycle 120 = .ok (.goto 43, 3) := dk_167 0 43 (dk_at dksX10_endsCycle_5 4 rfl rfl)
theorem dX10_endsCycle_123 : decode cX10_endsCycle 123 = .ok (.aload_n 0, 1) := dk_42 (dk_at dksX10_endsCycle_5 7 rfl rfl)
theorem dX10_endsCycle_124 : decode cX10_endsCycle 124 = .ok (.getfield 95, 3) := dk_180 0 95 (dk_at dksX10_endsCycle_5 8 rfl rfl)
theorem dX10_endsCycle_127 : decode cX10_endsCycle 127 = .ok (.iload_n 2, 1) := dk_28 (dk_at dksX10_endsCycle_5 11 rfl rfl)
theorem dX10_endsCycle_128 : decode cX10_endsCycle 128 = .ok (.dup2, 1) := dk_92 (dk_at dksX10_endsCycle_5 12 rfl rfl)
theorem dX10_endsCycle_129 : decode cX10_endsCycle 129 = .ok (.iaload, 1) := dk_46 (dk_at dksX10_endsCycle_5 13 rfl rfl)
theorem dX10_endsCycle_130 : decode cX10_endsCycle 130 = .ok (.iconst 1, 1) := dk_4 (dk_at dksX10_endsCycle_5 14 rfl rfl)
theorem dX10_endsCycle_131 : decode cX10_endsCycle 131 = .ok (.iadd, 1) := dk_96 (dk_at dksX10_endsCycle_5 15 rfl rfl)
theorem dX10_endsCycle_132 : decode cX10_endsCycle 132 = .ok (.iastore, 1) := dk_79 (dk_at dksX10_endsCycle_5 16 rfl rfl)
theorem dX10_endsCycle_133 : decode cX10_endsCycle 133 = .ok (.aload_n 0, 1) := dk_42 (dk_at dksX10_endsCycle_5 17 rfl rfl)
theorem dX10_endsCycle_134 : decode cX10_endsCycle 134 = .ok (.getfield 95, 3) := dk_180 0 95 (dk_at dksX10_endsCycle_5 18 rfl rfl)
theorem dX10_endsCycle_137 : decode cX10_endsCycle 137 = .ok (.iload_n 2, 1) := dk_28 (dk_at dksX10_endsCycle_5 21 rfl rfl)
theorem dX10_endsCycle_138 : decode cX10_endsCycle 138 = .ok (.iaload, 1) := dk_46 (dk_at dksX10_endsCycle_5 22 rfl rfl)
theorem dX10_endsCycle_139 : decode cX10_endsCycle 139 = .ok (.iconst 3, 1) := dk_6 (dk_at dksX10_endsCycle_5 23 rfl rfl)
theorem dX10_endsCycle_140 : decode cX10_endsCycle 140 = .ok (.if_icmp .ge 6, 3) := dk_162 0 6 (dk_at dksX10_endsCycle_6 0 rfl rfl)
theorem dX10_endsCycle_143 : decode cX10_endsCycle 143 = .ok (.goto 20, 3) := dk_167 0 20 (dk_at dksX10_endsCycle_6 3 rfl rfl)
theorem dX10_endsCycle_146 : decode cX10_endsCycle 146 = .ok (.aload_n 0, 1) := dk_42 (dk_at dksX10_endsCycle_6 6 rfl rfl)
theorem dX10_endsCycle_147 : decode cX10_endsCycle 147 = .ok (.getfield 95, 3) := dk_180 0 95 (dk_at dksX10_endsCycle_6 7 rfl rfl)
theorem dX10_endsCycle_150 : decode cX10_endsCycle 150 = .ok (.iload_n 2, 1) := dk_28 (dk_at dksX10_endsCycle_6 10 rfl rfl)
theorem dX10_endsCycle_151 : decode cX10_endsCycle 151 = .ok (.iconst 0, 1) := dk_3 (dk_at dksX10_endsCycle_6 11 rfl rfl)
theorem dX10_endsCycle_152 : decode cX10_endsCycle 152 = .ok (.iastore, 1) := dk_79 (dk_at dksX10_endsCycle_6 12 rfl rfl)
theorem dX10_endsCycle_153 : decode cX10_endsCycle 153 = .ok (.aload_n 0, 1) := dk_42 (dk_at dksX10_endsCycle_6 13 rfl rfl)
theorem dX10_endsCycle_154 : decode cX10_endsCycle 154 = .ok (.getfield 88, 3) := dk_180 0 88 (dk_at dksX10_endsCycle_6 14 rfl rfl)
theorem dX10_endsCycle_157 : decode cX10_endsCycle 157 = .ok (.iload_n 2, 1) := dk_28 (dk_at dksX10_endsCycle_6 17 rfl rfl)
theorem dX10_endsCycle_158 : decode cX10_endsCycle 158 = .ok (.dup2, 1) := dk_92 (dk_at dksX10_endsCycle_6 18 rfl rfl)
theorem dX10_endsCycle_159 : decode cX10_endsCycle 159 = .ok (.iaload, 1) := dk_46 (dk_at dksX10_endsCycle_6 19 rfl rfl)
theorem dX10_endsCycle_160 : decode cX10_endsCycle 160 = .ok (.iconst 1, 1) := dk_4 (dk_at dksX10_endsCycle_6 20 rfl rfl)
theorem dX10_endsCycle_161 : decode cX10_endsCycle 161 = .ok (.isub, 1) := dk_100 (dk_at dksX10_endsCycle_6 21 rfl rfl)
theorem dX10_endsCycle_162 : decode cX10_endsCycle 162 = .ok (.iastore, 1) := dk_79 (dk_at dksX10_endsCycle_6 22 rfl rfl)
theorem dX10_endsCycle_163 : decode cX10_endsCycle 163 = .ok (.iinc 2 1, 3) := dk_132 2 1 (dk_at dksX10_endsCycle_7 0 rfl rfl)
theorem dX10_endsCycle_166 : decode cX10_endsCycle 166 = .ok (.goto (-81), 3) := dk_167 255 175 (dk_at dksX10_endsCycle_7 3 rfl rfl)
theorem dX10_endsCycle_169 : decode cX10_endsCycle 169 = .ok (.return_, 1) := dk_177 (dk_at dksX10_endsCycle_7 6 rfl rfl)
abbrev cX10_isAsleep : ByteArray := prog_18_method_75_code
def yX10_isAsleep : MethodName := ⟨RX10, "isAsleep", "(II)Z"⟩
def dkwX10_isAsleep_2 : List UInt8 := [42, 180, 0, 123, 29, 51, 154, 0, 5, 4, 172, 132, 3, 1, 167, 255, 196, 3, 172]
abbrev dktX10_isAsleep_2 : List UInt8 := dkwX10_isAsleep_2 ++ []
def dkwX10_isAsleep_1 : List UInt8 := [8, 160, 0, 34, 42, 29, 4, 182, 1, 94, 27, 160, 0, 24, 42, 29, 5, 182, 1, 94, 28, 163, 0, 14]
abbrev dktX10_isAsleep_1 : List UInt8 := dkwX10_isAsleep_1 ++ dktX10_isAsleep_2
def dkwX10_isAsleep_0 : List UInt8 := [3, 62, 29, 42, 182, 1, 171, 162, 0, 58, 29, 42, 180, 0, 55, 159, 0, 44, 42, 29, 3, 182, 1, 94]
abbrev dktX10_isAsleep_0 : List UInt8 := dkwX10_isAsleep_0 ++ dktX10_isAsleep_1
theorem dksX10_isAsleep_0 : cX10_isAsleep.data.toList.drop 0 = dktX10_isAsleep_0 := by decide +kernel
theorem dksX10_isAsleep_1 : cX10_isAsleep.data.toList.drop 24 = dktX10_isAsleep_1 := dk_seg dksX10_isAsleep_0 24 rfl rfl
theorem dksX10_isAsleep_2 : cX10_isAsleep.data.toList.drop 48 = dktX10_isAsleep_2 := dk_seg dksX10_isAsleep_1 24 rfl rfl
theorem dX10_isAsleep_0 : decode cX10_isAsleep 0 = .ok (.iconst 0, 1) := dk_3 (dk_at dksX10_isAsleep_0 0 rfl rfl)
theorem dX10_isAsleep_1 : decode cX10_isAsleep 1 = .ok (.istore_n 3, 1) := dk_62 (dk_at dksX10_isAsleep_0 1 rfl rfl)
theorem dX10_isAsleep_2 : decode cX10_isAsleep 2 = .ok (.iload_n 3, 1) := dk_29 (dk_at dksX10_isAsleep_0 2 rfl rfl)
theorem dX10_isAsleep_3 : decode cX10_isAsleep 3 = .ok (.aload_n 0, 1) := dk_42 (dk_at dksX10_isAsleep_0 3 rfl rfl)
theorem dX10_isAsleep_4 : decode cX10_isAsleep 4 = .ok (.invokevirtual 427, 3) := dk_182 1 171 (dk_at dksX10_isAsleep_0 4 rfl rfl)
theorem dX10_isAsleep_7 : decode cX10_isAsleep 7 = .ok (.if_icmp .ge 58, 3) := dk_162 0 58 (dk_at dksX10_isAsleep_0 7 rfl rfl)
theorem dX10_isAsleep_10 : decode cX10_isAsleep 10 = .ok (.iload_n 3, 1) := dk_29 (dk_at dksX10_isAsleep_0 10 rfl rfl)
theorem dX10_isAsleep_11 : decode cX10_isAsleep 11 = .ok (.aload_n 0, 1) := dk_42 (dk_at dksX10_isAsleep_0 11 rfl rfl)
theorem dX10_isAsleep_12 : decode cX10_isAsleep 12 = .ok (.getfield 55, 3) := dk_180 0 55 (dk_at dksX10_isAsleep_0 12 rfl rfl)
theorem dX10_isAsleep_15 : decode cX10_isAsleep 15 = .ok (.if_icmp .eq 44, 3) := dk_159 0 44 (dk_at dksX10_isAsleep_0 15 rfl rfl)
theorem dX10_isAsleep_18 : decode cX10_isAsleep 18 = .ok (.aload_n 0, 1) := dk_42 (dk_at dksX10_isAsleep_0 18 rfl rfl)
theorem dX10_isAsleep_19 : decode cX10_isAsleep 19 = .ok (.iload_n 3, 1) := dk_29 (dk_at dksX10_isAsleep_0 19 rfl rfl)
theorem dX10_isAsleep_20 : decode cX10_isAsleep 20 = .ok (.iconst 0, 1) := dk_3 (dk_at dksX10_isAsleep_0 20 rfl rfl)
theorem dX10_isAsleep_21 : decode cX10_isAsleep 21 = .ok (.invokevirtual 350, 3) := dk_182 1 94 (dk_at dksX10_isAsleep_0 21 rfl rfl)
theorem dX10_isAsleep_24 : decode cX10_isAsleep 24 = .ok (.iconst 5, 1) := dk_8 (dk_at dksX10_isAsleep_1 0 rfl rfl)
theorem dX10_isAsleep_25 : decode cX10_isAsleep 25 = .ok (.if_icmp .ne 34, 3) := dk_160 0 34 (dk_at dksX10_isAsleep_1 1 rfl rfl)
theorem dX10_isAsleep_28 : decode cX10_isAsleep 28 = .ok (.aload_n 0, 1) := dk_42 (dk_at dksX10_isAsleep_1 4 rfl rfl)
theorem dX10_isAsleep_29 : decode cX10_isAsleep 29 = .ok (.iload_n 3, 1) := dk_29 (dk_at dksX10_isAsleep_1 5 rfl rfl)
theorem dX10_isAsleep_30 : decode cX10_isAsleep 30 = .ok (.iconst 1, 1) := dk_4 (dk_at dksX10_isAsleep_1 6 rfl rfl)
theorem dX10_isAsleep_31 : decode cX10_isAsleep 31 = .ok (.invokevirtual 350, 3) := dk_182 1 94 (dk_at dksX10_isAsleep_1 7 rfl rfl)
theorem dX10_isAsleep_34 : decode cX10_isAsleep 34 = .ok (.iload_n 1, 1) := dk_27 (dk_at dksX10_isAsleep_1 10 rfl rfl)
theorem dX10_isAsleep_35 : decode cX10_isAsleep 35 = .ok (.if_icmp .ne 24, 3) := dk_160 0 24 (dk_at dksX10_isAsleep_1 11 rfl rfl)
theorem dX10_isAsleep_38 : decode cX10_isAsleep 38 = .ok (.aload_n 0, 1) := dk_42 (dk_at dksX10_isAsleep_1 14 rfl rfl)
theorem dX10_isAsleep_39 : decode cX10_isAsleep 39 = .ok (.iload_n 3, 1) := dk_29 (dk_at dksX10_isAsleep_1 15 rfl rfl)
theorem dX10_isAsleep_40 : decode cX10_isAsleep 40 = .ok (.iconst 2, 1) := dk_5 (dk_at dksX10_isAsleep_1 16 rfl rfl)
theorem dX10_isAsleep_41 : decode cX10_isAsleep 41 = .ok (.invokevirtual 350, 3) := dk_182 1 94 (dk_at dksX10_isAsleep_1 17 rfl rfl)
theorem dX10_isAsleep_44 : decode cX10_isAsleep 44 = .ok (.iload_n 2, 1) := dk_28 (dk_at dksX10_isAsleep_1 20 rfl rfl)
theorem dX10_isAsleep_45 : decode cX10_isAsleep 45 = .ok (.if_icmp .gt 14, 3) := dk_163 0 14 (dk_at dksX10_isAsleep_1 21 rfl rfl)
theorem dX10_isAsleep_48 : decode cX10_isAsleep 48 = .ok (.aload_n 0, 1) := dk_42 (dk_at dksX10_isAsleep_2 0 rfl rfl)
theorem dX10_isAsleep_49 : decode cX10_isAsleep 49 = .ok (.getfield 123, 3) := dk_180 0 123 (dk_at dksX10_isAsleep_2 1 rfl rfl)
theorem dX10_isAsleep_52 : decode cX10_isAsleep 52 = .ok (.iload_n 3, 1) := dk_29 (dk_at dksX10_isAsleep_2 4 rfl rfl)
theorem dX10_isAsleep_53 : decode cX10_isAsleep 53 = .ok (.baload, 1) := dk_51 (dk_at dksX10_isAsleep_2 5 rfl rfl)
theorem dX10_isAsleep_54 : decode cX10_isAsleep 54 = .ok (.ifCond .ne 5, 3) := dk_154 0 5 (dk_at dksX10_isAsleep_2 6 rfl rfl)
theorem dX10_isAsleep_57 : decode cX10_isAsleep 57 = .ok (.iconst 1, 1) := dk_4 (dk_at dksX10_isAsleep_2 9 rfl rfl)
theorem dX10_isAsleep_58 : decode cX10_isAsleep 58 = .ok (.ireturn, 1) := dk_172 (dk_at dksX10_isAsleep_2 10 rfl rfl)
theorem dX10_isAsleep_59 : decode cX10_isAsleep 59 = .ok (.iinc 3 1, 3) := dk_132 3 1 (dk_at dksX10_isAsleep_2 11 rfl rfl)
theorem dX10_isAsleep_62 : decode cX10_isAsleep 62 = .ok (.goto (-60), 3) := dk_167 255 196 (dk_at dksX10_isAsleep_2 14 rfl rfl)
theorem dX10_isAsleep_65 : decode cX10_isAsleep 65 = .ok (.iconst 0, 1) := dk_3 (dk_at dksX10_isAsleep_2 17 rfl rfl)
theorem dX10_isAsleep_66 : decode cX10_isAsleep 66 = .ok (.ireturn, 1) := dk_172 (dk_at dksX10_isAsleep_2 18 rfl rfl)
abbrev cX10_looks : ByteArray := prog_18_method_88_code
def yX10_looks : MethodName := ⟨RX10, "looks", "(II)V"⟩
def dkwX10_looks_8 : List UInt8 := [182, 1, 191, 42, 21, 5, 2, 21, 4, 28, 182, 1, 194, 132, 4, 1, 167, 255, 162, 177]
abbrev dktX10_looks_8 : List UInt8 := dkwX10_looks_8 ++ []
def dkwX10_looks_7 : List UInt8 := [167, 0, 4, 5, 54, 5, 42, 180, 0, 126, 21, 4, 4, 84, 42, 28, 16, 6, 21, 4, 21, 5]
abbrev dktX10_looks_7 : List UInt8 := dkwX10_looks_7 ++ dktX10_looks_8
def dkwX10_looks_6 : List UInt8 := [42, 180, 0, 129, 21, 4, 51, 153, 0, 6, 167, 0, 49, 42, 180, 0, 126, 21, 4, 51, 153, 0, 7, 6]
abbrev dktX10_looks_6 : List UInt8 := dkwX10_looks_6 ++ dktX10_looks_7
def dkwX10_looks_5 : List UInt8 := [162, 0, 89, 42, 180, 1, 186, 154, 0, 82, 42, 180, 0, 9, 16, 8, 21, 4, 96, 46, 27, 160, 0, 62]
abbrev dktX10_looks_5 : List UInt8 := dkwX10_looks_5 ++ dktX10_looks_6
def dkwX10_looks_4 : List UInt8 := [8, 28, 182, 1, 206, 132, 4, 1, 167, 255, 175, 3, 54, 4, 21, 4, 42, 180, 0, 9, 6, 46]
abbrev dktX10_looks_4 : List UInt8 := dkwX10_looks_4 ++ dktX10_looks_5
def dkwX10_looks_3 : List UInt8 := [21, 4, 7, 182, 0, 156, 133, 42, 21, 4, 8, 182, 0, 156, 133, 184, 0, 152, 154, 0, 11, 42, 21, 4]
abbrev dktX10_looks_3 : List UInt8 := dkwX10_looks_3 ++ dktX10_looks_4
def dkwX10_looks_2 : List UInt8 := [160, 0, 52, 42, 180, 0, 61, 21, 4, 46, 29, 163, 0, 41, 42, 180, 0, 85, 21, 4, 46, 133, 42]
abbrev dktX10_looks_2 : List UInt8 := dkwX10_looks_2 ++ dktX10_looks_3
def dkwX10_looks_1 : List UInt8 := [180, 0, 9, 7, 46, 162, 0, 76, 42, 180, 1, 186, 154, 0, 69, 42, 21, 4, 3, 182, 0, 156, 27]
abbrev dktX10_looks_1 : List UInt8 := dkwX10_looks_1 ++ dktX10_looks_2
def dkwX10_looks_0 : List UInt8 := [28, 4, 96, 42, 180, 0, 9, 4, 46, 100, 62, 42, 180, 0, 129, 27, 4, 84, 3, 54, 4, 21, 4, 42]
abbrev dktX10_looks_0 : List UInt8 := dkwX10_looks_0 ++ dktX10_looks_1
theorem dksX10_looks_0 : cX10_looks.data.toList.drop 0 = dktX10_looks_0 := by decide +kernel
theorem dksX10_looks_1 : cX10_looks.data.toList.drop 24 = dktX10_looks_1 := dk_seg dksX10_looks_0 24 rfl rfl
theorem dksX10_looks_2 : cX10_looks.data.toList.drop 47 = dktX10_looks_2 := dk_seg dksX10_looks_1 23 rfl rfl
theorem dksX10_looks_3 : cX10_looks.data.toList.drop 70 = dktX10_looks_3 := dk_seg dksX10_looks_2 23 rfl rfl
theorem dksX10_looks_4 : cX10_looks.data.toList.drop 94 = dktX10_looks_4 := dk_seg dksX10_looks_3 24 rfl rfl
theorem dksX10_looks_5 : cX10_looks.data.toList.drop 116 = dktX10_looks_5 := dk_seg dksX10_looks_4 22 rfl rfl
theorem dksX10_looks_6 : cX10_looks.data.toList.drop 140 = dktX10_looks_6 := dk_seg dksX10_looks_5 24 rfl rfl
theorem dksX10_looks_7 : cX10_looks.data.toList.drop 164 = dktX10_looks_7 := dk_seg dksX10_looks_6 24 rfl rfl
theorem dksX10_looks_8 : cX10_looks.data.toList.drop 186 = dktX10_looks_8 := dk_seg dksX10_looks_7 22 rfl rfl
theorem dX10_looks_0 : decode cX10_looks 0 = .ok (.iload_n 2, 1) := dk_28 (dk_at dksX10_looks_0 0 rfl rfl)
theorem dX10_looks_1 : decode cX10_looks 1 = .ok (.iconst 1, 1) := dk_4 (dk_at dksX10_looks_0 1 rfl rfl)
theorem dX10_looks_2 : decode cX10_looks 2 = .ok (.iadd, 1) := dk_96 (dk_at dksX10_looks_0 2 rfl rfl)
theorem dX10_looks_3 : decode cX10_looks 3 = .ok (.aload_n 0, 1) := dk_42 (dk_at dksX10_looks_0 3 rfl rfl)
theorem dX10_looks_4 : decode cX10_looks 4 = .ok (.getfield 9, 3) := dk_180 0 9 (dk_at dksX10_looks_0 4 rfl rfl)
theorem dX10_looks_7 : decode cX10_looks 7 = .ok (.iconst 1, 1) := dk_4 (dk_at dksX10_looks_0 7 rfl rfl)
theorem dX10_looks_8 : decode cX10_looks 8 = .ok (.iaload, 1) := dk_46 (dk_at dksX10_looks_0 8 rfl rfl)
theorem dX10_looks_9 : decode cX10_looks 9 = .ok (.isub, 1) := dk_100 (dk_at dksX10_looks_0 9 rfl rfl)
theorem dX10_looks_10 : decode cX10_looks 10 = .ok (.istore_n 3, 1) := dk_62 (dk_at dksX10_looks_0 10 rfl rfl)
theorem dX10_looks_11 : decode cX10_looks 11 = .ok (.aload_n 0, 1) := dk_42 (dk_at dksX10_looks_0 11 rfl rfl)
theorem dX10_looks_12 : decode cX10_looks 12 = .ok (.getfield 129, 3) := dk_180 0 129 (dk_at dksX10_looks_0 12 rfl rfl)
theorem dX10_looks_15 : decode cX10_looks 15 = .ok (.iload_n 1, 1) := dk_27 (dk_at dksX10_looks_0 15 rfl rfl)
theorem dX10_looks_16 : decode cX10_looks 16 = .ok (.iconst 1, 1) := dk_4 (dk_at dksX10_looks_0 16 rfl rfl)
theorem dX10_looks_17 : decode cX10_looks 17 = .ok (.bastore, 1) := dk_84 (dk_at dksX10_looks_0 17 rfl rfl)
theorem dX10_looks_18 : decode cX10_looks 18 = .ok (.iconst 0, 1) := dk_3 (dk_at dksX10_looks_0 18 rfl rfl)
theorem dX10_looks_19 : decode cX10_looks 19 = .ok (.istore 4, 2) := dk_54 4 (dk_at dksX10_looks_0 19 rfl rfl)
theorem dX10_looks_21 : decode cX10_looks 21 = .ok (.iload 4, 2) := dk_21 4 (dk_at dksX10_looks_0 21 rfl rfl)
theorem dX10_looks_23 : decode cX10_looks 23 = .ok (.aload_n 0, 1) := dk_42 (dk_at dksX10_looks_0 23 rfl rfl)
theorem dX10_looks_24 : decode cX10_looks 24 = .ok (.getfield 9, 3) := dk_180 0 9 (dk_at dksX10_looks_1 0 rfl rfl)
theorem dX10_looks_27 : decode cX10_looks 27 = .ok (.iconst 4, 1) := dk_7 (dk_at dksX10_looks_1 3 rfl rfl)
theorem dX10_looks_28 : decode cX10_looks 28 = .ok (.iaload, 1) := dk_46 (dk_at dksX10_looks_1 4 rfl rfl)
theorem dX10_looks_29 : decode cX10_looks 29 = .ok (.if_icmp .ge 76, 3) := dk_162 0 76 (dk_at dksX10_looks_1 5 rfl rfl)
theorem dX10_looks_32 : decode cX10_looks 32 = .ok (.aload_n 0, 1) := dk_42 (dk_at dksX10_looks_1 8 rfl rfl)
theorem dX10_looks_33 : decode cX10_looks 33 = .ok (.getfield 442, 3) := dk_180 1 186 (dk_at dksX10_looks_1 9 rfl rfl)
theorem dX10_looks_36 : decode cX10_looks 36 = .ok (.ifCond .ne 69, 3) := dk_154 0 69 (dk_at dksX10_looks_1 12 rfl rfl)
theorem dX10_looks_39 : decode cX10_looks 39 = .ok (.aload_n 0, 1) := dk_42 (dk_at dksX10_looks_1 15 rfl rfl)
theorem dX10_looks_40 : decode cX10_looks 40 = .ok (.iload 4, 2) := dk_21 4 (dk_at dksX10_looks_1 16 rfl rfl)
theorem dX10_looks_42 : decode cX10_looks 42 = .ok (.iconst 0, 1) := dk_3 (dk_at dksX10_looks_1 18 rfl rfl)
theorem dX10_looks_43 : decode cX10_looks 43 = .ok (.invokevirtual 156, 3) := dk_182 0 156 (dk_at dksX10_looks_1 19 rfl rfl)
theorem dX10_looks_46 : decode cX10_looks 46 = .ok (.iload_n 1, 1) := dk_27 (dk_at dksX10_looks_1 22 rfl rfl)
theorem dX10_looks_47 : decode cX10_looks 47 = .ok (.if_icmp .ne 52, 3) := dk_160 0 52 (dk_at dksX10_looks_2 0 rfl rfl)
theorem dX10_looks_50 : decode cX10_looks 50 = .ok (.aload_n 0, 1) := dk_42 (dk_at dksX10_looks_2 3 rfl rfl)
theorem dX10_looks_51 : decode cX10_looks 51 = .ok (.getfield 61, 3) := dk_180 0 61 (dk_at dksX10_looks_2 4 rfl rfl)
theorem dX10_looks_54 : decode cX10_looks 54 = .ok (.iload 4, 2) := dk_21 4 (dk_at dksX10_looks_2 7 rfl rfl)
theorem dX10_looks_56 : decode cX10_looks 56 = .ok (.iaload, 1) := dk_46 (dk_at dksX10_looks_2 9 rfl rfl)
theorem dX10_looks_57 : decode cX10_looks 57 = .ok (.iload_n 3, 1) := dk_29 (dk_at dksX10_looks_2 10 rfl rfl)
theorem dX10_looks_58 : decode cX10_looks 58 = .ok (.if_icmp .gt 41, 3) := dk_163 0 41 (dk_at dksX10_looks_2 11 rfl rfl)
theorem dX10_looks_61 : decode cX10_looks 61 = .ok (.aload_n 0, 1) := dk_42 (dk_at dksX10_looks_2 14 rfl rfl)
theorem dX10_looks_62 : decode cX10_looks 62 = .ok (.getfield 85, 3) := dk_180 0 85 (dk_at dksX10_looks_2 15 rfl rfl)
theorem dX10_looks_65 : decode cX10_looks 65 = .ok (.iload 4, 2) := dk_21 4 (dk_at dksX10_looks_2 18 rfl rfl)
theorem dX10_looks_67 : decode cX10_looks 67 = .ok (.iaload, 1) := dk_46 (dk_at dksX10_looks_2 20 rfl rfl)
theorem dX10_looks_68 : decode cX10_looks 68 = .ok (.i2l, 1) := dk_133 (dk_at dksX10_looks_2 21 rfl rfl)
theorem dX10_looks_69 : decode cX10_looks 69 = .ok (.aload_n 0, 1) := dk_42 (dk_at dksX10_looks_2 22 rfl rfl)
theorem dX10_looks_70 : decode cX10_looks 70 = .ok (.iload 4, 2) := dk_21 4 (dk_at dksX10_looks_3 0 rfl rfl)
theorem dX10_looks_72 : decode cX10_looks 72 = .ok (.iconst 4, 1) := dk_7 (dk_at dksX10_looks_3 2 rfl rfl)
theorem dX10_looks_73 : decode cX10_looks 73 = .ok (.invokevirtual 156, 3) := dk_182 0 156 (dk_at dksX10_looks_3 3 rfl rfl)
theorem dX10_looks_76 : decode cX10_looks 76 = .ok (.i2l, 1) := dk_133 (dk_at dksX10_looks_3 6 rfl rfl)
theorem dX10_looks_77 : decode cX10_looks 77 = .ok (.aload_n 0, 1) := dk_42 (dk_at dksX10_looks_3 7 rfl rfl)
theorem dX10_looks_78 : decode cX10_looks 78 = .ok (.iload 4, 2) := dk_21 4 (dk_at dksX10_looks_3 8 rfl rfl)
theorem dX10_looks_80 : decode cX10_looks 80 = .ok (.iconst 5, 1) := dk_8 (dk_at dksX10_looks_3 10 rfl rfl)
theorem dX10_looks_81 : decode cX10_looks 81 = .ok (.invokevirtual 156, 3) := dk_182 0 156 (dk_at dksX10_looks_3 11 rfl rfl)
theorem dX10_looks_84 : decode cX10_looks 84 = .ok (.i2l, 1) := dk_133 (dk_at dksX10_looks_3 14 rfl rfl)
theorem dX10_looks_85 : decode cX10_looks 85 = .ok (.invokestatic 152, 3) := dk_184 0 152 (dk_at dksX10_looks_3 15 rfl rfl)
theorem dX10_looks_88 : decode cX10_looks 88 = .ok (.ifCond .ne 11, 3) := dk_154 0 11 (dk_at dksX10_looks_3 18 rfl rfl)
theorem dX10_looks_91 : decode cX10_looks 91 = .ok (.aload_n 0, 1) := dk_42 (dk_at dksX10_looks_3 21 rfl rfl)
theorem dX10_looks_92 : decode cX10_looks 92 = .ok (.iload 4, 2) := dk_21 4 (dk_at dksX10_looks_3 22 rfl rfl)
theorem dX10_looks_94 : decode cX10_looks 94 = .ok (.iconst 5, 1) := dk_8 (dk_at dksX10_looks_4 0 rfl rfl)
theorem dX10_looks_95 : decode cX10_looks 95 = .ok (.iload_n 2, 1) := dk_28 (dk_at dksX10_looks_4 1 rfl rfl)
theorem dX10_looks_96 : decode cX10_looks 96 = .ok (.invokevirtual 462, 3) := dk_182 1 206 (dk_at dksX10_looks_4 2 rfl rfl)
theorem dX10_looks_99 : decode cX10_looks 99 = .ok (.iinc 4 1, 3) := dk_132 4 1 (dk_at dksX10_looks_4 5 rfl rfl)
theorem dX10_looks_102 : decode cX10_looks 102 = .ok (.goto (-81), 3) := dk_167 255 175 (dk_at dksX10_looks_4 8 rfl rfl)
theorem dX10_looks_105 : decode cX10_looks 105 = .ok (.iconst 0, 1) := dk_3 (dk_at dksX10_looks_4 11 rfl rfl)
theorem dX10_looks_106 : decode cX10_looks 106 = .ok (.istore 4, 2) := dk_54 4 (dk_at dksX10_looks_4 12 rfl rfl)
theorem dX10_looks_108 : decode cX10_looks 108 = .ok (.iload 4, 2) := dk_21 4 (dk_at dksX10_looks_4 14 rfl rfl)
theorem dX10_looks_110 : decode cX10_looks 110 = .ok (.aload_n 0, 1) := dk_42 (dk_at dksX10_looks_4 16 rfl rfl)
theorem dX10_looks_111 : decode cX10_looks 111 = .ok (.getfield 9, 3) := dk_180 0 9 (dk_at dksX10_looks_4 17 rfl rfl)
theorem dX10_looks_114 : decode cX10_looks 114 = .ok (.iconst 3, 1) := dk_6 (dk_at dksX10_looks_4 20 rfl rfl)
theorem dX10_looks_115 : decode cX10_looks 115 = .ok (.iaload, 1) := dk_46 (dk_at dksX10_looks_4 21 rfl rfl)
theorem dX10_looks_116 : decode cX10_looks 116 = .ok (.if_icmp .ge 89, 3) := dk_162 0 89 (dk_at dksX10_looks_5 0 rfl rfl)
theorem dX10_looks_119 : decode cX10_looks 119 = .ok (.aload_n 0, 1) := dk_42 (dk_at dksX10_looks_5 3 rfl rfl)
theorem dX10_looks_120 : decode cX10_looks 120 = .ok (.getfield 442, 3) := dk_180 1 186 (dk_at dksX10_looks_5 4 rfl rfl)
theorem dX10_looks_123 : decode cX10_looks 123 = .ok (.ifCond .ne 82, 3) := dk_154 0 82 (dk_at dksX10_looks_5 7 rfl rfl)
theorem dX10_looks_126 : decode cX10_looks 126 = .ok (.aload_n 0, 1) := dk_42 (dk_at dksX10_looks_5 10 rfl rfl)
theorem dX10_looks_127 : decode cX10_looks 127 = .ok (.getfield 9, 3) := dk_180 0 9 (dk_at dksX10_looks_5 11 rfl rfl)
theorem dX10_looks_130 : decode cX10_looks 130 = .ok (.bipush 8, 2) := dk_16 8 (dk_at dksX10_looks_5 14 rfl rfl)
theorem dX10_looks_132 : decode cX10_looks 132 = .ok (.iload 4, 2) := dk_21 4 (dk_at dksX10_looks_5 16 rfl rfl)
theorem dX10_looks_134 : decode cX10_looks 134 = .ok (.iadd, 1) := dk_96 (dk_at dksX10_looks_5 18 rfl rfl)
theorem dX10_looks_135 : decode cX10_looks 135 = .ok (.iaload, 1) := dk_46 (dk_at dksX10_looks_5 19 rfl rfl)
theorem dX10_looks_136 : decode cX10_looks 136 = .ok (.iload_n 1, 1) := dk_27 (dk_at dksX10_looks_5 20 rfl rfl)
theorem dX10_looks_137 : decode cX10_looks 137 = .ok (.if_icmp .ne 62, 3) := dk_160 0 62 (dk_at dksX10_looks_5 21 rfl rfl)
theorem dX10_looks_140 : decode cX10_looks 140 = .ok (.aload_n 0, 1) := dk_42 (dk_at dksX10_looks_6 0 rfl rfl)
theorem dX10_looks_141 : decode cX10_looks 141 = .ok (.getfield 129, 3) := dk_180 0 129 (dk_at dksX10_looks_6 1 rfl rfl)
theorem dX10_looks_144 : decode cX10_looks 144 = .ok (.iload 4, 2) := dk_21 4 (dk_at dksX10_looks_6 4 rfl rfl)
theorem dX10_looks_146 : decode cX10_looks 146 = .ok (.baload, 1) := dk_51 (dk_at dksX10_looks_6 6 rfl rfl)
theorem dX10_looks_147 : decode cX10_looks 147 = .ok (.ifCond .eq 6, 3) := dk_153 0 6 (dk_at dksX10_looks_6 7 rfl rfl)
theorem dX10_looks_150 : decode cX10_looks 150 = .ok (.goto 49, 3) := dk_167 0 49 (dk_at dksX10_looks_6 10 rfl rfl)
theorem dX10_looks_153 : decode cX10_looks 153 = .ok (.aload_n 0, 1) := dk_42 (dk_at dksX10_looks_6 13 rfl rfl)
theorem dX10_looks_154 : decode cX10_looks 154 = .ok (.getfield 126, 3) := dk_180 0 126 (dk_at dksX10_looks_6 14 rfl rfl)
theorem dX10_looks_157 : decode cX10_looks 157 = .ok (.iload 4, 2) := dk_21 4 (dk_at dksX10_looks_6 17 rfl rfl)
theorem dX10_looks_159 : decode cX10_looks 159 = .ok (.baload, 1) := dk_51 (dk_at dksX10_looks_6 19 rfl rfl)
theorem dX10_looks_160 : decode cX10_looks 160 = .ok (.ifCond .eq 7, 3) := dk_153 0 7 (dk_at dksX10_looks_6 20 rfl rfl)
theorem dX10_looks_163 : decode cX10_looks 163 = .ok (.iconst 3, 1) := dk_6 (dk_at dksX10_looks_6 23 rfl rfl)
theorem dX10_looks_164 : decode cX10_looks 164 = .ok (.goto 4, 3) := dk_167 0 4 (dk_at dksX10_looks_7 0 rfl rfl)
theorem dX10_looks_167 : decode cX10_looks 167 = .ok (.iconst 2, 1) := dk_5 (dk_at dksX10_looks_7 3 rfl rfl)
theorem dX10_looks_168 : decode cX10_looks 168 = .ok (.istore 5, 2) := dk_54 5 (dk_at dksX10_looks_7 4 rfl rfl)
theorem dX10_looks_170 : decode cX10_looks 170 = .ok (.aload_n 0, 1) := dk_42 (dk_at dksX10_looks_7 6 rfl rfl)
theorem dX10_looks_171 : decode cX10_looks 171 = .ok (.getfield 126, 3) := dk_180 0 126 (dk_at dksX10_looks_7 7 rfl rfl)
theorem dX10_looks_174 : decode cX10_looks 174 = .ok (.iload 4, 2) := dk_21 4 (dk_at dksX10_looks_7 10 rfl rfl)
theorem dX10_looks_176 : decode cX10_looks 176 = .ok (.iconst 1, 1) := dk_4 (dk_at dksX10_looks_7 12 rfl rfl)
theorem dX10_looks_177 : decode cX10_looks 177 = .ok (.bastore, 1) := dk_84 (dk_at dksX10_looks_7 13 rfl rfl)
theorem dX10_looks_178 : decode cX10_looks 178 = .ok (.aload_n 0, 1) := dk_42 (dk_at dksX10_looks_7 14 rfl rfl)
theorem dX10_looks_179 : decode cX10_looks 179 = .ok (.iload_n 2, 1) := dk_28 (dk_at dksX10_looks_7 15 rfl rfl)
theorem dX10_looks_180 : decode cX10_looks 180 = .ok (.bipush 6, 2) := dk_16 6 (dk_at dksX10_looks_7 16 rfl rfl)
theorem dX10_looks_182 : decode cX10_looks 182 = .ok (.iload 4, 2) := dk_21 4 (dk_at dksX10_looks_7 18 rfl rfl)
theorem dX10_looks_184 : decode cX10_looks 184 = .ok (.iload 5, 2) := dk_21 5 (dk_at dksX10_looks_7 20 rfl rfl)
theorem dX10_looks_186 : decode cX10_looks 186 = .ok (.invokevirtual 447, 3) := dk_182 1 191 (dk_at dksX10_looks_8 0 rfl rfl)
theorem dX10_looks_189 : decode cX10_looks 189 = .ok (.aload_n 0, 1) := dk_42 (dk_at dksX10_looks_8 3 rfl rfl)
theorem dX10_looks_190 : decode cX10_looks 190 = .ok (.iload 5, 2) := dk_21 5 (dk_at dksX10_looks_8 4 rfl rfl)
theorem dX10_looks_192 : decode cX10_looks 192 = .ok (.iconst (-1), 1) := dk_2 (dk_at dksX10_looks_8 6 rfl rfl)
theorem dX10_looks_193 : decode cX10_looks 193 = .ok (.iload 4, 2) := dk_21 4 (dk_at dksX10_looks_8 7 rfl rfl)
theorem dX10_looks_195 : decode cX10_looks 195 = .ok (.iload_n 2, 1) := dk_28 (dk_at dksX10_looks_8 9 rfl rfl)
theorem dX10_looks_196 : decode cX10_looks 196 = .ok (.invokevirtual 450, 3) := dk_182 1 194 (dk_at dksX10_looks_8 10 rfl rfl)
theorem dX10_looks_199 : decode cX10_looks 199 = .ok (.iinc 4 1, 3) := dk_132 4 1 (dk_at dksX10_looks_8 13 rfl rfl)
theorem dX10_looks_202 : decode cX10_looks 202 = .ok (.goto (-94), 3) := dk_167 255 162 (dk_at dksX10_looks_8 16 rfl rfl)
theorem dX10_looks_205 : decode cX10_looks 205 = .ok (.return_, 1) := dk_177 (dk_at dksX10_looks_8 19 rfl rfl)
abbrev cX10_newCycle : ByteArray := prog_18_method_90_code
def yX10_newCycle : MethodName := ⟨RX10, "newCycle", "()V"⟩
def dkwX10_newCycle_1 : List UInt8 := [167, 255, 234, 3, 60, 27, 6, 162, 0, 16, 42, 180, 0, 129, 27, 3, 84, 132, 1, 1, 167, 255, 241, 177]
abbrev dktX10_newCycle_1 : List UInt8 := dkwX10_newCycle_1 ++ []
def dkwX10_newCycle_0 : List UInt8 := [3, 60, 27, 8, 162, 0, 23, 42, 180, 0, 85, 27, 3, 79, 42, 180, 0, 98, 27, 3, 84, 132, 1, 1]
abbrev dktX10_newCycle_0 : List UInt8 := dkwX10_newCycle_0 ++ dktX10_newCycle_1
theorem dksX10_newCycle_0 : cX10_newCycle.data.toList.drop 0 = dktX10_newCycle_0 := by decide +kernel
theorem dksX10_newCycle_1 : cX10_newCycle.data.toList.drop 24 = dktX10_newCycle_1 := dk_seg dksX10_newCycle_0 24 rfl rfl
theorem dX10_newCycle_0 : decode cX10_newCycle 0 = .ok (.iconst 0, 1) := dk_3 (dk_at dksX10_newCycle_0 0 rfl rfl)
theorem dX10_newCycle_1 : decode cX10_newCycle 1 = .ok (.istore_n 1, 1) := dk_60 (dk_at dksX10_newCycle_0 1 rfl rfl)
theorem dX10_newCycle_2 : decode cX10_newCycle 2 = .ok (.iload_n 1, 1) := dk_27 (dk_at dksX10_newCycle_0 2 rfl rfl)
theorem dX10_newCycle_3 : decode cX10_newCycle 3 = .ok (.iconst 5, 1) := dk_8 (dk_at dksX10_newCycle_0 3 rfl rfl)
theorem dX10_newCycle_4 : decode cX10_newCycle 4 = .ok (.if_icmp .ge 23, 3) := dk_162 0 23 (dk_at dksX10_newCycle_0 4 rfl rfl)
theorem dX10_newCycle_7 : decode cX10_newCycle 7 = .ok (.aload_n 0, 1) := dk_42 (dk_at dksX10_newCycle_0 7 rfl rfl)
theorem dX10_newCycle_8 : decode cX10_newCycle 8 = .ok (.getfield 85, 3) := dk_180 0 85 (dk_at dksX10_newCycle_0 8 rfl rfl)
theorem dX10_newCycle_11 : decode cX10_newCycle 11 = .ok (.iload_n 1, 1) := dk_27 (dk_at dksX10_newCycle_0 11 rfl rfl)
theorem dX10_newCycle_12 : decode cX10_newCycle 12 = .ok (.iconst 0, 1) := dk_3 (dk_at dksX10_newCycle_0 12 rfl rfl)
theorem dX10_newCycle_13 : decode cX10_newCycle 13 = .ok (.iastore, 1) := dk_79 (dk_at dksX10_newCycle_0 13 rfl rfl)
theorem dX10_newCycle_14 : decode cX10_newCycle 14 = .ok (.aload_n 0, 1) := dk_42 (dk_at dksX10_newCycle_0 14 rfl rfl)
theorem dX10_newCycle_15 : decode cX10_newCycle 15 = .ok (.getfield 98, 3) := dk_180 0 98 (dk_at dksX10_newCycle_0 15 rfl rfl)
theorem dX10_newCycle_18 : decode cX10_newCycle 18 = .ok (.iload_n 1, 1) := dk_27 (dk_at dksX10_newCycle_0 18 rfl rfl)
theorem dX10_newCycle_19 : decode cX10_newCycle 19 = .ok (.iconst 0, 1) := dk_3 (dk_at dksX10_newCycle_0 19 rfl rfl)
theorem dX10_newCycle_20 : decode cX10_newCycle 20 = .ok (.bastore, 1) := dk_84 (dk_at dksX10_newCycle_0 20 rfl rfl)
theorem dX10_newCycle_21 : decode cX10_newCycle 21 = .ok (.iinc 1 1, 3) := dk_132 1 1 (dk_at dksX10_newCycle_0 21 rfl rfl)
theorem dX10_newCycle_24 : decode cX10_newCycle 24 = .ok (.goto (-22), 3) := dk_167 255 234 (dk_at dksX10_newCycle_1 0 rfl rfl)
theorem dX10_newCycle_27 : decode cX10_newCycle 27 = .ok (.iconst 0, 1) := dk_3 (dk_at dksX10_newCycle_1 3 rfl rfl)
theorem dX10_newCycle_28 : decode cX10_newCycle 28 = .ok (.istore_n 1, 1) := dk_60 (dk_at dksX10_newCycle_1 4 rfl rfl)
theorem dX10_newCycle_29 : decode cX10_newCycle 29 = .ok (.iload_n 1, 1) := dk_27 (dk_at dksX10_newCycle_1 5 rfl rfl)
theorem dX10_newCycle_30 : decode cX10_newCycle 30 = .ok (.iconst 3, 1) := dk_6 (dk_at dksX10_newCycle_1 6 rfl rfl)
theorem dX10_newCycle_31 : decode cX10_newCycle 31 = .ok (.if_icmp .ge 16, 3) := dk_162 0 16 (dk_at dksX10_newCycle_1 7 rfl rfl)
theorem dX10_newCycle_34 : decode cX10_newCycle 34 = .ok (.aload_n 0, 1) := dk_42 (dk_at dksX10_newCycle_1 10 rfl rfl)
theorem dX10_newCycle_35 : decode cX10_newCycle 35 = .ok (.getfield 129, 3) := dk_180 0 129 (dk_at dksX10_newCycle_1 11 rfl rfl)
theorem dX10_newCycle_38 : decode cX10_newCycle 38 = .ok (.iload_n 1, 1) := dk_27 (dk_at dksX10_newCycle_1 14 rfl rfl)
theorem dX10_newCycle_39 : decode cX10_newCycle 39 = .ok (.iconst 0, 1) := dk_3 (dk_at dksX10_newCycle_1 15 rfl rfl)
theorem dX10_newCycle_40 : decode cX10_newCycle 40 = .ok (.bastore, 1) := dk_84 (dk_at dksX10_newCycle_1 16 rfl rfl)
theorem dX10_newCycle_41 : decode cX10_newCycle 41 = .ok (.iinc 1 1, 3) := dk_132 1 1 (dk_at dksX10_newCycle_1 17 rfl rfl)
theorem dX10_newCycle_44 : decode cX10_newCycle 44 = .ok (.goto (-15), 3) := dk_167 255 241 (dk_at dksX10_newCycle_1 20 rfl rfl)
theorem dX10_newCycle_47 : decode cX10_newCycle 47 = .ok (.return_, 1) := dk_177 (dk_at dksX10_newCycle_1 23 rfl rfl)
abbrev cX10_idle : ByteArray := prog_18_method_98_code
def yX10_idle : MethodName := ⟨RX10, "idle", "(I)I"⟩
def dkwX10_idle_1 : List UInt8 := [180, 0, 132, 29, 46, 2, 160, 0, 7, 4, 167, 0, 4, 3, 96, 61, 132, 3, 1, 167, 255, 230, 28, 172]
abbrev dktX10_idle_1 : List UInt8 := dkwX10_idle_1 ++ []
def dkwX10_idle_0 : List UInt8 := [42, 27, 182, 1, 254, 154, 0, 6, 16, 254, 172, 3, 61, 3, 62, 29, 27, 162, 0, 27, 28, 42]
abbrev dktX10_idle_0 : List UInt8 := dkwX10_idle_0 ++ dktX10_idle_1
theorem dksX10_idle_0 : cX10_idle.data.toList.drop 0 = dktX10_idle_0 := by decide +kernel
theorem dksX10_idle_1 : cX10_idle.data.toList.drop 22 = dktX10_idle_1 := dk_seg dksX10_idle_0 22 rfl rfl
theorem dX10_idle_0 : decode cX10_idle 0 = .ok (.aload_n 0, 1) := dk_42 (dk_at dksX10_idle_0 0 rfl rfl)
theorem dX10_idle_1 : decode cX10_idle 1 = .ok (.iload_n 1, 1) := dk_27 (dk_at dksX10_idle_0 1 rfl rfl)
theorem dX10_idle_2 : decode cX10_idle 2 = .ok (.invokevirtual 510, 3) := dk_182 1 254 (dk_at dksX10_idle_0 2 rfl rfl)
theorem dX10_idle_5 : decode cX10_idle 5 = .ok (.ifCond .ne 6, 3) := dk_154 0 6 (dk_at dksX10_idle_0 5 rfl rfl)
theorem dX10_idle_8 : decode cX10_idle 8 = .ok (.bipush (-2), 2) := dk_16 254 (dk_at dksX10_idle_0 8 rfl rfl)
theorem dX10_idle_10 : decode cX10_idle 10 = .ok (.ireturn, 1) := dk_172 (dk_at dksX10_idle_0 10 rfl rfl)
theorem dX10_idle_11 : decode cX10_idle 11 = .ok (.iconst 0, 1) := dk_3 (dk_at dksX10_idle_0 11 rfl rfl)
theorem dX10_idle_12 : decode cX10_idle 12 = .ok (.istore_n 2, 1) := dk_61 (dk_at dksX10_idle_0 12 rfl rfl)
theorem dX10_idle_13 : decode cX10_idle 13 = .ok (.iconst 0, 1) := dk_3 (dk_at dksX10_idle_0 13 rfl rfl)
theorem dX10_idle_14 : decode cX10_idle 14 = .ok (.istore_n 3, 1) := dk_62 (dk_at dksX10_idle_0 14 rfl rfl)
theorem dX10_idle_15 : decode cX10_idle 15 = .ok (.iload_n 3, 1) := dk_29 (dk_at dksX10_idle_0 15 rfl rfl)
theorem dX10_idle_16 : decode cX10_idle 16 = .ok (.iload_n 1, 1) := dk_27 (dk_at dksX10_idle_0 16 rfl rfl)
theorem dX10_idle_17 : decode cX10_idle 17 = .ok (.if_icmp .ge 27, 3) := dk_162 0 27 (dk_at dksX10_idle_0 17 rfl rfl)
theorem dX10_idle_20 : decode cX10_idle 20 = .ok (.iload_n 2, 1) := dk_28 (dk_at dksX10_idle_0 20 rfl rfl)
theorem dX10_idle_21 : decode cX10_idle 21 = .ok (.aload_n 0, 1) := dk_42 (dk_at dksX10_idle_0 21 rfl rfl)
theorem dX10_idle_22 : decode cX10_idle 22 = .ok (.getfield 132, 3) := dk_180 0 132 (dk_at dksX10_idle_1 0 rfl rfl)
theorem dX10_idle_25 : decode cX10_idle 25 = .ok (.iload_n 3, 1) := dk_29 (dk_at dksX10_idle_1 3 rfl rfl)
theorem dX10_idle_26 : decode cX10_idle 26 = .ok (.iaload, 1) := dk_46 (dk_at dksX10_idle_1 4 rfl rfl)
theorem dX10_idle_27 : decode cX10_idle 27 = .ok (.iconst (-1), 1) := dk_2 (dk_at dksX10_idle_1 5 rfl rfl)
theorem dX10_idle_28 : decode cX10_idle 28 = .ok (.if_icmp .ne 7, 3) := dk_160 0 7 (dk_at dksX10_idle_1 6 rfl rfl)
theorem dX10_idle_31 : decode cX10_idle 31 = .ok (.iconst 1, 1) := dk_4 (dk_at dksX10_idle_1 9 rfl rfl)
theorem dX10_idle_32 : decode cX10_idle 32 = .ok (.goto 4, 3) := dk_167 0 4 (dk_at dksX10_idle_1 10 rfl rfl)
theorem dX10_idle_35 : decode cX10_idle 35 = .ok (.iconst 0, 1) := dk_3 (dk_at dksX10_idle_1 13 rfl rfl)
theorem dX10_idle_36 : decode cX10_idle 36 = .ok (.iadd, 1) := dk_96 (dk_at dksX10_idle_1 14 rfl rfl)
theorem dX10_idle_37 : decode cX10_idle 37 = .ok (.istore_n 2, 1) := dk_61 (dk_at dksX10_idle_1 15 rfl rfl)
theorem dX10_idle_38 : decode cX10_idle 38 = .ok (.iinc 3 1, 3) := dk_132 3 1 (dk_at dksX10_idle_1 16 rfl rfl)
theorem dX10_idle_41 : decode cX10_idle 41 = .ok (.goto (-26), 3) := dk_167 255 230 (dk_at dksX10_idle_1 19 rfl rfl)
theorem dX10_idle_44 : decode cX10_idle 44 = .ok (.iload_n 2, 1) := dk_28 (dk_at dksX10_idle_1 22 rfl rfl)
theorem dX10_idle_45 : decode cX10_idle 45 = .ok (.ireturn, 1) := dk_172 (dk_at dksX10_idle_1 23 rfl rfl)
abbrev cX10_asksAt : ByteArray := prog_18_method_95_code
def yX10_asksAt : MethodName := ⟨RX10, "asksAt", "(I)Z"⟩
def dkwX10_asksAt_0 : List UInt8 := [42, 27, 182, 1, 251, 154, 0, 5, 3, 172, 42, 182, 1, 245, 42, 27, 182, 1, 248, 4, 172]
abbrev dktX10_asksAt_0 : List UInt8 := dkwX10_asksAt_0 ++ []
theorem dksX10_asksAt_0 : cX10_asksAt.data.toList.drop 0 = dktX10_asksAt_0 := by decide +kernel
theorem dX10_asksAt_0 : decode cX10_asksAt 0 = .ok (.aload_n 0, 1) := dk_42 (dk_at dksX10_asksAt_0 0 rfl rfl)
theorem dX10_asksAt_1 : decode cX10_asksAt 1 = .ok (.iload_n 1, 1) := dk_27 (dk_at dksX10_asksAt_0 1 rfl rfl)
theorem dX10_asksAt_2 : decode cX10_asksAt 2 = .ok (.invokevirtual 507, 3) := dk_182 1 251 (dk_at dksX10_asksAt_0 2 rfl rfl)
theorem dX10_asksAt_5 : decode cX10_asksAt 5 = .ok (.ifCond .ne 5, 3) := dk_154 0 5 (dk_at dksX10_asksAt_0 5 rfl rfl)
theorem dX10_asksAt_8 : decode cX10_asksAt 8 = .ok (.iconst 0, 1) := dk_3 (dk_at dksX10_asksAt_0 8 rfl rfl)
theorem dX10_asksAt_9 : decode cX10_asksAt 9 = .ok (.ireturn, 1) := dk_172 (dk_at dksX10_asksAt_0 9 rfl rfl)
theorem dX10_asksAt_10 : decode cX10_asksAt 10 = .ok (.aload_n 0, 1) := dk_42 (dk_at dksX10_asksAt_0 10 rfl rfl)
theorem dX10_asksAt_11 : decode cX10_asksAt 11 = .ok (.invokevirtual 501, 3) := dk_182 1 245 (dk_at dksX10_asksAt_0 11 rfl rfl)
theorem dX10_asksAt_14 : decode cX10_asksAt 14 = .ok (.aload_n 0, 1) := dk_42 (dk_at dksX10_asksAt_0 14 rfl rfl)
theorem dX10_asksAt_15 : decode cX10_asksAt 15 = .ok (.iload_n 1, 1) := dk_27 (dk_at dksX10_asksAt_0 15 rfl rfl)
theorem dX10_asksAt_16 : decode cX10_asksAt 16 = .ok (.invokevirtual 504, 3) := dk_182 1 248 (dk_at dksX10_asksAt_0 16 rfl rfl)
theorem dX10_asksAt_19 : decode cX10_asksAt 19 = .ok (.iconst 1, 1) := dk_4 (dk_at dksX10_asksAt_0 19 rfl rfl)
theorem dX10_asksAt_20 : decode cX10_asksAt 20 = .ok (.ireturn, 1) := dk_172 (dk_at dksX10_asksAt_0 20 rfl rfl)
abbrev cX10_isTick : ByteArray := prog_18_method_94_code
def yX10_isTick : MethodName := ⟨RX10, "isTick", "(I)Z"⟩
def dkwX10_isTick_1 : List UInt8 := [167, 0, 4, 3, 172]
abbrev dktX10_isTick_1 : List UInt8 := dkwX10_isTick_1 ++ []
def dkwX10_isTick_0 : List UInt8 := [42, 182, 1, 116, 153, 0, 23, 27, 133, 9, 42, 180, 0, 9, 3, 46, 133, 184, 0, 152, 153, 0, 7, 4]
abbrev dktX10_isTick_0 : List UInt8 := dkwX10_isTick_0 ++ dktX10_isTick_1
theorem dksX10_isTick_0 : cX10_isTick.data.toList.drop 0 = dktX10_isTick_0 := by decide +kernel
theorem dksX10_isTick_1 : cX10_isTick.data.toList.drop 24 = dktX10_isTick_1 := dk_seg dksX10_isTick_0 24 rfl rfl
theorem dX10_isTick_0 : decode cX10_isTick 0 = .ok (.aload_n 0, 1) := dk_42 (dk_at dksX10_isTick_0 0 rfl rfl)
theorem dX10_isTick_1 : decode cX10_isTick 1 = .ok (.invokevirtual 372, 3) := dk_182 1 116 (dk_at dksX10_isTick_0 1 rfl rfl)
theorem dX10_isTick_4 : decode cX10_isTick 4 = .ok (.ifCond .eq 23, 3) := dk_153 0 23 (dk_at dksX10_isTick_0 4 rfl rfl)
theorem dX10_isTick_7 : decode cX10_isTick 7 = .ok (.iload_n 1, 1) := dk_27 (dk_at dksX10_isTick_0 7 rfl rfl)
theorem dX10_isTick_8 : decode cX10_isTick 8 = .ok (.i2l, 1) := dk_133 (dk_at dksX10_isTick_0 8 rfl rfl)
theorem dX10_isTick_9 : decode cX10_isTick 9 = .ok (.lconst 0, 1) := dk_9 (dk_at dksX10_isTick_0 9 rfl rfl)
theorem dX10_isTick_10 : decode cX10_isTick 10 = .ok (.aload_n 0, 1) := dk_42 (dk_at dksX10_isTick_0 10 rfl rfl)
theorem dX10_isTick_11 : decode cX10_isTick 11 = .ok (.getfield 9, 3) := dk_180 0 9 (dk_at dksX10_isTick_0 11 rfl rfl)
theorem dX10_isTick_14 : decode cX10_isTick 14 = .ok (.iconst 0, 1) := dk_3 (dk_at dksX10_isTick_0 14 rfl rfl)
theorem dX10_isTick_15 : decode cX10_isTick 15 = .ok (.iaload, 1) := dk_46 (dk_at dksX10_isTick_0 15 rfl rfl)
theorem dX10_isTick_16 : decode cX10_isTick 16 = .ok (.i2l, 1) := dk_133 (dk_at dksX10_isTick_0 16 rfl rfl)
theorem dX10_isTick_17 : decode cX10_isTick 17 = .ok (.invokestatic 152, 3) := dk_184 0 152 (dk_at dksX10_isTick_0 17 rfl rfl)
theorem dX10_isTick_20 : decode cX10_isTick 20 = .ok (.ifCond .eq 7, 3) := dk_153 0 7 (dk_at dksX10_isTick_0 20 rfl rfl)
theorem dX10_isTick_23 : decode cX10_isTick 23 = .ok (.iconst 1, 1) := dk_4 (dk_at dksX10_isTick_0 23 rfl rfl)
theorem dX10_isTick_24 : decode cX10_isTick 24 = .ok (.goto 4, 3) := dk_167 0 4 (dk_at dksX10_isTick_1 0 rfl rfl)
theorem dX10_isTick_27 : decode cX10_isTick 27 = .ok (.iconst 0, 1) := dk_3 (dk_at dksX10_isTick_1 3 rfl rfl)
theorem dX10_isTick_28 : decode cX10_isTick 28 = .ok (.ireturn, 1) := dk_172 (dk_at dksX10_isTick_1 4 rfl rfl)
abbrev cX10_kicks : ByteArray := prog_18_method_99_code
def yX10_kicks : MethodName := ⟨RX10, "kicks", "(II)I"⟩
def dkwX10_kicks_0 : List UInt8 := [42, 27, 28, 182, 2, 4, 153, 0, 12, 42, 180, 0, 101, 27, 46, 167, 0, 5, 16, 254, 172]
abbrev dktX10_kicks_0 : List UInt8 := dkwX10_kicks_0 ++ []
theorem dksX10_kicks_0 : cX10_kicks.data.toList.drop 0 = dktX10_kicks_0 := by decide +kernel
theorem dX10_kicks_0 : decode cX10_kicks 0 = .ok (.aload_n 0, 1) := dk_42 (dk_at dksX10_kicks_0 0 rfl rfl)
theorem dX10_kicks_1 : decode cX10_kicks 1 = .ok (.iload_n 1, 1) := dk_27 (dk_at dksX10_kicks_0 1 rfl rfl)
theorem dX10_kicks_2 : decode cX10_kicks 2 = .ok (.iload_n 2, 1) := dk_28 (dk_at dksX10_kicks_0 2 rfl rfl)
theorem dX10_kicks_3 : decode cX10_kicks 3 = .ok (.invokevirtual 516, 3) := dk_182 2 4 (dk_at dksX10_kicks_0 3 rfl rfl)
theorem dX10_kicks_6 : decode cX10_kicks 6 = .ok (.ifCond .eq 12, 3) := dk_153 0 12 (dk_at dksX10_kicks_0 6 rfl rfl)
theorem dX10_kicks_9 : decode cX10_kicks 9 = .ok (.aload_n 0, 1) := dk_42 (dk_at dksX10_kicks_0 9 rfl rfl)
theorem dX10_kicks_10 : decode cX10_kicks 10 = .ok (.getfield 101, 3) := dk_180 0 101 (dk_at dksX10_kicks_0 10 rfl rfl)
theorem dX10_kicks_13 : decode cX10_kicks 13 = .ok (.iload_n 1, 1) := dk_27 (dk_at dksX10_kicks_0 13 rfl rfl)
theorem dX10_kicks_14 : decode cX10_kicks 14 = .ok (.iaload, 1) := dk_46 (dk_at dksX10_kicks_0 14 rfl rfl)
theorem dX10_kicks_15 : decode cX10_kicks 15 = .ok (.goto 5, 3) := dk_167 0 5 (dk_at dksX10_kicks_0 15 rfl rfl)
theorem dX10_kicks_18 : decode cX10_kicks 18 = .ok (.bipush (-2), 2) := dk_16 254 (dk_at dksX10_kicks_0 18 rfl rfl)
theorem dX10_kicks_20 : decode cX10_kicks 20 = .ok (.ireturn, 1) := dk_172 (dk_at dksX10_kicks_0 20 rfl rfl)
abbrev cX10_asksOf : ByteArray := prog_18_method_96_code
def yX10_asksOf : MethodName := ⟨RX10, "asksOf", "(II)Z"⟩
def dkwX10_asksOf_0 : List UInt8 := [42, 27, 182, 1, 77, 153, 0, 15, 42, 28, 182, 1, 254, 153, 0, 7, 4, 167, 0, 4, 3, 172]
abbrev dktX10_asksOf_0 : List UInt8 := dkwX10_asksOf_0 ++ []
theorem dksX10_asksOf_0 : cX10_asksOf.data.toList.drop 0 = dktX10_asksOf_0 := by decide +kernel
theorem dX10_asksOf_0 : decode cX10_asksOf 0 = .ok (.aload_n 0, 1) := dk_42 (dk_at dksX10_asksOf_0 0 rfl rfl)
theorem dX10_asksOf_1 : decode cX10_asksOf 1 = .ok (.iload_n 1, 1) := dk_27 (dk_at dksX10_asksOf_0 1 rfl rfl)
theorem dX10_asksOf_2 : decode cX10_asksOf 2 = .ok (.invokevirtual 333, 3) := dk_182 1 77 (dk_at dksX10_asksOf_0 2 rfl rfl)
theorem dX10_asksOf_5 : decode cX10_asksOf 5 = .ok (.ifCond .eq 15, 3) := dk_153 0 15 (dk_at dksX10_asksOf_0 5 rfl rfl)
theorem dX10_asksOf_8 : decode cX10_asksOf 8 = .ok (.aload_n 0, 1) := dk_42 (dk_at dksX10_asksOf_0 8 rfl rfl)
theorem dX10_asksOf_9 : decode cX10_asksOf 9 = .ok (.iload_n 2, 1) := dk_28 (dk_at dksX10_asksOf_0 9 rfl rfl)
theorem dX10_asksOf_10 : decode cX10_asksOf 10 = .ok (.invokevirtual 510, 3) := dk_182 1 254 (dk_at dksX10_asksOf_0 10 rfl rfl)
theorem dX10_asksOf_13 : decode cX10_asksOf 13 = .ok (.ifCond .eq 7, 3) := dk_153 0 7 (dk_at dksX10_asksOf_0 13 rfl rfl)
theorem dX10_asksOf_16 : decode cX10_asksOf 16 = .ok (.iconst 1, 1) := dk_4 (dk_at dksX10_asksOf_0 16 rfl rfl)
theorem dX10_asksOf_17 : decode cX10_asksOf 17 = .ok (.goto 4, 3) := dk_167 0 4 (dk_at dksX10_asksOf_0 17 rfl rfl)
theorem dX10_asksOf_20 : decode cX10_asksOf 20 = .ok (.iconst 0, 1) := dk_3 (dk_at dksX10_asksOf_0 20 rfl rfl)
theorem dX10_asksOf_21 : decode cX10_asksOf 21 = .ok (.ireturn, 1) := dk_172 (dk_at dksX10_asksOf_0 21 rfl rfl)
abbrev cX10_kicked : ByteArray := prog_18_method_100_code
def yX10_kicked : MethodName := ⟨RX10, "kicked", "(II)I"⟩
def dkwX10_kicked_0 : List UInt8 := [42, 27, 28, 182, 2, 4, 153, 0, 12, 42, 180, 0, 104, 27, 46, 167, 0, 5, 16, 254, 172]
abbrev dktX10_kicked_0 : List UInt8 := dkwX10_kicked_0 ++ []
theorem dksX10_kicked_0 : cX10_kicked.data.toList.drop 0 = dktX10_kicked_0 := by decide +kernel
theorem dX10_kicked_0 : decode cX10_kicked 0 = .ok (.aload_n 0, 1) := dk_42 (dk_at dksX10_kicked_0 0 rfl rfl)
theorem dX10_kicked_1 : decode cX10_kicked 1 = .ok (.iload_n 1, 1) := dk_27 (dk_at dksX10_kicked_0 1 rfl rfl)
theorem dX10_kicked_2 : decode cX10_kicked 2 = .ok (.iload_n 2, 1) := dk_28 (dk_at dksX10_kicked_0 2 rfl rfl)
theorem dX10_kicked_3 : decode cX10_kicked 3 = .ok (.invokevirtual 516, 3) := dk_182 2 4 (dk_at dksX10_kicked_0 3 rfl rfl)
theorem dX10_kicked_6 : decode cX10_kicked 6 = .ok (.ifCond .eq 12, 3) := dk_153 0 12 (dk_at dksX10_kicked_0 6 rfl rfl)
theorem dX10_kicked_9 : decode cX10_kicked 9 = .ok (.aload_n 0, 1) := dk_42 (dk_at dksX10_kicked_0 9 rfl rfl)
theorem dX10_kicked_10 : decode cX10_kicked 10 = .ok (.getfield 104, 3) := dk_180 0 104 (dk_at dksX10_kicked_0 10 rfl rfl)
theorem dX10_kicked_13 : decode cX10_kicked 13 = .ok (.iload_n 1, 1) := dk_27 (dk_at dksX10_kicked_0 13 rfl rfl)
theorem dX10_kicked_14 : decode cX10_kicked 14 = .ok (.iaload, 1) := dk_46 (dk_at dksX10_kicked_0 14 rfl rfl)
theorem dX10_kicked_15 : decode cX10_kicked 15 = .ok (.goto 5, 3) := dk_167 0 5 (dk_at dksX10_kicked_0 15 rfl rfl)
theorem dX10_kicked_18 : decode cX10_kicked 18 = .ok (.bipush (-2), 2) := dk_16 254 (dk_at dksX10_kicked_0 18 rfl rfl)
theorem dX10_kicked_20 : decode cX10_kicked 20 = .ok (.ireturn, 1) := dk_172 (dk_at dksX10_kicked_0 20 rfl rfl)
abbrev cX10_gap : ByteArray := prog_18_method_101_code
def yX10_gap : MethodName := ⟨RX10, "gap", "(II)I"⟩
def dkwX10_gap_2 : List UInt8 := [172]
abbrev dktX10_gap_2 : List UInt8 := dkwX10_gap_2 ++ []
def dkwX10_gap_1 : List UInt8 := [180, 0, 101, 27, 46, 162, 0, 18, 42, 180, 0, 117, 17, 0, 200, 27, 104, 28, 96, 46, 167, 0, 4, 2]
abbrev dktX10_gap_1 : List UInt8 := dkwX10_gap_1 ++ dktX10_gap_2
def dkwX10_gap_0 : List UInt8 := [42, 27, 182, 1, 77, 153, 0, 14, 28, 155, 0, 10, 42, 182, 2, 1, 154, 0, 6, 16, 254, 172, 28, 42]
abbrev dktX10_gap_0 : List UInt8 := dkwX10_gap_0 ++ dktX10_gap_1
theorem dksX10_gap_0 : cX10_gap.data.toList.drop 0 = dktX10_gap_0 := by decide +kernel
theorem dksX10_gap_1 : cX10_gap.data.toList.drop 24 = dktX10_gap_1 := dk_seg dksX10_gap_0 24 rfl rfl
theorem dksX10_gap_2 : cX10_gap.data.toList.drop 48 = dktX10_gap_2 := dk_seg dksX10_gap_1 24 rfl rfl
theorem dX10_gap_0 : decode cX10_gap 0 = .ok (.aload_n 0, 1) := dk_42 (dk_at dksX10_gap_0 0 rfl rfl)
theorem dX10_gap_1 : decode cX10_gap 1 = .ok (.iload_n 1, 1) := dk_27 (dk_at dksX10_gap_0 1 rfl rfl)
theorem dX10_gap_2 : decode cX10_gap 2 = .ok (.invokevirtual 333, 3) := dk_182 1 77 (dk_at dksX10_gap_0 2 rfl rfl)
theorem dX10_gap_5 : decode cX10_gap 5 = .ok (.ifCond .eq 14, 3) := dk_153 0 14 (dk_at dksX10_gap_0 5 rfl rfl)
theorem dX10_gap_8 : decode cX10_gap 8 = .ok (.iload_n 2, 1) := dk_28 (dk_at dksX10_gap_0 8 rfl rfl)
theorem dX10_gap_9 : decode cX10_gap 9 = .ok (.ifCond .lt 10, 3) := dk_155 0 10 (dk_at dksX10_gap_0 9 rfl rfl)
theorem dX10_gap_12 : decode cX10_gap 12 = .ok (.aload_n 0, 1) := dk_42 (dk_at dksX10_gap_0 12 rfl rfl)
theorem dX10_gap_13 : decode cX10_gap 13 = .ok (.invokevirtual 513, 3) := dk_182 2 1 (dk_at dksX10_gap_0 13 rfl rfl)
theorem dX10_gap_16 : decode cX10_gap 16 = .ok (.ifCond .ne 6, 3) := dk_154 0 6 (dk_at dksX10_gap_0 16 rfl rfl)
theorem dX10_gap_19 : decode cX10_gap 19 = .ok (.bipush (-2), 2) := dk_16 254 (dk_at dksX10_gap_0 19 rfl rfl)
theorem dX10_gap_21 : decode cX10_gap 21 = .ok (.ireturn, 1) := dk_172 (dk_at dksX10_gap_0 21 rfl rfl)
theorem dX10_gap_22 : decode cX10_gap 22 = .ok (.iload_n 2, 1) := dk_28 (dk_at dksX10_gap_0 22 rfl rfl)
theorem dX10_gap_23 : decode cX10_gap 23 = .ok (.aload_n 0, 1) := dk_42 (dk_at dksX10_gap_0 23 rfl rfl)
theorem dX10_gap_24 : decode cX10_gap 24 = .ok (.getfield 101, 3) := dk_180 0 101 (dk_at dksX10_gap_1 0 rfl rfl)
theorem dX10_gap_27 : decode cX10_gap 27 = .ok (.iload_n 1, 1) := dk_27 (dk_at dksX10_gap_1 3 rfl rfl)
theorem dX10_gap_28 : decode cX10_gap 28 = .ok (.iaload, 1) := dk_46 (dk_at dksX10_gap_1 4 rfl rfl)
theorem dX10_gap_29 : decode cX10_gap 29 = .ok (.if_icmp .ge 18, 3) := dk_162 0 18 (dk_at dksX10_gap_1 5 rfl rfl)
theorem dX10_gap_32 : decode cX10_gap 32 = .ok (.aload_n 0, 1) := dk_42 (dk_at dksX10_gap_1 8 rfl rfl)
theorem dX10_gap_33 : decode cX10_gap 33 = .ok (.getfield 117, 3) := dk_180 0 117 (dk_at dksX10_gap_1 9 rfl rfl)
theorem dX10_gap_36 : decode cX10_gap 36 = .ok (.sipush 200, 3) := dk_17 0 200 (dk_at dksX10_gap_1 12 rfl rfl)
theorem dX10_gap_39 : decode cX10_gap 39 = .ok (.iload_n 1, 1) := dk_27 (dk_at dksX10_gap_1 15 rfl rfl)
theorem dX10_gap_40 : decode cX10_gap 40 = .ok (.imul, 1) := dk_104 (dk_at dksX10_gap_1 16 rfl rfl)
theorem dX10_gap_41 : decode cX10_gap 41 = .ok (.iload_n 2, 1) := dk_28 (dk_at dksX10_gap_1 17 rfl rfl)
theorem dX10_gap_42 : decode cX10_gap 42 = .ok (.iadd, 1) := dk_96 (dk_at dksX10_gap_1 18 rfl rfl)
theorem dX10_gap_43 : decode cX10_gap 43 = .ok (.iaload, 1) := dk_46 (dk_at dksX10_gap_1 19 rfl rfl)
theorem dX10_gap_44 : decode cX10_gap 44 = .ok (.goto 4, 3) := dk_167 0 4 (dk_at dksX10_gap_1 20 rfl rfl)
theorem dX10_gap_47 : decode cX10_gap 47 = .ok (.iconst (-1), 1) := dk_2 (dk_at dksX10_gap_1 23 rfl rfl)
theorem dX10_gap_48 : decode cX10_gap 48 = .ok (.ireturn, 1) := dk_172 (dk_at dksX10_gap_2 0 rfl rfl)
abbrev cX10_jobs : ByteArray := prog_18_method_102_code
def yX10_jobs : MethodName := ⟨RX10, "jobs", "(II)I"⟩
def dkwX10_jobs_0 : List UInt8 := [42, 27, 28, 182, 2, 4, 153, 0, 12, 42, 180, 0, 67, 27, 46, 167, 0, 5, 16, 254, 172]
abbrev dktX10_jobs_0 : List UInt8 := dkwX10_jobs_0 ++ []
theorem dksX10_jobs_0 : cX10_jobs.data.toList.drop 0 = dktX10_jobs_0 := by decide +kernel
theorem dX10_jobs_0 : decode cX10_jobs 0 = .ok (.aload_n 0, 1) := dk_42 (dk_at dksX10_jobs_0 0 rfl rfl)
theorem dX10_jobs_1 : decode cX10_jobs 1 = .ok (.iload_n 1, 1) := dk_27 (dk_at dksX10_jobs_0 1 rfl rfl)
theorem dX10_jobs_2 : decode cX10_jobs 2 = .ok (.iload_n 2, 1) := dk_28 (dk_at dksX10_jobs_0 2 rfl rfl)
theorem dX10_jobs_3 : decode cX10_jobs 3 = .ok (.invokevirtual 516, 3) := dk_182 2 4 (dk_at dksX10_jobs_0 3 rfl rfl)
theorem dX10_jobs_6 : decode cX10_jobs 6 = .ok (.ifCond .eq 12, 3) := dk_153 0 12 (dk_at dksX10_jobs_0 6 rfl rfl)
theorem dX10_jobs_9 : decode cX10_jobs 9 = .ok (.aload_n 0, 1) := dk_42 (dk_at dksX10_jobs_0 9 rfl rfl)
theorem dX10_jobs_10 : decode cX10_jobs 10 = .ok (.getfield 67, 3) := dk_180 0 67 (dk_at dksX10_jobs_0 10 rfl rfl)
theorem dX10_jobs_13 : decode cX10_jobs 13 = .ok (.iload_n 1, 1) := dk_27 (dk_at dksX10_jobs_0 13 rfl rfl)
theorem dX10_jobs_14 : decode cX10_jobs 14 = .ok (.iaload, 1) := dk_46 (dk_at dksX10_jobs_0 14 rfl rfl)
theorem dX10_jobs_15 : decode cX10_jobs 15 = .ok (.goto 5, 3) := dk_167 0 5 (dk_at dksX10_jobs_0 15 rfl rfl)
theorem dX10_jobs_18 : decode cX10_jobs 18 = .ok (.bipush (-2), 2) := dk_16 254 (dk_at dksX10_jobs_0 18 rfl rfl)
theorem dX10_jobs_20 : decode cX10_jobs 20 = .ok (.ireturn, 1) := dk_172 (dk_at dksX10_jobs_0 20 rfl rfl)
abbrev cX10_at : ByteArray := prog_18_method_103_code
def yX10_at : MethodName := ⟨RX10, "at", "(II)I"⟩
def dkwX10_at_1 : List UInt8 := [167, 0, 9, 42, 180, 0, 70, 27, 46, 172]
abbrev dktX10_at_1 : List UInt8 := dkwX10_at_1 ++ []
def dkwX10_at_0 : List UInt8 := [42, 27, 28, 182, 2, 4, 154, 0, 6, 16, 254, 172, 42, 180, 0, 64, 27, 46, 2, 160, 0, 7, 2]
abbrev dktX10_at_0 : List UInt8 := dkwX10_at_0 ++ dktX10_at_1
theorem dksX10_at_0 : cX10_at.data.toList.drop 0 = dktX10_at_0 := by decide +kernel
theorem dksX10_at_1 : cX10_at.data.toList.drop 23 = dktX10_at_1 := dk_seg dksX10_at_0 23 rfl rfl
theorem dX10_at_0 : decode cX10_at 0 = .ok (.aload_n 0, 1) := dk_42 (dk_at dksX10_at_0 0 rfl rfl)
theorem dX10_at_1 : decode cX10_at 1 = .ok (.iload_n 1, 1) := dk_27 (dk_at dksX10_at_0 1 rfl rfl)
theorem dX10_at_2 : decode cX10_at 2 = .ok (.iload_n 2, 1) := dk_28 (dk_at dksX10_at_0 2 rfl rfl)
theorem dX10_at_3 : decode cX10_at 3 = .ok (.invokevirtual 516, 3) := dk_182 2 4 (dk_at dksX10_at_0 3 rfl rfl)
theorem dX10_at_6 : decode cX10_at 6 = .ok (.ifCond .ne 6, 3) := dk_154 0 6 (dk_at dksX10_at_0 6 rfl rfl)
theorem dX10_at_9 : decode cX10_at 9 = .ok (.bipush (-2), 2) := dk_16 254 (dk_at dksX10_at_0 9 rfl rfl)
theorem dX10_at_11 : decode cX10_at 11 = .ok (.ireturn, 1) := dk_172 (dk_at dksX10_at_0 11 rfl rfl)
theorem dX10_at_12 : decode cX10_at 12 = .ok (.aload_n 0, 1) := dk_42 (dk_at dksX10_at_0 12 rfl rfl)
theorem dX10_at_13 : decode cX10_at 13 = .ok (.getfield 64, 3) := dk_180 0 64 (dk_at dksX10_at_0 13 rfl rfl)
theorem dX10_at_16 : decode cX10_at 16 = .ok (.iload_n 1, 1) := dk_27 (dk_at dksX10_at_0 16 rfl rfl)
theorem dX10_at_17 : decode cX10_at 17 = .ok (.iaload, 1) := dk_46 (dk_at dksX10_at_0 17 rfl rfl)
theorem dX10_at_18 : decode cX10_at 18 = .ok (.iconst (-1), 1) := dk_2 (dk_at dksX10_at_0 18 rfl rfl)
theorem dX10_at_19 : decode cX10_at 19 = .ok (.if_icmp .ne 7, 3) := dk_160 0 7 (dk_at dksX10_at_0 19 rfl rfl)
theorem dX10_at_22 : decode cX10_at 22 = .ok (.iconst (-1), 1) := dk_2 (dk_at dksX10_at_0 22 rfl rfl)
theorem dX10_at_23 : decode cX10_at 23 = .ok (.goto 9, 3) := dk_167 0 9 (dk_at dksX10_at_1 0 rfl rfl)
theorem dX10_at_26 : decode cX10_at 26 = .ok (.aload_n 0, 1) := dk_42 (dk_at dksX10_at_1 3 rfl rfl)
theorem dX10_at_27 : decode cX10_at 27 = .ok (.getfield 70, 3) := dk_180 0 70 (dk_at dksX10_at_1 4 rfl rfl)
theorem dX10_at_30 : decode cX10_at 30 = .ok (.iload_n 1, 1) := dk_27 (dk_at dksX10_at_1 7 rfl rfl)
theorem dX10_at_31 : decode cX10_at 31 = .ok (.iaload, 1) := dk_46 (dk_at dksX10_at_1 8 rfl rfl)
theorem dX10_at_32 : decode cX10_at 32 = .ok (.ireturn, 1) := dk_172 (dk_at dksX10_at_1 9 rfl rfl)
abbrev cX10_question : ByteArray := prog_18_method_104_code
def yX10_question : MethodName := ⟨RX10, "question", "(II)I"⟩
def dkwX10_question_0 : List UInt8 := [42, 27, 28, 182, 2, 4, 153, 0, 12, 42, 180, 0, 76, 27, 46, 167, 0, 5, 16, 254, 172]
abbrev dktX10_question_0 : List UInt8 := dkwX10_question_0 ++ []
theorem dksX10_question_0 : cX10_question.data.toList.drop 0 = dktX10_question_0 := by decide +kernel
theorem dX10_question_0 : decode cX10_question 0 = .ok (.aload_n 0, 1) := dk_42 (dk_at dksX10_question_0 0 rfl rfl)
theorem dX10_question_1 : decode cX10_question 1 = .ok (.iload_n 1, 1) := dk_27 (dk_at dksX10_question_0 1 rfl rfl)
theorem dX10_question_2 : decode cX10_question 2 = .ok (.iload_n 2, 1) := dk_28 (dk_at dksX10_question_0 2 rfl rfl)
theorem dX10_question_3 : decode cX10_question 3 = .ok (.invokevirtual 516, 3) := dk_182 2 4 (dk_at dksX10_question_0 3 rfl rfl)
theorem dX10_question_6 : decode cX10_question 6 = .ok (.ifCond .eq 12, 3) := dk_153 0 12 (dk_at dksX10_question_0 6 rfl rfl)
theorem dX10_question_9 : decode cX10_question 9 = .ok (.aload_n 0, 1) := dk_42 (dk_at dksX10_question_0 9 rfl rfl)
theorem dX10_question_10 : decode cX10_question 10 = .ok (.getfield 76, 3) := dk_180 0 76 (dk_at dksX10_question_0 10 rfl rfl)
theorem dX10_question_13 : decode cX10_question 13 = .ok (.iload_n 1, 1) := dk_27 (dk_at dksX10_question_0 13 rfl rfl)
theorem dX10_question_14 : decode cX10_question 14 = .ok (.iaload, 1) := dk_46 (dk_at dksX10_question_0 14 rfl rfl)
theorem dX10_question_15 : decode cX10_question 15 = .ok (.goto 5, 3) := dk_167 0 5 (dk_at dksX10_question_0 15 rfl rfl)
theorem dX10_question_18 : decode cX10_question 18 = .ok (.bipush (-2), 2) := dk_16 254 (dk_at dksX10_question_0 18 rfl rfl)
theorem dX10_question_20 : decode cX10_question 20 = .ok (.ireturn, 1) := dk_172 (dk_at dksX10_question_0 20 rfl rfl)
abbrev cX10_start : ByteArray := prog_18_method_105_code
def yX10_start : MethodName := ⟨RX10, "start", "(II)I"⟩
def dkwX10_start_0 : List UInt8 := [42, 27, 28, 182, 2, 4, 153, 0, 12, 42, 180, 0, 61, 27, 46, 167, 0, 5, 16, 254, 172]
abbrev dktX10_start_0 : List UInt8 := dkwX10_start_0 ++ []
theorem dksX10_start_0 : cX10_start.data.toList.drop 0 = dktX10_start_0 := by decide +kernel
theorem dX10_start_0 : decode cX10_start 0 = .ok (.aload_n 0, 1) := dk_42 (dk_at dksX10_start_0 0 rfl rfl)
theorem dX10_start_1 : decode cX10_start 1 = .ok (.iload_n 1, 1) := dk_27 (dk_at dksX10_start_0 1 rfl rfl)
theorem dX10_start_2 : decode cX10_start 2 = .ok (.iload_n 2, 1) := dk_28 (dk_at dksX10_start_0 2 rfl rfl)
theorem dX10_start_3 : decode cX10_start 3 = .ok (.invokevirtual 516, 3) := dk_182 2 4 (dk_at dksX10_start_0 3 rfl rfl)
theorem dX10_start_6 : decode cX10_start 6 = .ok (.ifCond .eq 12, 3) := dk_153 0 12 (dk_at dksX10_start_0 6 rfl rfl)
theorem dX10_start_9 : decode cX10_start 9 = .ok (.aload_n 0, 1) := dk_42 (dk_at dksX10_start_0 9 rfl rfl)
theorem dX10_start_10 : decode cX10_start 10 = .ok (.getfield 61, 3) := dk_180 0 61 (dk_at dksX10_start_0 10 rfl rfl)
theorem dX10_start_13 : decode cX10_start 13 = .ok (.iload_n 1, 1) := dk_27 (dk_at dksX10_start_0 13 rfl rfl)
theorem dX10_start_14 : decode cX10_start 14 = .ok (.iaload, 1) := dk_46 (dk_at dksX10_start_0 14 rfl rfl)
theorem dX10_start_15 : decode cX10_start 15 = .ok (.goto 5, 3) := dk_167 0 5 (dk_at dksX10_start_0 15 rfl rfl)
theorem dX10_start_18 : decode cX10_start 18 = .ok (.bipush (-2), 2) := dk_16 254 (dk_at dksX10_start_0 18 rfl rfl)
theorem dX10_start_20 : decode cX10_start 20 = .ok (.ireturn, 1) := dk_172 (dk_at dksX10_start_0 20 rfl rfl)
abbrev cX10_memory : ByteArray := prog_18_method_106_code
def yX10_memory : MethodName := ⟨RX10, "memory", "(II)I"⟩
def dkwX10_memory_0 : List UInt8 := [42, 27, 28, 182, 2, 4, 153, 0, 12, 42, 180, 0, 88, 27, 46, 167, 0, 5, 16, 254, 172]
abbrev dktX10_memory_0 : List UInt8 := dkwX10_memory_0 ++ []
theorem dksX10_memory_0 : cX10_memory.data.toList.drop 0 = dktX10_memory_0 := by decide +kernel
theorem dX10_memory_0 : decode cX10_memory 0 = .ok (.aload_n 0, 1) := dk_42 (dk_at dksX10_memory_0 0 rfl rfl)
theorem dX10_memory_1 : decode cX10_memory 1 = .ok (.iload_n 1, 1) := dk_27 (dk_at dksX10_memory_0 1 rfl rfl)
theorem dX10_memory_2 : decode cX10_memory 2 = .ok (.iload_n 2, 1) := dk_28 (dk_at dksX10_memory_0 2 rfl rfl)
theorem dX10_memory_3 : decode cX10_memory 3 = .ok (.invokevirtual 516, 3) := dk_182 2 4 (dk_at dksX10_memory_0 3 rfl rfl)
theorem dX10_memory_6 : decode cX10_memory 6 = .ok (.ifCond .eq 12, 3) := dk_153 0 12 (dk_at dksX10_memory_0 6 rfl rfl)
theorem dX10_memory_9 : decode cX10_memory 9 = .ok (.aload_n 0, 1) := dk_42 (dk_at dksX10_memory_0 9 rfl rfl)
theorem dX10_memory_10 : decode cX10_memory 10 = .ok (.getfield 88, 3) := dk_180 0 88 (dk_at dksX10_memory_0 10 rfl rfl)
theorem dX10_memory_13 : decode cX10_memory 13 = .ok (.iload_n 1, 1) := dk_27 (dk_at dksX10_memory_0 13 rfl rfl)
theorem dX10_memory_14 : decode cX10_memory 14 = .ok (.iaload, 1) := dk_46 (dk_at dksX10_memory_0 14 rfl rfl)
theorem dX10_memory_15 : decode cX10_memory 15 = .ok (.goto 5, 3) := dk_167 0 5 (dk_at dksX10_memory_0 15 rfl rfl)
theorem dX10_memory_18 : decode cX10_memory 18 = .ok (.bipush (-2), 2) := dk_16 254 (dk_at dksX10_memory_0 18 rfl rfl)
theorem dX10_memory_20 : decode cX10_memory 20 = .ok (.ireturn, 1) := dk_172 (dk_at dksX10_memory_0 20 rfl rfl)
abbrev cX10_health : ByteArray := prog_18_method_107_code
def yX10_health : MethodName := ⟨RX10, "health", "(II)I"⟩
def dkwX10_health_0 : List UInt8 := [42, 27, 28, 182, 2, 4, 153, 0, 15, 42, 180, 0, 91, 27, 48, 184, 1, 132, 167, 0, 5, 16, 254, 172]
abbrev dktX10_health_0 : List UInt8 := dkwX10_health_0 ++ []
theorem dksX10_health_0 : cX10_health.data.toList.drop 0 = dktX10_health_0 := by decide +kernel
theorem dX10_health_0 : decode cX10_health 0 = .ok (.aload_n 0, 1) := dk_42 (dk_at dksX10_health_0 0 rfl rfl)
theorem dX10_health_1 : decode cX10_health 1 = .ok (.iload_n 1, 1) := dk_27 (dk_at dksX10_health_0 1 rfl rfl)
theorem dX10_health_2 : decode cX10_health 2 = .ok (.iload_n 2, 1) := dk_28 (dk_at dksX10_health_0 2 rfl rfl)
theorem dX10_health_3 : decode cX10_health 3 = .ok (.invokevirtual 516, 3) := dk_182 2 4 (dk_at dksX10_health_0 3 rfl rfl)
theorem dX10_health_6 : decode cX10_health 6 = .ok (.ifCond .eq 15, 3) := dk_153 0 15 (dk_at dksX10_health_0 6 rfl rfl)
theorem dX10_health_9 : decode cX10_health 9 = .ok (.aload_n 0, 1) := dk_42 (dk_at dksX10_health_0 9 rfl rfl)
theorem dX10_health_10 : decode cX10_health 10 = .ok (.getfield 91, 3) := dk_180 0 91 (dk_at dksX10_health_0 10 rfl rfl)
theorem dX10_health_13 : decode cX10_health 13 = .ok (.iload_n 1, 1) := dk_27 (dk_at dksX10_health_0 13 rfl rfl)
theorem dX10_health_14 : decode cX10_health 14 = .ok (.faload, 1) := dk_48 (dk_at dksX10_health_0 14 rfl rfl)
theorem dX10_health_15 : decode cX10_health 15 = .ok (.invokestatic 388, 3) := dk_184 1 132 (dk_at dksX10_health_0 15 rfl rfl)
theorem dX10_health_18 : decode cX10_health 18 = .ok (.goto 5, 3) := dk_167 0 5 (dk_at dksX10_health_0 18 rfl rfl)
theorem dX10_health_21 : decode cX10_health 21 = .ok (.bipush (-2), 2) := dk_16 254 (dk_at dksX10_health_0 21 rfl rfl)
theorem dX10_health_23 : decode cX10_health 23 = .ok (.ireturn, 1) := dk_172 (dk_at dksX10_health_0 23 rfl rfl)
abbrev cX10_tenths : ByteArray := prog_18_method_108_code
def yX10_tenths : MethodName := ⟨RX10, "tenths", "(II)I"⟩
def dkwX10_tenths_1 : List UInt8 := [16, 254, 172]
abbrev dktX10_tenths_1 : List UInt8 := dkwX10_tenths_1 ++ []
def dkwX10_tenths_0 : List UInt8 := [42, 27, 28, 182, 2, 4, 153, 0, 17, 42, 180, 0, 91, 27, 48, 19, 1, 190, 106, 139, 167, 0, 5]
abbrev dktX10_tenths_0 : List UInt8 := dkwX10_tenths_0 ++ dktX10_tenths_1
theorem dksX10_tenths_0 : cX10_tenths.data.toList.drop 0 = dktX10_tenths_0 := by decide +kernel
theorem dksX10_tenths_1 : cX10_tenths.data.toList.drop 23 = dktX10_tenths_1 := dk_seg dksX10_tenths_0 23 rfl rfl
theorem dX10_tenths_0 : decode cX10_tenths 0 = .ok (.aload_n 0, 1) := dk_42 (dk_at dksX10_tenths_0 0 rfl rfl)
theorem dX10_tenths_1 : decode cX10_tenths 1 = .ok (.iload_n 1, 1) := dk_27 (dk_at dksX10_tenths_0 1 rfl rfl)
theorem dX10_tenths_2 : decode cX10_tenths 2 = .ok (.iload_n 2, 1) := dk_28 (dk_at dksX10_tenths_0 2 rfl rfl)
theorem dX10_tenths_3 : decode cX10_tenths 3 = .ok (.invokevirtual 516, 3) := dk_182 2 4 (dk_at dksX10_tenths_0 3 rfl rfl)
theorem dX10_tenths_6 : decode cX10_tenths 6 = .ok (.ifCond .eq 17, 3) := dk_153 0 17 (dk_at dksX10_tenths_0 6 rfl rfl)
theorem dX10_tenths_9 : decode cX10_tenths 9 = .ok (.aload_n 0, 1) := dk_42 (dk_at dksX10_tenths_0 9 rfl rfl)
theorem dX10_tenths_10 : decode cX10_tenths 10 = .ok (.getfield 91, 3) := dk_180 0 91 (dk_at dksX10_tenths_0 10 rfl rfl)
theorem dX10_tenths_13 : decode cX10_tenths 13 = .ok (.iload_n 1, 1) := dk_27 (dk_at dksX10_tenths_0 13 rfl rfl)
theorem dX10_tenths_14 : decode cX10_tenths 14 = .ok (.faload, 1) := dk_48 (dk_at dksX10_tenths_0 14 rfl rfl)
theorem dX10_tenths_15 : decode cX10_tenths 15 = .ok (.ldc_w 446, 3) := dk_19 1 190 (dk_at dksX10_tenths_0 15 rfl rfl)
theorem dX10_tenths_18 : decode cX10_tenths 18 = .ok (.fmul, 1) := dk_106 (dk_at dksX10_tenths_0 18 rfl rfl)
theorem dX10_tenths_19 : decode cX10_tenths 19 = .ok (.f2i, 1) := dk_139 (dk_at dksX10_tenths_0 19 rfl rfl)
theorem dX10_tenths_20 : decode cX10_tenths 20 = .ok (.goto 5, 3) := dk_167 0 5 (dk_at dksX10_tenths_0 20 rfl rfl)
theorem dX10_tenths_23 : decode cX10_tenths 23 = .ok (.bipush (-2), 2) := dk_16 254 (dk_at dksX10_tenths_1 0 rfl rfl)
theorem dX10_tenths_25 : decode cX10_tenths 25 = .ok (.ireturn, 1) := dk_172 (dk_at dksX10_tenths_1 2 rfl rfl)
abbrev cX10_margin : ByteArray := prog_18_method_109_code
def yX10_margin : MethodName := ⟨RX10, "margin", "(II)I"⟩
def dkwX10_margin_1 : List UInt8 := [167, 0, 12, 42, 180, 0, 107, 27, 48, 184, 1, 132, 172]
abbrev dktX10_margin_1 : List UInt8 := dkwX10_margin_1 ++ []
def dkwX10_margin_0 : List UInt8 := [42, 27, 28, 182, 2, 4, 154, 0, 6, 16, 254, 172, 42, 180, 0, 114, 27, 46, 154, 0, 7, 2]
abbrev dktX10_margin_0 : List UInt8 := dkwX10_margin_0 ++ dktX10_margin_1
theorem dksX10_margin_0 : cX10_margin.data.toList.drop 0 = dktX10_margin_0 := by decide +kernel
theorem dksX10_margin_1 : cX10_margin.data.toList.drop 22 = dktX10_margin_1 := dk_seg dksX10_margin_0 22 rfl rfl
theorem dX10_margin_0 : decode cX10_margin 0 = .ok (.aload_n 0, 1) := dk_42 (dk_at dksX10_margin_0 0 rfl rfl)
theorem dX10_margin_1 : decode cX10_margin 1 = .ok (.iload_n 1, 1) := dk_27 (dk_at dksX10_margin_0 1 rfl rfl)
theorem dX10_margin_2 : decode cX10_margin 2 = .ok (.iload_n 2, 1) := dk_28 (dk_at dksX10_margin_0 2 rfl rfl)
theorem dX10_margin_3 : decode cX10_margin 3 = .ok (.invokevirtual 516, 3) := dk_182 2 4 (dk_at dksX10_margin_0 3 rfl rfl)
theorem dX10_margin_6 : decode cX10_margin 6 = .ok (.ifCond .ne 6, 3) := dk_154 0 6 (dk_at dksX10_margin_0 6 rfl rfl)
theorem dX10_margin_9 : decode cX10_margin 9 = .ok (.bipush (-2), 2) := dk_16 254 (dk_at dksX10_margin_0 9 rfl rfl)
theorem dX10_margin_11 : decode cX10_margin 11 = .ok (.ireturn, 1) := dk_172 (dk_at dksX10_margin_0 11 rfl rfl)
theorem dX10_margin_12 : decode cX10_margin 12 = .ok (.aload_n 0, 1) := dk_42 (dk_at dksX10_margin_0 12 rfl rfl)
theorem dX10_margin_13 : decode cX10_margin 13 = .ok (.getfield 114, 3) := dk_180 0 114 (dk_at dksX10_margin_0 13 rfl rfl)
theorem dX10_margin_16 : decode cX10_margin 16 = .ok (.iload_n 1, 1) := dk_27 (dk_at dksX10_margin_0 16 rfl rfl)
theorem dX10_margin_17 : decode cX10_margin 17 = .ok (.iaload, 1) := dk_46 (dk_at dksX10_margin_0 17 rfl rfl)
theorem dX10_margin_18 : decode cX10_margin 18 = .ok (.ifCond .ne 7, 3) := dk_154 0 7 (dk_at dksX10_margin_0 18 rfl rfl)
theorem dX10_margin_21 : decode cX10_margin 21 = .ok (.iconst (-1), 1) := dk_2 (dk_at dksX10_margin_0 21 rfl rfl)
theorem dX10_margin_22 : decode cX10_margin 22 = .ok (.goto 12, 3) := dk_167 0 12 (dk_at dksX10_margin_1 0 rfl rfl)
theorem dX10_margin_25 : decode cX10_margin 25 = .ok (.aload_n 0, 1) := dk_42 (dk_at dksX10_margin_1 3 rfl rfl)
theorem dX10_margin_26 : decode cX10_margin 26 = .ok (.getfield 107, 3) := dk_180 0 107 (dk_at dksX10_margin_1 4 rfl rfl)
theorem dX10_margin_29 : decode cX10_margin 29 = .ok (.iload_n 1, 1) := dk_27 (dk_at dksX10_margin_1 7 rfl rfl)
theorem dX10_margin_30 : decode cX10_margin 30 = .ok (.faload, 1) := dk_48 (dk_at dksX10_margin_1 8 rfl rfl)
theorem dX10_margin_31 : decode cX10_margin 31 = .ok (.invokestatic 388, 3) := dk_184 1 132 (dk_at dksX10_margin_1 9 rfl rfl)
theorem dX10_margin_34 : decode cX10_margin 34 = .ok (.ireturn, 1) := dk_172 (dk_at dksX10_margin_1 12 rfl rfl)
abbrev cX10_mean : ByteArray := prog_18_method_110_code
def yX10_mean : MethodName := ⟨RX10, "mean", "(II)J"⟩
def dkwX10_mean_1 : List UInt8 := [20, 2, 9, 167, 0, 20, 42, 180, 0, 110, 27, 49, 42, 180, 0, 114, 27, 46, 135, 111, 184, 2, 11, 173]
abbrev dktX10_mean_1 : List UInt8 := dkwX10_mean_1 ++ []
def dkwX10_mean_0 : List UInt8 := [42, 27, 28, 182, 2, 4, 154, 0, 7, 20, 2, 7, 173, 42, 180, 0, 114, 27, 46, 154, 0, 9]
abbrev dktX10_mean_0 : List UInt8 := dkwX10_mean_0 ++ dktX10_mean_1
theorem dksX10_mean_0 : cX10_mean.data.toList.drop 0 = dktX10_mean_0 := by decide +kernel
theorem dksX10_mean_1 : cX10_mean.data.toList.drop 22 = dktX10_mean_1 := dk_seg dksX10_mean_0 22 rfl rfl
theorem dX10_mean_0 : decode cX10_mean 0 = .ok (.aload_n 0, 1) := dk_42 (dk_at dksX10_mean_0 0 rfl rfl)
theorem dX10_mean_1 : decode cX10_mean 1 = .ok (.iload_n 1, 1) := dk_27 (dk_at dksX10_mean_0 1 rfl rfl)
theorem dX10_mean_2 : decode cX10_mean 2 = .ok (.iload_n 2, 1) := dk_28 (dk_at dksX10_mean_0 2 rfl rfl)
theorem dX10_mean_3 : decode cX10_mean 3 = .ok (.invokevirtual 516, 3) := dk_182 2 4 (dk_at dksX10_mean_0 3 rfl rfl)
theorem dX10_mean_6 : decode cX10_mean 6 = .ok (.ifCond .ne 7, 3) := dk_154 0 7 (dk_at dksX10_mean_0 6 rfl rfl)
theorem dX10_mean_9 : decode cX10_mean 9 = .ok (.ldc2_w 519, 3) := dk_20 2 7 (dk_at dksX10_mean_0 9 rfl rfl)
theorem dX10_mean_12 : decode cX10_mean 12 = .ok (.lreturn, 1) := dk_173 (dk_at dksX10_mean_0 12 rfl rfl)
theorem dX10_mean_13 : decode cX10_mean 13 = .ok (.aload_n 0, 1) := dk_42 (dk_at dksX10_mean_0 13 rfl rfl)
theorem dX10_mean_14 : decode cX10_mean 14 = .ok (.getfield 114, 3) := dk_180 0 114 (dk_at dksX10_mean_0 14 rfl rfl)
theorem dX10_mean_17 : decode cX10_mean 17 = .ok (.iload_n 1, 1) := dk_27 (dk_at dksX10_mean_0 17 rfl rfl)
theorem dX10_mean_18 : decode cX10_mean 18 = .ok (.iaload, 1) := dk_46 (dk_at dksX10_mean_0 18 rfl rfl)
theorem dX10_mean_19 : decode cX10_mean 19 = .ok (.ifCond .ne 9, 3) := dk_154 0 9 (dk_at dksX10_mean_0 19 rfl rfl)
theorem dX10_mean_22 : decode cX10_mean 22 = .ok (.ldc2_w 521, 3) := dk_20 2 9 (dk_at dksX10_mean_1 0 rfl rfl)
theorem dX10_mean_25 : decode cX10_mean 25 = .ok (.goto 20, 3) := dk_167 0 20 (dk_at dksX10_mean_1 3 rfl rfl)
theorem dX10_mean_28 : decode cX10_mean 28 = .ok (.aload_n 0, 1) := dk_42 (dk_at dksX10_mean_1 6 rfl rfl)
theorem dX10_mean_29 : decode cX10_mean 29 = .ok (.getfield 110, 3) := dk_180 0 110 (dk_at dksX10_mean_1 7 rfl rfl)
theorem dX10_mean_32 : decode cX10_mean 32 = .ok (.iload_n 1, 1) := dk_27 (dk_at dksX10_mean_1 10 rfl rfl)
theorem dX10_mean_33 : decode cX10_mean 33 = .ok (.daload, 1) := dk_49 (dk_at dksX10_mean_1 11 rfl rfl)
theorem dX10_mean_34 : decode cX10_mean 34 = .ok (.aload_n 0, 1) := dk_42 (dk_at dksX10_mean_1 12 rfl rfl)
theorem dX10_mean_35 : decode cX10_mean 35 = .ok (.getfield 114, 3) := dk_180 0 114 (dk_at dksX10_mean_1 13 rfl rfl)
theorem dX10_mean_38 : decode cX10_mean 38 = .ok (.iload_n 1, 1) := dk_27 (dk_at dksX10_mean_1 16 rfl rfl)
theorem dX10_mean_39 : decode cX10_mean 39 = .ok (.iaload, 1) := dk_46 (dk_at dksX10_mean_1 17 rfl rfl)
theorem dX10_mean_40 : decode cX10_mean 40 = .ok (.i2d, 1) := dk_135 (dk_at dksX10_mean_1 18 rfl rfl)
theorem dX10_mean_41 : decode cX10_mean 41 = .ok (.ddiv, 1) := dk_111 (dk_at dksX10_mean_1 19 rfl rfl)
theorem dX10_mean_42 : decode cX10_mean 42 = .ok (.invokestatic 523, 3) := dk_184 2 11 (dk_at dksX10_mean_1 20 rfl rfl)
theorem dX10_mean_45 : decode cX10_mean 45 = .ok (.lreturn, 1) := dk_173 (dk_at dksX10_mean_1 23 rfl rfl)
abbrev cX10_faults : ByteArray := prog_18_method_111_code
def yX10_faults : MethodName := ⟨RX10, "faults", "(I)I"⟩
def dkwX10_faults_0 : List UInt8 := [42, 27, 182, 1, 254, 153, 0, 10, 42, 180, 1, 162, 167, 0, 5, 16, 254, 172]
abbrev dktX10_faults_0 : List UInt8 := dkwX10_faults_0 ++ []
theorem dksX10_faults_0 : cX10_faults.data.toList.drop 0 = dktX10_faults_0 := by decide +kernel
theorem dX10_faults_0 : decode cX10_faults 0 = .ok (.aload_n 0, 1) := dk_42 (dk_at dksX10_faults_0 0 rfl rfl)
theorem dX10_faults_1 : decode cX10_faults 1 = .ok (.iload_n 1, 1) := dk_27 (dk_at dksX10_faults_0 1 rfl rfl)
theorem dX10_faults_2 : decode cX10_faults 2 = .ok (.invokevirtual 510, 3) := dk_182 1 254 (dk_at dksX10_faults_0 2 rfl rfl)
theorem dX10_faults_5 : decode cX10_faults 5 = .ok (.ifCond .eq 10, 3) := dk_153 0 10 (dk_at dksX10_faults_0 5 rfl rfl)
theorem dX10_faults_8 : decode cX10_faults 8 = .ok (.aload_n 0, 1) := dk_42 (dk_at dksX10_faults_0 8 rfl rfl)
theorem dX10_faults_9 : decode cX10_faults 9 = .ok (.getfield 418, 3) := dk_180 1 162 (dk_at dksX10_faults_0 9 rfl rfl)
theorem dX10_faults_12 : decode cX10_faults 12 = .ok (.goto 5, 3) := dk_167 0 5 (dk_at dksX10_faults_0 12 rfl rfl)
theorem dX10_faults_15 : decode cX10_faults 15 = .ok (.bipush (-2), 2) := dk_16 254 (dk_at dksX10_faults_0 15 rfl rfl)
theorem dX10_faults_17 : decode cX10_faults 17 = .ok (.ireturn, 1) := dk_172 (dk_at dksX10_faults_0 17 rfl rfl)
abbrev cX10_record : ByteArray := prog_18_method_112_code
def yX10_record : MethodName := ⟨RX10, "record", "(II)I"⟩
def dkwX10_record_3 : List UInt8 := [180, 0, 141, 27, 46, 167, 0, 9, 42, 180, 0, 144, 27, 46, 172]
abbrev dktX10_record_3 : List UInt8 := dkwX10_record_3 ++ []
def dkwX10_record_2 : List UInt8 := [167, 0, 37, 28, 4, 160, 0, 12, 42, 180, 0, 138, 27, 46, 167, 0, 23, 28, 5, 160, 0, 12, 42]
abbrev dktX10_record_2 : List UInt8 := dkwX10_record_2 ++ dktX10_record_3
def dkwX10_record_1 : List UInt8 := [16, 254, 172, 27, 42, 180, 1, 162, 161, 0, 5, 2, 172, 28, 154, 0, 12, 42, 180, 0, 135, 27, 46]
abbrev dktX10_record_1 : List UInt8 := dkwX10_record_1 ++ dktX10_record_2
def dkwX10_record_0 : List UInt8 := [27, 155, 0, 22, 28, 133, 9, 20, 1, 114, 184, 0, 152, 153, 0, 10, 42, 182, 2, 1, 154, 0, 6]
abbrev dktX10_record_0 : List UInt8 := dkwX10_record_0 ++ dktX10_record_1
theorem dksX10_record_0 : cX10_record.data.toList.drop 0 = dktX10_record_0 := by decide +kernel
theorem dksX10_record_1 : cX10_record.data.toList.drop 23 = dktX10_record_1 := dk_seg dksX10_record_0 23 rfl rfl
theorem dksX10_record_2 : cX10_record.data.toList.drop 46 = dktX10_record_2 := dk_seg dksX10_record_1 23 rfl rfl
theorem dksX10_record_3 : cX10_record.data.toList.drop 69 = dktX10_record_3 := dk_seg dksX10_record_2 23 rfl rfl
theorem dX10_record_0 : decode cX10_record 0 = .ok (.iload_n 1, 1) := dk_27 (dk_at dksX10_record_0 0 rfl rfl)
theorem dX10_record_1 : decode cX10_record 1 = .ok (.ifCond .lt 22, 3) := dk_155 0 22 (dk_at dksX10_record_0 1 rfl rfl)
theorem dX10_record_4 : decode cX10_record 4 = .ok (.iload_n 2, 1) := dk_28 (dk_at dksX10_record_0 4 rfl rfl)
theorem dX10_record_5 : decode cX10_record 5 = .ok (.i2l, 1) := dk_133 (dk_at dksX10_record_0 5 rfl rfl)
theorem dX10_record_6 : decode cX10_record 6 = .ok (.lconst 0, 1) := dk_9 (dk_at dksX10_record_0 6 rfl rfl)
theorem dX10_record_7 : decode cX10_record 7 = .ok (.ldc2_w 370, 3) := dk_20 1 114 (dk_at dksX10_record_0 7 rfl rfl)
theorem dX10_record_10 : decode cX10_record 10 = .ok (.invokestatic 152, 3) := dk_184 0 152 (dk_at dksX10_record_0 10 rfl rfl)
theorem dX10_record_13 : decode cX10_record 13 = .ok (.ifCond .eq 10, 3) := dk_153 0 10 (dk_at dksX10_record_0 13 rfl rfl)
theorem dX10_record_16 : decode cX10_record 16 = .ok (.aload_n 0, 1) := dk_42 (dk_at dksX10_record_0 16 rfl rfl)
theorem dX10_record_17 : decode cX10_record 17 = .ok (.invokevirtual 513, 3) := dk_182 2 1 (dk_at dksX10_record_0 17 rfl rfl)
theorem dX10_record_20 : decode cX10_record 20 = .ok (.ifCond .ne 6, 3) := dk_154 0 6 (dk_at dksX10_record_0 20 rfl rfl)
theorem dX10_record_23 : decode cX10_record 23 = .ok (.bipush (-2), 2) := dk_16 254 (dk_at dksX10_record_1 0 rfl rfl)
theorem dX10_record_25 : decode cX10_record 25 = .ok (.ireturn, 1) := dk_172 (dk_at dksX10_record_1 2 rfl rfl)
theorem dX10_record_26 : decode cX10_record 26 = .ok (.iload_n 1, 1) := dk_27 (dk_at dksX10_record_1 3 rfl rfl)
theorem dX10_record_27 : decode cX10_record 27 = .ok (.aload_n 0, 1) := dk_42 (dk_at dksX10_record_1 4 rfl rfl)
theorem dX10_record_28 : decode cX10_record 28 = .ok (.getfield 418, 3) := dk_180 1 162 (dk_at dksX10_record_1 5 rfl rfl)
theorem dX10_record_31 : decode cX10_record 31 = .ok (.if_icmp .lt 5, 3) := dk_161 0 5 (dk_at dksX10_record_1 8 rfl rfl)
theorem dX10_record_34 : decode cX10_record 34 = .ok (.iconst (-1), 1) := dk_2 (dk_at dksX10_record_1 11 rfl rfl)
theorem dX10_record_35 : decode cX10_record 35 = .ok (.ireturn, 1) := dk_172 (dk_at dksX10_record_1 12 rfl rfl)
theorem dX10_record_36 : decode cX10_record 36 = .ok (.iload_n 2, 1) := dk_28 (dk_at dksX10_record_1 13 rfl rfl)
theorem dX10_record_37 : decode cX10_record 37 = .ok (.ifCond .ne 12, 3) := dk_154 0 12 (dk_at dksX10_record_1 14 rfl rfl)
theorem dX10_record_40 : decode cX10_record 40 = .ok (.aload_n 0, 1) := dk_42 (dk_at dksX10_record_1 17 rfl rfl)
theorem dX10_record_41 : decode cX10_record 41 = .ok (.getfield 135, 3) := dk_180 0 135 (dk_at dksX10_record_1 18 rfl rfl)
theorem dX10_record_44 : decode cX10_record 44 = .ok (.iload_n 1, 1) := dk_27 (dk_at dksX10_record_1 21 rfl rfl)
theorem dX10_record_45 : decode cX10_record 45 = .ok (.iaload, 1) := dk_46 (dk_at dksX10_record_1 22 rfl rfl)
theorem dX10_record_46 : decode cX10_record 46 = .ok (.goto 37, 3) := dk_167 0 37 (dk_at dksX10_record_2 0 rfl rfl)
theorem dX10_record_49 : decode cX10_record 49 = .ok (.iload_n 2, 1) := dk_28 (dk_at dksX10_record_2 3 rfl rfl)
theorem dX10_record_50 : decode cX10_record 50 = .ok (.iconst 1, 1) := dk_4 (dk_at dksX10_record_2 4 rfl rfl)
theorem dX10_record_51 : decode cX10_record 51 = .ok (.if_icmp .ne 12, 3) := dk_160 0 12 (dk_at dksX10_record_2 5 rfl rfl)
theorem dX10_record_54 : decode cX10_record 54 = .ok (.aload_n 0, 1) := dk_42 (dk_at dksX10_record_2 8 rfl rfl)
theorem dX10_record_55 : decode cX10_record 55 = .ok (.getfield 138, 3) := dk_180 0 138 (dk_at dksX10_record_2 9 rfl rfl)
theorem dX10_record_58 : decode cX10_record 58 = .ok (.iload_n 1, 1) := dk_27 (dk_at dksX10_record_2 12 rfl rfl)
theorem dX10_record_59 : decode cX10_record 59 = .ok (.iaload, 1) := dk_46 (dk_at dksX10_record_2 13 rfl rfl)
theorem dX10_record_60 : decode cX10_record 60 = .ok (.goto 23, 3) := dk_167 0 23 (dk_at dksX10_record_2 14 rfl rfl)
theorem dX10_record_63 : decode cX10_record 63 = .ok (.iload_n 2, 1) := dk_28 (dk_at dksX10_record_2 17 rfl rfl)
theorem dX10_record_64 : decode cX10_record 64 = .ok (.iconst 2, 1) := dk_5 (dk_at dksX10_record_2 18 rfl rfl)
theorem dX10_record_65 : decode cX10_record 65 = .ok (.if_icmp .ne 12, 3) := dk_160 0 12 (dk_at dksX10_record_2 19 rfl rfl)
theorem dX10_record_68 : decode cX10_record 68 = .ok (.aload_n 0, 1) := dk_42 (dk_at dksX10_record_2 22 rfl rfl)
theorem dX10_record_69 : decode cX10_record 69 = .ok (.getfield 141, 3) := dk_180 0 141 (dk_at dksX10_record_3 0 rfl rfl)
theorem dX10_record_72 : decode cX10_record 72 = .ok (.iload_n 1, 1) := dk_27 (dk_at dksX10_record_3 3 rfl rfl)
theorem dX10_record_73 : decode cX10_record 73 = .ok (.iaload, 1) := dk_46 (dk_at dksX10_record_3 4 rfl rfl)
theorem dX10_record_74 : decode cX10_record 74 = .ok (.goto 9, 3) := dk_167 0 9 (dk_at dksX10_record_3 5 rfl rfl)
theorem dX10_record_77 : decode cX10_record 77 = .ok (.aload_n 0, 1) := dk_42 (dk_at dksX10_record_3 8 rfl rfl)
theorem dX10_record_78 : decode cX10_record 78 = .ok (.getfield 144, 3) := dk_180 0 144 (dk_at dksX10_record_3 9 rfl rfl)
theorem dX10_record_81 : decode cX10_record 81 = .ok (.iload_n 1, 1) := dk_27 (dk_at dksX10_record_3 12 rfl rfl)
theorem dX10_record_82 : decode cX10_record 82 = .ok (.iaload, 1) := dk_46 (dk_at dksX10_record_3 13 rfl rfl)
theorem dX10_record_83 : decode cX10_record 83 = .ok (.ireturn, 1) := dk_172 (dk_at dksX10_record_3 14 rfl rfl)
abbrev cX10_ledger : ByteArray := prog_18_method_113_code
def yX10_ledger : MethodName := ⟨RX10, "ledger", "(I)I"⟩
def dkwX10_ledger_3 : List UInt8 := [167, 255, 209, 28, 172]
abbrev dktX10_ledger_3 : List UInt8 := dkwX10_ledger_3 ++ []
def dkwX10_ledger_2 : List UInt8 := [27, 4, 160, 0, 7, 4, 167, 0, 4, 3, 160, 0, 7, 4, 167, 0, 4, 3, 96, 61, 132, 3, 1]
abbrev dktX10_ledger_2 : List UInt8 := dkwX10_ledger_2 ++ dktX10_ledger_3
def dkwX10_ledger_1 : List UInt8 := [29, 42, 180, 1, 162, 162, 0, 45, 28, 42, 180, 0, 138, 29, 46, 8, 164, 0, 7, 4, 167, 0, 4, 3]
abbrev dktX10_ledger_1 : List UInt8 := dkwX10_ledger_1 ++ dktX10_ledger_2
def dkwX10_ledger_0 : List UInt8 := [27, 133, 9, 10, 184, 0, 152, 153, 0, 10, 42, 182, 2, 1, 154, 0, 6, 16, 254, 172, 3, 61, 3, 62]
abbrev dktX10_ledger_0 : List UInt8 := dkwX10_ledger_0 ++ dktX10_ledger_1
theorem dksX10_ledger_0 : cX10_ledger.data.toList.drop 0 = dktX10_ledger_0 := by decide +kernel
theorem dksX10_ledger_1 : cX10_ledger.data.toList.drop 24 = dktX10_ledger_1 := dk_seg dksX10_ledger_0 24 rfl rfl
theorem dksX10_ledger_2 : cX10_ledger.data.toList.drop 48 = dktX10_ledger_2 := dk_seg dksX10_ledger_1 24 rfl rfl
theorem dksX10_ledger_3 : cX10_ledger.data.toList.drop 71 = dktX10_ledger_3 := dk_seg dksX10_ledger_2 23 rfl rfl
theorem dX10_ledger_0 : decode cX10_ledger 0 = .ok (.iload_n 1, 1) := dk_27 (dk_at dksX10_ledger_0 0 rfl rfl)
theorem dX10_ledger_1 : decode cX10_ledger 1 = .ok (.i2l, 1) := dk_133 (dk_at dksX10_ledger_0 1 rfl rfl)
theorem dX10_ledger_2 : decode cX10_ledger 2 = .ok (.lconst 0, 1) := dk_9 (dk_at dksX10_ledger_0 2 rfl rfl)
theorem dX10_ledger_3 : decode cX10_ledger 3 = .ok (.lconst 1, 1) := dk_10 (dk_at dksX10_ledger_0 3 rfl rfl)
theorem dX10_ledger_4 : decode cX10_ledger 4 = .ok (.invokestatic 152, 3) := dk_184 0 152 (dk_at dksX10_ledger_0 4 rfl rfl)
theorem dX10_ledger_7 : decode cX10_ledger 7 = .ok (.ifCond .eq 10, 3) := dk_153 0 10 (dk_at dksX10_ledger_0 7 rfl rfl)
theorem dX10_ledger_10 : decode cX10_ledger 10 = .ok (.aload_n 0, 1) := dk_42 (dk_at dksX10_ledger_0 10 rfl rfl)
theorem dX10_ledger_11 : decode cX10_ledger 11 = .ok (.invokevirtual 513, 3) := dk_182 2 1 (dk_at dksX10_ledger_0 11 rfl rfl)
theorem dX10_ledger_14 : decode cX10_ledger 14 = .ok (.ifCond .ne 6, 3) := dk_154 0 6 (dk_at dksX10_ledger_0 14 rfl rfl)
theorem dX10_ledger_17 : decode cX10_ledger 17 = .ok (.bipush (-2), 2) := dk_16 254 (dk_at dksX10_ledger_0 17 rfl rfl)
theorem dX10_ledger_19 : decode cX10_ledger 19 = .ok (.ireturn, 1) := dk_172 (dk_at dksX10_ledger_0 19 rfl rfl)
theorem dX10_ledger_20 : decode cX10_ledger 20 = .ok (.iconst 0, 1) := dk_3 (dk_at dksX10_ledger_0 20 rfl rfl)
theorem dX10_ledger_21 : decode cX10_ledger 21 = .ok (.istore_n 2, 1) := dk_61 (dk_at dksX10_ledger_0 21 rfl rfl)
theorem dX10_ledger_22 : decode cX10_ledger 22 = .ok (.iconst 0, 1) := dk_3 (dk_at dksX10_ledger_0 22 rfl rfl)
theorem dX10_ledger_23 : decode cX10_ledger 23 = .ok (.istore_n 3, 1) := dk_62 (dk_at dksX10_ledger_0 23 rfl rfl)
theorem dX10_ledger_24 : decode cX10_ledger 24 = .ok (.iload_n 3, 1) := dk_29 (dk_at dksX10_ledger_1 0 rfl rfl)
theorem dX10_ledger_25 : decode cX10_ledger 25 = .ok (.aload_n 0, 1) := dk_42 (dk_at dksX10_ledger_1 1 rfl rfl)
theorem dX10_ledger_26 : decode cX10_ledger 26 = .ok (.getfield 418, 3) := dk_180 1 162 (dk_at dksX10_ledger_1 2 rfl rfl)
theorem dX10_ledger_29 : decode cX10_ledger 29 = .ok (.if_icmp .ge 45, 3) := dk_162 0 45 (dk_at dksX10_ledger_1 5 rfl rfl)
theorem dX10_ledger_32 : decode cX10_ledger 32 = .ok (.iload_n 2, 1) := dk_28 (dk_at dksX10_ledger_1 8 rfl rfl)
theorem dX10_ledger_33 : decode cX10_ledger 33 = .ok (.aload_n 0, 1) := dk_42 (dk_at dksX10_ledger_1 9 rfl rfl)
theorem dX10_ledger_34 : decode cX10_ledger 34 = .ok (.getfield 138, 3) := dk_180 0 138 (dk_at dksX10_ledger_1 10 rfl rfl)
theorem dX10_ledger_37 : decode cX10_ledger 37 = .ok (.iload_n 3, 1) := dk_29 (dk_at dksX10_ledger_1 13 rfl rfl)
theorem dX10_ledger_38 : decode cX10_ledger 38 = .ok (.iaload, 1) := dk_46 (dk_at dksX10_ledger_1 14 rfl rfl)
theorem dX10_ledger_39 : decode cX10_ledger 39 = .ok (.iconst 5, 1) := dk_8 (dk_at dksX10_ledger_1 15 rfl rfl)
theorem dX10_ledger_40 : decode cX10_ledger 40 = .ok (.if_icmp .le 7, 3) := dk_164 0 7 (dk_at dksX10_ledger_1 16 rfl rfl)
theorem dX10_ledger_43 : decode cX10_ledger 43 = .ok (.iconst 1, 1) := dk_4 (dk_at dksX10_ledger_1 19 rfl rfl)
theorem dX10_ledger_44 : decode cX10_ledger 44 = .ok (.goto 4, 3) := dk_167 0 4 (dk_at dksX10_ledger_1 20 rfl rfl)
theorem dX10_ledger_47 : decode cX10_ledger 47 = .ok (.iconst 0, 1) := dk_3 (dk_at dksX10_ledger_1 23 rfl rfl)
theorem dX10_ledger_48 : decode cX10_ledger 48 = .ok (.iload_n 1, 1) := dk_27 (dk_at dksX10_ledger_2 0 rfl rfl)
theorem dX10_ledger_49 : decode cX10_ledger 49 = .ok (.iconst 1, 1) := dk_4 (dk_at dksX10_ledger_2 1 rfl rfl)
theorem dX10_ledger_50 : decode cX10_ledger 50 = .ok (.if_icmp .ne 7, 3) := dk_160 0 7 (dk_at dksX10_ledger_2 2 rfl rfl)
theorem dX10_ledger_53 : decode cX10_ledger 53 = .ok (.iconst 1, 1) := dk_4 (dk_at dksX10_ledger_2 5 rfl rfl)
theorem dX10_ledger_54 : decode cX10_ledger 54 = .ok (.goto 4, 3) := dk_167 0 4 (dk_at dksX10_ledger_2 6 rfl rfl)
theorem dX10_ledger_57 : decode cX10_ledger 57 = .ok (.iconst 0, 1) := dk_3 (dk_at dksX10_ledger_2 9 rfl rfl)
theorem dX10_ledger_58 : decode cX10_ledger 58 = .ok (.if_icmp .ne 7, 3) := dk_160 0 7 (dk_at dksX10_ledger_2 10 rfl rfl)
theorem dX10_ledger_61 : decode cX10_ledger 61 = .ok (.iconst 1, 1) := dk_4 (dk_at dksX10_ledger_2 13 rfl rfl)
theorem dX10_ledger_62 : decode cX10_ledger 62 = .ok (.goto 4, 3) := dk_167 0 4 (dk_at dksX10_ledger_2 14 rfl rfl)
theorem dX10_ledger_65 : decode cX10_ledger 65 = .ok (.iconst 0, 1) := dk_3 (dk_at dksX10_ledger_2 17 rfl rfl)
theorem dX10_ledger_66 : decode cX10_ledger 66 = .ok (.iadd, 1) := dk_96 (dk_at dksX10_ledger_2 18 rfl rfl)
theorem dX10_ledger_67 : decode cX10_ledger 67 = .ok (.istore_n 2, 1) := dk_61 (dk_at dksX10_ledger_2 19 rfl rfl)
theorem dX10_ledger_68 : decode cX10_ledger 68 = .ok (.iinc 3 1, 3) := dk_132 3 1 (dk_at dksX10_ledger_2 20 rfl rfl)
theorem dX10_ledger_71 : decode cX10_ledger 71 = .ok (.goto (-47), 3) := dk_167 255 209 (dk_at dksX10_ledger_3 0 rfl rfl)
theorem dX10_ledger_74 : decode cX10_ledger 74 = .ok (.iload_n 2, 1) := dk_28 (dk_at dksX10_ledger_3 3 rfl rfl)
theorem dX10_ledger_75 : decode cX10_ledger 75 = .ok (.ireturn, 1) := dk_172 (dk_at dksX10_ledger_3 4 rfl rfl)
abbrev cX10_kinds : ByteArray := prog_18_method_114_code
def yX10_kinds : MethodName := ⟨RX10, "kinds", "(I)I"⟩
def dkwX10_kinds_2 : List UInt8 := [167, 0, 4, 3, 96, 61, 132, 3, 1, 167, 255, 227, 28, 172]
abbrev dktX10_kinds_2 : List UInt8 := dkwX10_kinds_2 ++ []
def dkwX10_kinds_1 : List UInt8 := [3, 62, 29, 42, 180, 1, 162, 162, 0, 27, 28, 42, 180, 0, 138, 29, 46, 27, 160, 0, 7, 4]
abbrev dktX10_kinds_1 : List UInt8 := dkwX10_kinds_1 ++ dktX10_kinds_2
def dkwX10_kinds_0 : List UInt8 := [27, 133, 10, 20, 2, 17, 184, 0, 152, 153, 0, 10, 42, 182, 2, 1, 154, 0, 6, 16, 254, 172, 3, 61]
abbrev dktX10_kinds_0 : List UInt8 := dkwX10_kinds_0 ++ dktX10_kinds_1
theorem dksX10_kinds_0 : cX10_kinds.data.toList.drop 0 = dktX10_kinds_0 := by decide +kernel
theorem dksX10_kinds_1 : cX10_kinds.data.toList.drop 24 = dktX10_kinds_1 := dk_seg dksX10_kinds_0 24 rfl rfl
theorem dksX10_kinds_2 : cX10_kinds.data.toList.drop 46 = dktX10_kinds_2 := dk_seg dksX10_kinds_1 22 rfl rfl
theorem dX10_kinds_0 : decode cX10_kinds 0 = .ok (.iload_n 1, 1) := dk_27 (dk_at dksX10_kinds_0 0 rfl rfl)
theorem dX10_kinds_1 : decode cX10_kinds 1 = .ok (.i2l, 1) := dk_133 (dk_at dksX10_kinds_0 1 rfl rfl)
theorem dX10_kinds_2 : decode cX10_kinds 2 = .ok (.lconst 1, 1) := dk_10 (dk_at dksX10_kinds_0 2 rfl rfl)
theorem dX10_kinds_3 : decode cX10_kinds 3 = .ok (.ldc2_w 529, 3) := dk_20 2 17 (dk_at dksX10_kinds_0 3 rfl rfl)
theorem dX10_kinds_6 : decode cX10_kinds 6 = .ok (.invokestatic 152, 3) := dk_184 0 152 (dk_at dksX10_kinds_0 6 rfl rfl)
theorem dX10_kinds_9 : decode cX10_kinds 9 = .ok (.ifCond .eq 10, 3) := dk_153 0 10 (dk_at dksX10_kinds_0 9 rfl rfl)
theorem dX10_kinds_12 : decode cX10_kinds 12 = .ok (.aload_n 0, 1) := dk_42 (dk_at dksX10_kinds_0 12 rfl rfl)
theorem dX10_kinds_13 : decode cX10_kinds 13 = .ok (.invokevirtual 513, 3) := dk_182 2 1 (dk_at dksX10_kinds_0 13 rfl rfl)
theorem dX10_kinds_16 : decode cX10_kinds 16 = .ok (.ifCond .ne 6, 3) := dk_154 0 6 (dk_at dksX10_kinds_0 16 rfl rfl)
theorem dX10_kinds_19 : decode cX10_kinds 19 = .ok (.bipush (-2), 2) := dk_16 254 (dk_at dksX10_kinds_0 19 rfl rfl)
theorem dX10_kinds_21 : decode cX10_kinds 21 = .ok (.ireturn, 1) := dk_172 (dk_at dksX10_kinds_0 21 rfl rfl)
theorem dX10_kinds_22 : decode cX10_kinds 22 = .ok (.iconst 0, 1) := dk_3 (dk_at dksX10_kinds_0 22 rfl rfl)
theorem dX10_kinds_23 : decode cX10_kinds 23 = .ok (.istore_n 2, 1) := dk_61 (dk_at dksX10_kinds_0 23 rfl rfl)
theorem dX10_kinds_24 : decode cX10_kinds 24 = .ok (.iconst 0, 1) := dk_3 (dk_at dksX10_kinds_1 0 rfl rfl)
theorem dX10_kinds_25 : decode cX10_kinds 25 = .ok (.istore_n 3, 1) := dk_62 (dk_at dksX10_kinds_1 1 rfl rfl)
theorem dX10_kinds_26 : decode cX10_kinds 26 = .ok (.iload_n 3, 1) := dk_29 (dk_at dksX10_kinds_1 2 rfl rfl)
theorem dX10_kinds_27 : decode cX10_kinds 27 = .ok (.aload_n 0, 1) := dk_42 (dk_at dksX10_kinds_1 3 rfl rfl)
theorem dX10_kinds_28 : decode cX10_kinds 28 = .ok (.getfield 418, 3) := dk_180 1 162 (dk_at dksX10_kinds_1 4 rfl rfl)
theorem dX10_kinds_31 : decode cX10_kinds 31 = .ok (.if_icmp .ge 27, 3) := dk_162 0 27 (dk_at dksX10_kinds_1 7 rfl rfl)
theorem dX10_kinds_34 : decode cX10_kinds 34 = .ok (.iload_n 2, 1) := dk_28 (dk_at dksX10_kinds_1 10 rfl rfl)
theorem dX10_kinds_35 : decode cX10_kinds 35 = .ok (.aload_n 0, 1) := dk_42 (dk_at dksX10_kinds_1 11 rfl rfl)
theorem dX10_kinds_36 : decode cX10_kinds 36 = .ok (.getfield 138, 3) := dk_180 0 138 (dk_at dksX10_kinds_1 12 rfl rfl)
theorem dX10_kinds_39 : decode cX10_kinds 39 = .ok (.iload_n 3, 1) := dk_29 (dk_at dksX10_kinds_1 15 rfl rfl)
theorem dX10_kinds_40 : decode cX10_kinds 40 = .ok (.iaload, 1) := dk_46 (dk_at dksX10_kinds_1 16 rfl rfl)
theorem dX10_kinds_41 : decode cX10_kinds 41 = .ok (.iload_n 1, 1) := dk_27 (dk_at dksX10_kinds_1 17 rfl rfl)
theorem dX10_kinds_42 : decode cX10_kinds 42 = .ok (.if_icmp .ne 7, 3) := dk_160 0 7 (dk_at dksX10_kinds_1 18 rfl rfl)
theorem dX10_kinds_45 : decode cX10_kinds 45 = .ok (.iconst 1, 1) := dk_4 (dk_at dksX10_kinds_1 21 rfl rfl)
theorem dX10_kinds_46 : decode cX10_kinds 46 = .ok (.goto 4, 3) := dk_167 0 4 (dk_at dksX10_kinds_2 0 rfl rfl)
theorem dX10_kinds_49 : decode cX10_kinds 49 = .ok (.iconst 0, 1) := dk_3 (dk_at dksX10_kinds_2 3 rfl rfl)
theorem dX10_kinds_50 : decode cX10_kinds 50 = .ok (.iadd, 1) := dk_96 (dk_at dksX10_kinds_2 4 rfl rfl)
theorem dX10_kinds_51 : decode cX10_kinds 51 = .ok (.istore_n 2, 1) := dk_61 (dk_at dksX10_kinds_2 5 rfl rfl)
theorem dX10_kinds_52 : decode cX10_kinds 52 = .ok (.iinc 3 1, 3) := dk_132 3 1 (dk_at dksX10_kinds_2 6 rfl rfl)
theorem dX10_kinds_55 : decode cX10_kinds 55 = .ok (.goto (-29), 3) := dk_167 255 227 (dk_at dksX10_kinds_2 9 rfl rfl)
theorem dX10_kinds_58 : decode cX10_kinds 58 = .ok (.iload_n 2, 1) := dk_28 (dk_at dksX10_kinds_2 12 rfl rfl)
theorem dX10_kinds_59 : decode cX10_kinds 59 = .ok (.ireturn, 1) := dk_172 (dk_at dksX10_kinds_2 13 rfl rfl)
abbrev cX10_levels : ByteArray := prog_18_method_115_code
def yX10_levels : MethodName := ⟨RX10, "levels", "(II)I"⟩
def dkwX10_levels_2 : List UInt8 := [160, 0, 7, 4, 167, 0, 4, 3, 96, 62, 132, 4, 1, 167, 255, 225, 29, 172]
abbrev dktX10_levels_2 : List UInt8 := dkwX10_levels_2 ++ []
def dkwX10_levels_1 : List UInt8 := [62, 3, 54, 4, 21, 4, 42, 180, 1, 162, 162, 0, 28, 29, 42, 180, 0, 144, 21, 4, 46, 27]
abbrev dktX10_levels_1 : List UInt8 := dkwX10_levels_1 ++ dktX10_levels_2
def dkwX10_levels_0 : List UInt8 := [27, 133, 9, 20, 1, 114, 184, 0, 152, 153, 0, 11, 42, 28, 182, 1, 254, 154, 0, 6, 16, 254, 172, 3]
abbrev dktX10_levels_0 : List UInt8 := dkwX10_levels_0 ++ dktX10_levels_1
theorem dksX10_levels_0 : cX10_levels.data.toList.drop 0 = dktX10_levels_0 := by decide +kernel
theorem dksX10_levels_1 : cX10_levels.data.toList.drop 24 = dktX10_levels_1 := dk_seg dksX10_levels_0 24 rfl rfl
theorem dksX10_levels_2 : cX10_levels.data.toList.drop 46 = dktX10_levels_2 := dk_seg dksX10_levels_1 22 rfl rfl
theorem dX10_levels_0 : decode cX10_levels 0 = .ok (.iload_n 1, 1) := dk_27 (dk_at dksX10_levels_0 0 rfl rfl)
theorem dX10_levels_1 : decode cX10_levels 1 = .ok (.i2l, 1) := dk_133 (dk_at dksX10_levels_0 1 rfl rfl)
theorem dX10_levels_2 : decode cX10_levels 2 = .ok (.lconst 0, 1) := dk_9 (dk_at dksX10_levels_0 2 rfl rfl)
theorem dX10_levels_3 : decode cX10_levels 3 = .ok (.ldc2_w 370, 3) := dk_20 1 114 (dk_at dksX10_levels_0 3 rfl rfl)
theorem dX10_levels_6 : decode cX10_levels 6 = .ok (.invokestatic 152, 3) := dk_184 0 152 (dk_at dksX10_levels_0 6 rfl rfl)
theorem dX10_levels_9 : decode cX10_levels 9 = .ok (.ifCond .eq 11, 3) := dk_153 0 11 (dk_at dksX10_levels_0 9 rfl rfl)
theorem dX10_levels_12 : decode cX10_levels 12 = .ok (.aload_n 0, 1) := dk_42 (dk_at dksX10_levels_0 12 rfl rfl)
theorem dX10_levels_13 : decode cX10_levels 13 = .ok (.iload_n 2, 1) := dk_28 (dk_at dksX10_levels_0 13 rfl rfl)
theorem dX10_levels_14 : decode cX10_levels 14 = .ok (.invokevirtual 510, 3) := dk_182 1 254 (dk_at dksX10_levels_0 14 rfl rfl)
theorem dX10_levels_17 : decode cX10_levels 17 = .ok (.ifCond .ne 6, 3) := dk_154 0 6 (dk_at dksX10_levels_0 17 rfl rfl)
theorem dX10_levels_20 : decode cX10_levels 20 = .ok (.bipush (-2), 2) := dk_16 254 (dk_at dksX10_levels_0 20 rfl rfl)
theorem dX10_levels_22 : decode cX10_levels 22 = .ok (.ireturn, 1) := dk_172 (dk_at dksX10_levels_0 22 rfl rfl)
theorem dX10_levels_23 : decode cX10_levels 23 = .ok (.iconst 0, 1) := dk_3 (dk_at dksX10_levels_0 23 rfl rfl)
theorem dX10_levels_24 : decode cX10_levels 24 = .ok (.istore_n 3, 1) := dk_62 (dk_at dksX10_levels_1 0 rfl rfl)
theorem dX10_levels_25 : decode cX10_levels 25 = .ok (.iconst 0, 1) := dk_3 (dk_at dksX10_levels_1 1 rfl rfl)
theorem dX10_levels_26 : decode cX10_levels 26 = .ok (.istore 4, 2) := dk_54 4 (dk_at dksX10_levels_1 2 rfl rfl)
theorem dX10_levels_28 : decode cX10_levels 28 = .ok (.iload 4, 2) := dk_21 4 (dk_at dksX10_levels_1 4 rfl rfl)
theorem dX10_levels_30 : decode cX10_levels 30 = .ok (.aload_n 0, 1) := dk_42 (dk_at dksX10_levels_1 6 rfl rfl)
theorem dX10_levels_31 : decode cX10_levels 31 = .ok (.getfield 418, 3) := dk_180 1 162 (dk_at dksX10_levels_1 7 rfl rfl)
theorem dX10_levels_34 : decode cX10_levels 34 = .ok (.if_icmp .ge 28, 3) := dk_162 0 28 (dk_at dksX10_levels_1 10 rfl rfl)
theorem dX10_levels_37 : decode cX10_levels 37 = .ok (.iload_n 3, 1) := dk_29 (dk_at dksX10_levels_1 13 rfl rfl)
theorem dX10_levels_38 : decode cX10_levels 38 = .ok (.aload_n 0, 1) := dk_42 (dk_at dksX10_levels_1 14 rfl rfl)
theorem dX10_levels_39 : decode cX10_levels 39 = .ok (.getfield 144, 3) := dk_180 0 144 (dk_at dksX10_levels_1 15 rfl rfl)
theorem dX10_levels_42 : decode cX10_levels 42 = .ok (.iload 4, 2) := dk_21 4 (dk_at dksX10_levels_1 18 rfl rfl)
theorem dX10_levels_44 : decode cX10_levels 44 = .ok (.iaload, 1) := dk_46 (dk_at dksX10_levels_1 20 rfl rfl)
theorem dX10_levels_45 : decode cX10_levels 45 = .ok (.iload_n 1, 1) := dk_27 (dk_at dksX10_levels_1 21 rfl rfl)
theorem dX10_levels_46 : decode cX10_levels 46 = .ok (.if_icmp .ne 7, 3) := dk_160 0 7 (dk_at dksX10_levels_2 0 rfl rfl)
theorem dX10_levels_49 : decode cX10_levels 49 = .ok (.iconst 1, 1) := dk_4 (dk_at dksX10_levels_2 3 rfl rfl)
theorem dX10_levels_50 : decode cX10_levels 50 = .ok (.goto 4, 3) := dk_167 0 4 (dk_at dksX10_levels_2 4 rfl rfl)
theorem dX10_levels_53 : decode cX10_levels 53 = .ok (.iconst 0, 1) := dk_3 (dk_at dksX10_levels_2 7 rfl rfl)
theorem dX10_levels_54 : decode cX10_levels 54 = .ok (.iadd, 1) := dk_96 (dk_at dksX10_levels_2 8 rfl rfl)
theorem dX10_levels_55 : decode cX10_levels 55 = .ok (.istore_n 3, 1) := dk_62 (dk_at dksX10_levels_2 9 rfl rfl)
theorem dX10_levels_56 : decode cX10_levels 56 = .ok (.iinc 4 1, 3) := dk_132 4 1 (dk_at dksX10_levels_2 10 rfl rfl)
theorem dX10_levels_59 : decode cX10_levels 59 = .ok (.goto (-31), 3) := dk_167 255 225 (dk_at dksX10_levels_2 13 rfl rfl)
theorem dX10_levels_62 : decode cX10_levels 62 = .ok (.iload_n 3, 1) := dk_29 (dk_at dksX10_levels_2 16 rfl rfl)
theorem dX10_levels_63 : decode cX10_levels 63 = .ok (.ireturn, 1) := dk_172 (dk_at dksX10_levels_2 17 rfl rfl)
abbrev cX10_halts : ByteArray := prog_18_method_116_code
def yX10_halts : MethodName := ⟨RX10, "halts", "()I"⟩
def dkwX10_halts_0 : List UInt8 := [42, 182, 2, 1, 153, 0, 10, 42, 180, 1, 168, 167, 0, 5, 16, 254, 172]
abbrev dktX10_halts_0 : List UInt8 := dkwX10_halts_0 ++ []
theorem dksX10_halts_0 : cX10_halts.data.toList.drop 0 = dktX10_halts_0 := by decide +kernel
theorem dX10_halts_0 : decode cX10_halts 0 = .ok (.aload_n 0, 1) := dk_42 (dk_at dksX10_halts_0 0 rfl rfl)
theorem dX10_halts_1 : decode cX10_halts 1 = .ok (.invokevirtual 513, 3) := dk_182 2 1 (dk_at dksX10_halts_0 1 rfl rfl)
theorem dX10_halts_4 : decode cX10_halts 4 = .ok (.ifCond .eq 10, 3) := dk_153 0 10 (dk_at dksX10_halts_0 4 rfl rfl)
theorem dX10_halts_7 : decode cX10_halts 7 = .ok (.aload_n 0, 1) := dk_42 (dk_at dksX10_halts_0 7 rfl rfl)
theorem dX10_halts_8 : decode cX10_halts 8 = .ok (.getfield 424, 3) := dk_180 1 168 (dk_at dksX10_halts_0 8 rfl rfl)
theorem dX10_halts_11 : decode cX10_halts 11 = .ok (.goto 5, 3) := dk_167 0 5 (dk_at dksX10_halts_0 11 rfl rfl)
theorem dX10_halts_14 : decode cX10_halts 14 = .ok (.bipush (-2), 2) := dk_16 254 (dk_at dksX10_halts_0 14 rfl rfl)
theorem dX10_halts_16 : decode cX10_halts 16 = .ok (.ireturn, 1) := dk_172 (dk_at dksX10_halts_0 16 rfl rfl)
abbrev cX10_sleeps : ByteArray := prog_18_method_117_code
def yX10_sleeps : MethodName := ⟨RX10, "sleeps", "(II)I"⟩
def dkwX10_sleeps_1 : List UInt8 := [182, 1, 216, 153, 0, 7, 4, 167, 0, 4, 3, 172]
abbrev dktX10_sleeps_1 : List UInt8 := dkwX10_sleeps_1 ++ []
def dkwX10_sleeps_0 : List UInt8 := [42, 27, 182, 1, 86, 153, 0, 11, 42, 28, 182, 1, 254, 154, 0, 6, 16, 254, 172, 42, 27, 28]
abbrev dktX10_sleeps_0 : List UInt8 := dkwX10_sleeps_0 ++ dktX10_sleeps_1
theorem dksX10_sleeps_0 : cX10_sleeps.data.toList.drop 0 = dktX10_sleeps_0 := by decide +kernel
theorem dksX10_sleeps_1 : cX10_sleeps.data.toList.drop 22 = dktX10_sleeps_1 := dk_seg dksX10_sleeps_0 22 rfl rfl
theorem dX10_sleeps_0 : decode cX10_sleeps 0 = .ok (.aload_n 0, 1) := dk_42 (dk_at dksX10_sleeps_0 0 rfl rfl)
theorem dX10_sleeps_1 : decode cX10_sleeps 1 = .ok (.iload_n 1, 1) := dk_27 (dk_at dksX10_sleeps_0 1 rfl rfl)
theorem dX10_sleeps_2 : decode cX10_sleeps 2 = .ok (.invokevirtual 342, 3) := dk_182 1 86 (dk_at dksX10_sleeps_0 2 rfl rfl)
theorem dX10_sleeps_5 : decode cX10_sleeps 5 = .ok (.ifCond .eq 11, 3) := dk_153 0 11 (dk_at dksX10_sleeps_0 5 rfl rfl)
theorem dX10_sleeps_8 : decode cX10_sleeps 8 = .ok (.aload_n 0, 1) := dk_42 (dk_at dksX10_sleeps_0 8 rfl rfl)
theorem dX10_sleeps_9 : decode cX10_sleeps 9 = .ok (.iload_n 2, 1) := dk_28 (dk_at dksX10_sleeps_0 9 rfl rfl)
theorem dX10_sleeps_10 : decode cX10_sleeps 10 = .ok (.invokevirtual 510, 3) := dk_182 1 254 (dk_at dksX10_sleeps_0 10 rfl rfl)
theorem dX10_sleeps_13 : decode cX10_sleeps 13 = .ok (.ifCond .ne 6, 3) := dk_154 0 6 (dk_at dksX10_sleeps_0 13 rfl rfl)
theorem dX10_sleeps_16 : decode cX10_sleeps 16 = .ok (.bipush (-2), 2) := dk_16 254 (dk_at dksX10_sleeps_0 16 rfl rfl)
theorem dX10_sleeps_18 : decode cX10_sleeps 18 = .ok (.ireturn, 1) := dk_172 (dk_at dksX10_sleeps_0 18 rfl rfl)
theorem dX10_sleeps_19 : decode cX10_sleeps 19 = .ok (.aload_n 0, 1) := dk_42 (dk_at dksX10_sleeps_0 19 rfl rfl)
theorem dX10_sleeps_20 : decode cX10_sleeps 20 = .ok (.iload_n 1, 1) := dk_27 (dk_at dksX10_sleeps_0 20 rfl rfl)
theorem dX10_sleeps_21 : decode cX10_sleeps 21 = .ok (.iload_n 2, 1) := dk_28 (dk_at dksX10_sleeps_0 21 rfl rfl)
theorem dX10_sleeps_22 : decode cX10_sleeps 22 = .ok (.invokevirtual 472, 3) := dk_182 1 216 (dk_at dksX10_sleeps_1 0 rfl rfl)
theorem dX10_sleeps_25 : decode cX10_sleeps 25 = .ok (.ifCond .eq 7, 3) := dk_153 0 7 (dk_at dksX10_sleeps_1 3 rfl rfl)
theorem dX10_sleeps_28 : decode cX10_sleeps 28 = .ok (.iconst 1, 1) := dk_4 (dk_at dksX10_sleeps_1 6 rfl rfl)
theorem dX10_sleeps_29 : decode cX10_sleeps 29 = .ok (.goto 4, 3) := dk_167 0 4 (dk_at dksX10_sleeps_1 7 rfl rfl)
theorem dX10_sleeps_32 : decode cX10_sleeps 32 = .ok (.iconst 0, 1) := dk_3 (dk_at dksX10_sleeps_1 10 rfl rfl)
theorem dX10_sleeps_33 : decode cX10_sleeps 33 = .ok (.ireturn, 1) := dk_172 (dk_at dksX10_sleeps_1 11 rfl rfl)
abbrev cX10_caught : ByteArray := prog_18_method_120_code
def yX10_caught : MethodName := ⟨RX10, "caught", "(I)I"⟩
def dkwX10_caught_1 : List UInt8 := [16, 254, 172]
abbrev dktX10_caught_1 : List UInt8 := dkwX10_caught_1 ++ []
def dkwX10_caught_0 : List UInt8 := [42, 27, 182, 2, 19, 153, 0, 18, 42, 182, 2, 1, 153, 0, 11, 42, 27, 182, 2, 22, 167, 0, 5]
abbrev dktX10_caught_0 : List UInt8 := dkwX10_caught_0 ++ dktX10_caught_1
theorem dksX10_caught_0 : cX10_caught.data.toList.drop 0 = dktX10_caught_0 := by decide +kernel
theorem dksX10_caught_1 : cX10_caught.data.toList.drop 23 = dktX10_caught_1 := dk_seg dksX10_caught_0 23 rfl rfl
theorem dX10_caught_0 : decode cX10_caught 0 = .ok (.aload_n 0, 1) := dk_42 (dk_at dksX10_caught_0 0 rfl rfl)
theorem dX10_caught_1 : decode cX10_caught 1 = .ok (.iload_n 1, 1) := dk_27 (dk_at dksX10_caught_0 1 rfl rfl)
theorem dX10_caught_2 : decode cX10_caught 2 = .ok (.invokevirtual 531, 3) := dk_182 2 19 (dk_at dksX10_caught_0 2 rfl rfl)
theorem dX10_caught_5 : decode cX10_caught 5 = .ok (.ifCond .eq 18, 3) := dk_153 0 18 (dk_at dksX10_caught_0 5 rfl rfl)
theorem dX10_caught_8 : decode cX10_caught 8 = .ok (.aload_n 0, 1) := dk_42 (dk_at dksX10_caught_0 8 rfl rfl)
theorem dX10_caught_9 : decode cX10_caught 9 = .ok (.invokevirtual 513, 3) := dk_182 2 1 (dk_at dksX10_caught_0 9 rfl rfl)
theorem dX10_caught_12 : decode cX10_caught 12 = .ok (.ifCond .eq 11, 3) := dk_153 0 11 (dk_at dksX10_caught_0 12 rfl rfl)
theorem dX10_caught_15 : decode cX10_caught 15 = .ok (.aload_n 0, 1) := dk_42 (dk_at dksX10_caught_0 15 rfl rfl)
theorem dX10_caught_16 : decode cX10_caught 16 = .ok (.iload_n 1, 1) := dk_27 (dk_at dksX10_caught_0 16 rfl rfl)
theorem dX10_caught_17 : decode cX10_caught 17 = .ok (.invokevirtual 534, 3) := dk_182 2 22 (dk_at dksX10_caught_0 17 rfl rfl)
theorem dX10_caught_20 : decode cX10_caught 20 = .ok (.goto 5, 3) := dk_167 0 5 (dk_at dksX10_caught_0 20 rfl rfl)
theorem dX10_caught_23 : decode cX10_caught 23 = .ok (.bipush (-2), 2) := dk_16 254 (dk_at dksX10_caught_1 0 rfl rfl)
theorem dX10_caught_25 : decode cX10_caught 25 = .ok (.ireturn, 1) := dk_172 (dk_at dksX10_caught_1 2 rfl rfl)
abbrev cX10_isInjection : ByteArray := prog_18_method_119_code
def yX10_isInjection : MethodName := ⟨RX10, "isInjection", "(I)Z"⟩
def dkwX10_isInjection_0 : List UInt8 := [27, 133, 9, 42, 182, 1, 89, 4, 100, 133, 184, 0, 152, 172]
abbrev dktX10_isInjection_0 : List UInt8 := dkwX10_isInjection_0 ++ []
theorem dksX10_isInjection_0 : cX10_isInjection.data.toList.drop 0 = dktX10_isInjection_0 := by decide +kernel
theorem dX10_isInjection_0 : decode cX10_isInjection 0 = .ok (.iload_n 1, 1) := dk_27 (dk_at dksX10_isInjection_0 0 rfl rfl)
theorem dX10_isInjection_1 : decode cX10_isInjection 1 = .ok (.i2l, 1) := dk_133 (dk_at dksX10_isInjection_0 1 rfl rfl)
theorem dX10_isInjection_2 : decode cX10_isInjection 2 = .ok (.lconst 0, 1) := dk_9 (dk_at dksX10_isInjection_0 2 rfl rfl)
theorem dX10_isInjection_3 : decode cX10_isInjection 3 = .ok (.aload_n 0, 1) := dk_42 (dk_at dksX10_isInjection_0 3 rfl rfl)
theorem dX10_isInjection_4 : decode cX10_isInjection 4 = .ok (.invokevirtual 345, 3) := dk_182 1 89 (dk_at dksX10_isInjection_0 4 rfl rfl)
theorem dX10_isInjection_7 : decode cX10_isInjection 7 = .ok (.iconst 1, 1) := dk_4 (dk_at dksX10_isInjection_0 7 rfl rfl)
theorem dX10_isInjection_8 : decode cX10_isInjection 8 = .ok (.isub, 1) := dk_100 (dk_at dksX10_isInjection_0 8 rfl rfl)
theorem dX10_isInjection_9 : decode cX10_isInjection 9 = .ok (.i2l, 1) := dk_133 (dk_at dksX10_isInjection_0 9 rfl rfl)
theorem dX10_isInjection_10 : decode cX10_isInjection 10 = .ok (.invokestatic 152, 3) := dk_184 0 152 (dk_at dksX10_isInjection_0 10 rfl rfl)
theorem dX10_isInjection_13 : decode cX10_isInjection 13 = .ok (.ireturn, 1) := dk_172 (dk_at dksX10_isInjection_0 13 rfl rfl)
abbrev cX10_caughtIn : ByteArray := prog_18_method_118_code
def yX10_caughtIn : MethodName := ⟨RX10, "caughtIn", "(I)I"⟩
def dkwX10_caughtIn_8 : List UInt8 := [167, 255, 135, 2, 172]
abbrev dktX10_caughtIn_8 : List UInt8 := dkwX10_caughtIn_8 ++ []
def dkwX10_caughtIn_7 : List UInt8 := [21, 5, 46, 21, 4, 161, 0, 14, 42, 180, 0, 135, 21, 5, 46, 21, 4, 100, 172, 132, 5, 1]
abbrev dktX10_caughtIn_7 : List UInt8 := dkwX10_caughtIn_7 ++ dktX10_caughtIn_8
def dkwX10_caughtIn_6 : List UInt8 := [21, 5, 46, 28, 160, 0, 7, 4, 167, 0, 4, 3, 54, 6, 21, 6, 153, 0, 26, 42, 180, 0, 135]
abbrev dktX10_caughtIn_6 : List UInt8 := dkwX10_caughtIn_6 ++ dktX10_caughtIn_7
def dkwX10_caughtIn_5 : List UInt8 := [167, 0, 35, 3, 167, 0, 31, 42, 180, 0, 138, 21, 5, 46, 16, 6, 162, 0, 18, 42, 180, 0, 141]
abbrev dktX10_caughtIn_5 : List UInt8 := dkwX10_caughtIn_5 ++ dktX10_caughtIn_6
def dkwX10_caughtIn_4 : List UInt8 := [21, 5, 46, 28, 159, 0, 19, 42, 180, 0, 138, 21, 5, 46, 16, 7, 160, 0, 11, 28, 154, 0, 7, 4]
abbrev dktX10_caughtIn_4 : List UInt8 := dkwX10_caughtIn_4 ++ dktX10_caughtIn_5
def dkwX10_caughtIn_3 : List UInt8 := [162, 0, 118, 29, 153, 0, 50, 42, 180, 0, 138, 21, 5, 46, 16, 6, 160, 0, 14, 42, 180, 0, 141]
abbrev dktX10_caughtIn_3 : List UInt8 := dkwX10_caughtIn_3 ++ dktX10_caughtIn_4
def dkwX10_caughtIn_2 : List UInt8 := [182, 1, 94, 96, 46, 54, 4, 21, 4, 2, 160, 0, 5, 2, 172, 3, 54, 5, 21, 5, 42, 180, 1, 162]
abbrev dktX10_caughtIn_2 : List UInt8 := dkwX10_caughtIn_2 ++ dktX10_caughtIn_3
def dkwX10_caughtIn_1 : List UInt8 := [153, 0, 12, 42, 27, 5, 182, 1, 94, 167, 0, 19, 42, 180, 0, 120, 16, 51, 28, 104, 42, 27, 5]
abbrev dktX10_caughtIn_1 : List UInt8 := dkwX10_caughtIn_1 ++ dktX10_caughtIn_2
def dkwX10_caughtIn_0 : List UInt8 := [42, 27, 4, 182, 1, 94, 61, 42, 27, 3, 182, 1, 94, 8, 160, 0, 7, 4, 167, 0, 4, 3, 62, 29]
abbrev dktX10_caughtIn_0 : List UInt8 := dkwX10_caughtIn_0 ++ dktX10_caughtIn_1
theorem dksX10_caughtIn_0 : cX10_caughtIn.data.toList.drop 0 = dktX10_caughtIn_0 := by decide +kernel
theorem dksX10_caughtIn_1 : cX10_caughtIn.data.toList.drop 24 = dktX10_caughtIn_1 := dk_seg dksX10_caughtIn_0 24 rfl rfl
theorem dksX10_caughtIn_2 : cX10_caughtIn.data.toList.drop 47 = dktX10_caughtIn_2 := dk_seg dksX10_caughtIn_1 23 rfl rfl
theorem dksX10_caughtIn_3 : cX10_caughtIn.data.toList.drop 71 = dktX10_caughtIn_3 := dk_seg dksX10_caughtIn_2 24 rfl rfl
theorem dksX10_caughtIn_4 : cX10_caughtIn.data.toList.drop 94 = dktX10_caughtIn_4 := dk_seg dksX10_caughtIn_3 23 rfl rfl
theorem dksX10_caughtIn_5 : cX10_caughtIn.data.toList.drop 118 = dktX10_caughtIn_5 := dk_seg dksX10_caughtIn_4 24 rfl rfl
theorem dksX10_caughtIn_6 : cX10_caughtIn.data.toList.drop 141 = dktX10_caughtIn_6 := dk_seg dksX10_caughtIn_5 23 rfl rfl
theorem dksX10_caughtIn_7 : cX10_caughtIn.data.toList.drop 164 = dktX10_caughtIn_7 := dk_seg dksX10_caughtIn_6 23 rfl rfl
theorem dksX10_caughtIn_8 : cX10_caughtIn.data.toList.drop 186 = dktX10_caughtIn_8 := dk_seg dksX10_caughtIn_7 22 rfl rfl
theorem dX10_caughtIn_0 : decode cX10_caughtIn 0 = .ok (.aload_n 0, 1) := dk_42 (dk_at dksX10_caughtIn_0 0 rfl rfl)
theorem dX10_caughtIn_1 : decode cX10_caughtIn 1 = .ok (.iload_n 1, 1) := dk_27 (dk_at dksX10_caughtIn_0 1 rfl rfl)
theorem dX10_caughtIn_2 : decode cX10_caughtIn 2 = .ok (.iconst 1, 1) := dk_4 (dk_at dksX10_caughtIn_0 2 rfl rfl)
theorem dX10_caughtIn_3 : decode cX10_caughtIn 3 = .ok (.invokevirtual 350, 3) := dk_182 1 94 (dk_at dksX10_caughtIn_0 3 rfl rfl)
theorem dX10_caughtIn_6 : decode cX10_caughtIn 6 = .ok (.istore_n 2, 1) := dk_61 (dk_at dksX10_caughtIn_0 6 rfl rfl)
theorem dX10_caughtIn_7 : decode cX10_caughtIn 7 = .ok (.aload_n 0, 1) := dk_42 (dk_at dksX10_caughtIn_0 7 rfl rfl)
theorem dX10_caughtIn_8 : decode cX10_caughtIn 8 = .ok (.iload_n 1, 1) := dk_27 (dk_at dksX10_caughtIn_0 8 rfl rfl)
theorem dX10_caughtIn_9 : decode cX10_caughtIn 9 = .ok (.iconst 0, 1) := dk_3 (dk_at dksX10_caughtIn_0 9 rfl rfl)
theorem dX10_caughtIn_10 : decode cX10_caughtIn 10 = .ok (.invokevirtual 350, 3) := dk_182 1 94 (dk_at dksX10_caughtIn_0 10 rfl rfl)
theorem dX10_caughtIn_13 : decode cX10_caughtIn 13 = .ok (.iconst 5, 1) := dk_8 (dk_at dksX10_caughtIn_0 13 rfl rfl)
theorem dX10_caughtIn_14 : decode cX10_caughtIn 14 = .ok (.if_icmp .ne 7, 3) := dk_160 0 7 (dk_at dksX10_caughtIn_0 14 rfl rfl)
theorem dX10_caughtIn_17 : decode cX10_caughtIn 17 = .ok (.iconst 1, 1) := dk_4 (dk_at dksX10_caughtIn_0 17 rfl rfl)
theorem dX10_caughtIn_18 : decode cX10_caughtIn 18 = .ok (.goto 4, 3) := dk_167 0 4 (dk_at dksX10_caughtIn_0 18 rfl rfl)
theorem dX10_caughtIn_21 : decode cX10_caughtIn 21 = .ok (.iconst 0, 1) := dk_3 (dk_at dksX10_caughtIn_0 21 rfl rfl)
theorem dX10_caughtIn_22 : decode cX10_caughtIn 22 = .ok (.istore_n 3, 1) := dk_62 (dk_at dksX10_caughtIn_0 22 rfl rfl)
theorem dX10_caughtIn_23 : decode cX10_caughtIn 23 = .ok (.iload_n 3, 1) := dk_29 (dk_at dksX10_caughtIn_0 23 rfl rfl)
theorem dX10_caughtIn_24 : decode cX10_caughtIn 24 = .ok (.ifCond .eq 12, 3) := dk_153 0 12 (dk_at dksX10_caughtIn_1 0 rfl rfl)
theorem dX10_caughtIn_27 : decode cX10_caughtIn 27 = .ok (.aload_n 0, 1) := dk_42 (dk_at dksX10_caughtIn_1 3 rfl rfl)
theorem dX10_caughtIn_28 : decode cX10_caughtIn 28 = .ok (.iload_n 1, 1) := dk_27 (dk_at dksX10_caughtIn_1 4 rfl rfl)
theorem dX10_caughtIn_29 : decode cX10_caughtIn 29 = .ok (.iconst 2, 1) := dk_5 (dk_at dksX10_caughtIn_1 5 rfl rfl)
theorem dX10_caughtIn_30 : decode cX10_caughtIn 30 = .ok (.invokevirtual 350, 3) := dk_182 1 94 (dk_at dksX10_caughtIn_1 6 rfl rfl)
theorem dX10_caughtIn_33 : decode cX10_caughtIn 33 = .ok (.goto 19, 3) := dk_167 0 19 (dk_at dksX10_caughtIn_1 9 rfl rfl)
theorem dX10_caughtIn_36 : decode cX10_caughtIn 36 = .ok (.aload_n 0, 1) := dk_42 (dk_at dksX10_caughtIn_1 12 rfl rfl)
theorem dX10_caughtIn_37 : decode cX10_caughtIn 37 = .ok (.getfield 120, 3) := dk_180 0 120 (dk_at dksX10_caughtIn_1 13 rfl rfl)
theorem dX10_caughtIn_40 : decode cX10_caughtIn 40 = .ok (.bipush 51, 2) := dk_16 51 (dk_at dksX10_caughtIn_1 16 rfl rfl)
theorem dX10_caughtIn_42 : decode cX10_caughtIn 42 = .ok (.iload_n 2, 1) := dk_28 (dk_at dksX10_caughtIn_1 18 rfl rfl)
theorem dX10_caughtIn_43 : decode cX10_caughtIn 43 = .ok (.imul, 1) := dk_104 (dk_at dksX10_caughtIn_1 19 rfl rfl)
theorem dX10_caughtIn_44 : decode cX10_caughtIn 44 = .ok (.aload_n 0, 1) := dk_42 (dk_at dksX10_caughtIn_1 20 rfl rfl)
theorem dX10_caughtIn_45 : decode cX10_caughtIn 45 = .ok (.iload_n 1, 1) := dk_27 (dk_at dksX10_caughtIn_1 21 rfl rfl)
theorem dX10_caughtIn_46 : decode cX10_caughtIn 46 = .ok (.iconst 2, 1) := dk_5 (dk_at dksX10_caughtIn_1 22 rfl rfl)
theorem dX10_caughtIn_47 : decode cX10_caughtIn 47 = .ok (.invokevirtual 350, 3) := dk_182 1 94 (dk_at dksX10_caughtIn_2 0 rfl rfl)
theorem dX10_caughtIn_50 : decode cX10_caughtIn 50 = .ok (.iadd, 1) := dk_96 (dk_at dksX10_caughtIn_2 3 rfl rfl)
theorem dX10_caughtIn_51 : decode cX10_caughtIn 51 = .ok (.iaload, 1) := dk_46 (dk_at dksX10_caughtIn_2 4 rfl rfl)
theorem dX10_caughtIn_52 : decode cX10_caughtIn 52 = .ok (.istore 4, 2) := dk_54 4 (dk_at dksX10_caughtIn_2 5 rfl rfl)
theorem dX10_caughtIn_54 : decode cX10_caughtIn 54 = .ok (.iload 4, 2) := dk_21 4 (dk_at dksX10_caughtIn_2 7 rfl rfl)
theorem dX10_caughtIn_56 : decode cX10_caughtIn 56 = .ok (.iconst (-1), 1) := dk_2 (dk_at dksX10_caughtIn_2 9 rfl rfl)
theorem dX10_caughtIn_57 : decode cX10_caughtIn 57 = .ok (.if_icmp .ne 5, 3) := dk_160 0 5 (dk_at dksX10_caughtIn_2 10 rfl rfl)
theorem dX10_caughtIn_60 : decode cX10_caughtIn 60 = .ok (.iconst (-1), 1) := dk_2 (dk_at dksX10_caughtIn_2 13 rfl rfl)
theorem dX10_caughtIn_61 : decode cX10_caughtIn 61 = .ok (.ireturn, 1) := dk_172 (dk_at dksX10_caughtIn_2 14 rfl rfl)
theorem dX10_caughtIn_62 : decode cX10_caughtIn 62 = .ok (.iconst 0, 1) := dk_3 (dk_at dksX10_caughtIn_2 15 rfl rfl)
theorem dX10_caughtIn_63 : decode cX10_caughtIn 63 = .ok (.istore 5, 2) := dk_54 5 (dk_at dksX10_caughtIn_2 16 rfl rfl)
theorem dX10_caughtIn_65 : decode cX10_caughtIn 65 = .ok (.iload 5, 2) := dk_21 5 (dk_at dksX10_caughtIn_2 18 rfl rfl)
theorem dX10_caughtIn_67 : decode cX10_caughtIn 67 = .ok (.aload_n 0, 1) := dk_42 (dk_at dksX10_caughtIn_2 20 rfl rfl)
theorem dX10_caughtIn_68 : decode cX10_caughtIn 68 = .ok (.getfield 418, 3) := dk_180 1 162 (dk_at dksX10_caughtIn_2 21 rfl rfl)
theorem dX10_caughtIn_71 : decode cX10_caughtIn 71 = .ok (.if_icmp .ge 118, 3) := dk_162 0 118 (dk_at dksX10_caughtIn_3 0 rfl rfl)
theorem dX10_caughtIn_74 : decode cX10_caughtIn 74 = .ok (.iload_n 3, 1) := dk_29 (dk_at dksX10_caughtIn_3 3 rfl rfl)
theorem dX10_caughtIn_75 : decode cX10_caughtIn 75 = .ok (.ifCond .eq 50, 3) := dk_153 0 50 (dk_at dksX10_caughtIn_3 4 rfl rfl)
theorem dX10_caughtIn_78 : decode cX10_caughtIn 78 = .ok (.aload_n 0, 1) := dk_42 (dk_at dksX10_caughtIn_3 7 rfl rfl)
theorem dX10_caughtIn_79 : decode cX10_caughtIn 79 = .ok (.getfield 138, 3) := dk_180 0 138 (dk_at dksX10_caughtIn_3 8 rfl rfl)
theorem dX10_caughtIn_82 : decode cX10_caughtIn 82 = .ok (.iload 5, 2) := dk_21 5 (dk_at dksX10_caughtIn_3 11 rfl rfl)
theorem dX10_caughtIn_84 : decode cX10_caughtIn 84 = .ok (.iaload, 1) := dk_46 (dk_at dksX10_caughtIn_3 13 rfl rfl)
theorem dX10_caughtIn_85 : decode cX10_caughtIn 85 = .ok (.bipush 6, 2) := dk_16 6 (dk_at dksX10_caughtIn_3 14 rfl rfl)
theorem dX10_caughtIn_87 : decode cX10_caughtIn 87 = .ok (.if_icmp .ne 14, 3) := dk_160 0 14 (dk_at dksX10_caughtIn_3 16 rfl rfl)
theorem dX10_caughtIn_90 : decode cX10_caughtIn 90 = .ok (.aload_n 0, 1) := dk_42 (dk_at dksX10_caughtIn_3 19 rfl rfl)
theorem dX10_caughtIn_91 : decode cX10_caughtIn 91 = .ok (.getfield 141, 3) := dk_180 0 141 (dk_at dksX10_caughtIn_3 20 rfl rfl)
theorem dX10_caughtIn_94 : decode cX10_caughtIn 94 = .ok (.iload 5, 2) := dk_21 5 (dk_at dksX10_caughtIn_4 0 rfl rfl)
theorem dX10_caughtIn_96 : decode cX10_caughtIn 96 = .ok (.iaload, 1) := dk_46 (dk_at dksX10_caughtIn_4 2 rfl rfl)
theorem dX10_caughtIn_97 : decode cX10_caughtIn 97 = .ok (.iload_n 2, 1) := dk_28 (dk_at dksX10_caughtIn_4 3 rfl rfl)
theorem dX10_caughtIn_98 : decode cX10_caughtIn 98 = .ok (.if_icmp .eq 19, 3) := dk_159 0 19 (dk_at dksX10_caughtIn_4 4 rfl rfl)
theorem dX10_caughtIn_101 : decode cX10_caughtIn 101 = .ok (.aload_n 0, 1) := dk_42 (dk_at dksX10_caughtIn_4 7 rfl rfl)
theorem dX10_caughtIn_102 : decode cX10_caughtIn 102 = .ok (.getfield 138, 3) := dk_180 0 138 (dk_at dksX10_caughtIn_4 8 rfl rfl)
theorem dX10_caughtIn_105 : decode cX10_caughtIn 105 = .ok (.iload 5, 2) := dk_21 5 (dk_at dksX10_caughtIn_4 11 rfl rfl)
theorem dX10_caughtIn_107 : decode cX10_caughtIn 107 = .ok (.iaload, 1) := dk_46 (dk_at dksX10_caughtIn_4 13 rfl rfl)
theorem dX10_caughtIn_108 : decode cX10_caughtIn 108 = .ok (.bipush 7, 2) := dk_16 7 (dk_at dksX10_caughtIn_4 14 rfl rfl)
theorem dX10_caughtIn_110 : decode cX10_caughtIn 110 = .ok (.if_icmp .ne 11, 3) := dk_160 0 11 (dk_at dksX10_caughtIn_4 16 rfl rfl)
theorem dX10_caughtIn_113 : decode cX10_caughtIn 113 = .ok (.iload_n 2, 1) := dk_28 (dk_at dksX10_caughtIn_4 19 rfl rfl)
theorem dX10_caughtIn_114 : decode cX10_caughtIn 114 = .ok (.ifCond .ne 7, 3) := dk_154 0 7 (dk_at dksX10_caughtIn_4 20 rfl rfl)
theorem dX10_caughtIn_117 : decode cX10_caughtIn 117 = .ok (.iconst 1, 1) := dk_4 (dk_at dksX10_caughtIn_4 23 rfl rfl)
theorem dX10_caughtIn_118 : decode cX10_caughtIn 118 = .ok (.goto 35, 3) := dk_167 0 35 (dk_at dksX10_caughtIn_5 0 rfl rfl)
theorem dX10_caughtIn_121 : decode cX10_caughtIn 121 = .ok (.iconst 0, 1) := dk_3 (dk_at dksX10_caughtIn_5 3 rfl rfl)
theorem dX10_caughtIn_122 : decode cX10_caughtIn 122 = .ok (.goto 31, 3) := dk_167 0 31 (dk_at dksX10_caughtIn_5 4 rfl rfl)
theorem dX10_caughtIn_125 : decode cX10_caughtIn 125 = .ok (.aload_n 0, 1) := dk_42 (dk_at dksX10_caughtIn_5 7 rfl rfl)
theorem dX10_caughtIn_126 : decode cX10_caughtIn 126 = .ok (.getfield 138, 3) := dk_180 0 138 (dk_at dksX10_caughtIn_5 8 rfl rfl)
theorem dX10_caughtIn_129 : decode cX10_caughtIn 129 = .ok (.iload 5, 2) := dk_21 5 (dk_at dksX10_caughtIn_5 11 rfl rfl)
theorem dX10_caughtIn_131 : decode cX10_caughtIn 131 = .ok (.iaload, 1) := dk_46 (dk_at dksX10_caughtIn_5 13 rfl rfl)
theorem dX10_caughtIn_132 : decode cX10_caughtIn 132 = .ok (.bipush 6, 2) := dk_16 6 (dk_at dksX10_caughtIn_5 14 rfl rfl)
theorem dX10_caughtIn_134 : decode cX10_caughtIn 134 = .ok (.if_icmp .ge 18, 3) := dk_162 0 18 (dk_at dksX10_caughtIn_5 16 rfl rfl)
theorem dX10_caughtIn_137 : decode cX10_caughtIn 137 = .ok (.aload_n 0, 1) := dk_42 (dk_at dksX10_caughtIn_5 19 rfl rfl)
theorem dX10_caughtIn_138 : decode cX10_caughtIn 138 = .ok (.getfield 141, 3) := dk_180 0 141 (dk_at dksX10_caughtIn_5 20 rfl rfl)
theorem dX10_caughtIn_141 : decode cX10_caughtIn 141 = .ok (.iload 5, 2) := dk_21 5 (dk_at dksX10_caughtIn_6 0 rfl rfl)
theorem dX10_caughtIn_143 : decode cX10_caughtIn 143 = .ok (.iaload, 1) := dk_46 (dk_at dksX10_caughtIn_6 2 rfl rfl)
theorem dX10_caughtIn_144 : decode cX10_caughtIn 144 = .ok (.iload_n 2, 1) := dk_28 (dk_at dksX10_caughtIn_6 3 rfl rfl)
theorem dX10_caughtIn_145 : decode cX10_caughtIn 145 = .ok (.if_icmp .ne 7, 3) := dk_160 0 7 (dk_at dksX10_caughtIn_6 4 rfl rfl)
theorem dX10_caughtIn_148 : decode cX10_caughtIn 148 = .ok (.iconst 1, 1) := dk_4 (dk_at dksX10_caughtIn_6 7 rfl rfl)
theorem dX10_caughtIn_149 : decode cX10_caughtIn 149 = .ok (.goto 4, 3) := dk_167 0 4 (dk_at dksX10_caughtIn_6 8 rfl rfl)
theorem dX10_caughtIn_152 : decode cX10_caughtIn 152 = .ok (.iconst 0, 1) := dk_3 (dk_at dksX10_caughtIn_6 11 rfl rfl)
theorem dX10_caughtIn_153 : decode cX10_caughtIn 153 = .ok (.istore 6, 2) := dk_54 6 (dk_at dksX10_caughtIn_6 12 rfl rfl)
theorem dX10_caughtIn_155 : decode cX10_caughtIn 155 = .ok (.iload 6, 2) := dk_21 6 (dk_at dksX10_caughtIn_6 14 rfl rfl)
theorem dX10_caughtIn_157 : decode cX10_caughtIn 157 = .ok (.ifCond .eq 26, 3) := dk_153 0 26 (dk_at dksX10_caughtIn_6 16 rfl rfl)
theorem dX10_caughtIn_160 : decode cX10_caughtIn 160 = .ok (.aload_n 0, 1) := dk_42 (dk_at dksX10_caughtIn_6 19 rfl rfl)
theorem dX10_caughtIn_161 : decode cX10_caughtIn 161 = .ok (.getfield 135, 3) := dk_180 0 135 (dk_at dksX10_caughtIn_6 20 rfl rfl)
theorem dX10_caughtIn_164 : decode cX10_caughtIn 164 = .ok (.iload 5, 2) := dk_21 5 (dk_at dksX10_caughtIn_7 0 rfl rfl)
theorem dX10_caughtIn_166 : decode cX10_caughtIn 166 = .ok (.iaload, 1) := dk_46 (dk_at dksX10_caughtIn_7 2 rfl rfl)
theorem dX10_caughtIn_167 : decode cX10_caughtIn 167 = .ok (.iload 4, 2) := dk_21 4 (dk_at dksX10_caughtIn_7 3 rfl rfl)
theorem dX10_caughtIn_169 : decode cX10_caughtIn 169 = .ok (.if_icmp .lt 14, 3) := dk_161 0 14 (dk_at dksX10_caughtIn_7 5 rfl rfl)
theorem dX10_caughtIn_172 : decode cX10_caughtIn 172 = .ok (.aload_n 0, 1) := dk_42 (dk_at dksX10_caughtIn_7 8 rfl rfl)
theorem dX10_caughtIn_173 : decode cX10_caughtIn 173 = .ok (.getfield 135, 3) := dk_180 0 135 (dk_at dksX10_caughtIn_7 9 rfl rfl)
theorem dX10_caughtIn_176 : decode cX10_caughtIn 176 = .ok (.iload 5, 2) := dk_21 5 (dk_at dksX10_caughtIn_7 12 rfl rfl)
theorem dX10_caughtIn_178 : decode cX10_caughtIn 178 = .ok (.iaload, 1) := dk_46 (dk_at dksX10_caughtIn_7 14 rfl rfl)
theorem dX10_caughtIn_179 : decode cX10_caughtIn 179 = .ok (.iload 4, 2) := dk_21 4 (dk_at dksX10_caughtIn_7 15 rfl rfl)
theorem dX10_caughtIn_181 : decode cX10_caughtIn 181 = .ok (.isub, 1) := dk_100 (dk_at dksX10_caughtIn_7 17 rfl rfl)
theorem dX10_caughtIn_182 : decode cX10_caughtIn 182 = .ok (.ireturn, 1) := dk_172 (dk_at dksX10_caughtIn_7 18 rfl rfl)
theorem dX10_caughtIn_183 : decode cX10_caughtIn 183 = .ok (.iinc 5 1, 3) := dk_132 5 1 (dk_at dksX10_caughtIn_7 19 rfl rfl)
theorem dX10_caughtIn_186 : decode cX10_caughtIn 186 = .ok (.goto (-121), 3) := dk_167 255 135 (dk_at dksX10_caughtIn_8 0 rfl rfl)
theorem dX10_caughtIn_189 : decode cX10_caughtIn 189 = .ok (.iconst (-1), 1) := dk_2 (dk_at dksX10_caughtIn_8 3 rfl rfl)
theorem dX10_caughtIn_190 : decode cX10_caughtIn 190 = .ok (.ireturn, 1) := dk_172 (dk_at dksX10_caughtIn_8 4 rfl rfl)
abbrev cX10_without : ByteArray := prog_18_method_122_code
def yX10_without : MethodName := ⟨RX10, "without", "(I)I"⟩
def dkwX10_without_0 : List UInt8 := [42, 27, 182, 2, 19, 153, 0, 11, 42, 27, 182, 2, 25, 167, 0, 5, 16, 254, 172]
abbrev dktX10_without_0 : List UInt8 := dkwX10_without_0 ++ []
theorem dksX10_without_0 : cX10_without.data.toList.drop 0 = dktX10_without_0 := by decide +kernel
theorem dX10_without_0 : decode cX10_without 0 = .ok (.aload_n 0, 1) := dk_42 (dk_at dksX10_without_0 0 rfl rfl)
theorem dX10_without_1 : decode cX10_without 1 = .ok (.iload_n 1, 1) := dk_27 (dk_at dksX10_without_0 1 rfl rfl)
theorem dX10_without_2 : decode cX10_without 2 = .ok (.invokevirtual 531, 3) := dk_182 2 19 (dk_at dksX10_without_0 2 rfl rfl)
theorem dX10_without_5 : decode cX10_without 5 = .ok (.ifCond .eq 11, 3) := dk_153 0 11 (dk_at dksX10_without_0 5 rfl rfl)
theorem dX10_without_8 : decode cX10_without 8 = .ok (.aload_n 0, 1) := dk_42 (dk_at dksX10_without_0 8 rfl rfl)
theorem dX10_without_9 : decode cX10_without 9 = .ok (.iload_n 1, 1) := dk_27 (dk_at dksX10_without_0 9 rfl rfl)
theorem dX10_without_10 : decode cX10_without 10 = .ok (.invokevirtual 537, 3) := dk_182 2 25 (dk_at dksX10_without_0 10 rfl rfl)
theorem dX10_without_13 : decode cX10_without 13 = .ok (.goto 5, 3) := dk_167 0 5 (dk_at dksX10_without_0 13 rfl rfl)
theorem dX10_without_16 : decode cX10_without 16 = .ok (.bipush (-2), 2) := dk_16 254 (dk_at dksX10_without_0 16 rfl rfl)
theorem dX10_without_18 : decode cX10_without 18 = .ok (.ireturn, 1) := dk_172 (dk_at dksX10_without_0 18 rfl rfl)
abbrev cX10_recordsWithout : ByteArray := prog_18_method_121_code
def yX10_recordsWithout : MethodName := ⟨RX10, "recordsWithout", "(I)I"⟩
def dkwX10_recordsWithout_0 : List UInt8 := [42, 182, 1, 245, 42, 27, 181, 0, 55, 42, 42, 180, 0, 9, 3, 46, 182, 1, 248, 42, 180, 1, 162, 172]
abbrev dktX10_recordsWithout_0 : List UInt8 := dkwX10_recordsWithout_0 ++ []
theorem dksX10_recordsWithout_0 : cX10_recordsWithout.data.toList.drop 0 = dktX10_recordsWithout_0 := by decide +kernel
theorem dX10_recordsWithout_0 : decode cX10_recordsWithout 0 = .ok (.aload_n 0, 1) := dk_42 (dk_at dksX10_recordsWithout_0 0 rfl rfl)
theorem dX10_recordsWithout_1 : decode cX10_recordsWithout 1 = .ok (.invokevirtual 501, 3) := dk_182 1 245 (dk_at dksX10_recordsWithout_0 1 rfl rfl)
theorem dX10_recordsWithout_4 : decode cX10_recordsWithout 4 = .ok (.aload_n 0, 1) := dk_42 (dk_at dksX10_recordsWithout_0 4 rfl rfl)
theorem dX10_recordsWithout_5 : decode cX10_recordsWithout 5 = .ok (.iload_n 1, 1) := dk_27 (dk_at dksX10_recordsWithout_0 5 rfl rfl)
theorem dX10_recordsWithout_6 : decode cX10_recordsWithout 6 = .ok (.putfield 55, 3) := dk_181 0 55 (dk_at dksX10_recordsWithout_0 6 rfl rfl)
theorem dX10_recordsWithout_9 : decode cX10_recordsWithout 9 = .ok (.aload_n 0, 1) := dk_42 (dk_at dksX10_recordsWithout_0 9 rfl rfl)
theorem dX10_recordsWithout_10 : decode cX10_recordsWithout 10 = .ok (.aload_n 0, 1) := dk_42 (dk_at dksX10_recordsWithout_0 10 rfl rfl)
theorem dX10_recordsWithout_11 : decode cX10_recordsWithout 11 = .ok (.getfield 9, 3) := dk_180 0 9 (dk_at dksX10_recordsWithout_0 11 rfl rfl)
theorem dX10_recordsWithout_14 : decode cX10_recordsWithout 14 = .ok (.iconst 0, 1) := dk_3 (dk_at dksX10_recordsWithout_0 14 rfl rfl)
theorem dX10_recordsWithout_15 : decode cX10_recordsWithout 15 = .ok (.iaload, 1) := dk_46 (dk_at dksX10_recordsWithout_0 15 rfl rfl)
theorem dX10_recordsWithout_16 : decode cX10_recordsWithout 16 = .ok (.invokevirtual 504, 3) := dk_182 1 248 (dk_at dksX10_recordsWithout_0 16 rfl rfl)
theorem dX10_recordsWithout_19 : decode cX10_recordsWithout 19 = .ok (.aload_n 0, 1) := dk_42 (dk_at dksX10_recordsWithout_0 19 rfl rfl)
theorem dX10_recordsWithout_20 : decode cX10_recordsWithout 20 = .ok (.getfield 418, 3) := dk_180 1 162 (dk_at dksX10_recordsWithout_0 20 rfl rfl)
theorem dX10_recordsWithout_23 : decode cX10_recordsWithout 23 = .ok (.ireturn, 1) := dk_172 (dk_at dksX10_recordsWithout_0 23 rfl rfl)
abbrev cX10_blame : ByteArray := prog_18_method_123_code
def yX10_blame : MethodName := ⟨RX10, "blame", "()I"⟩
def dkwX10_blame_2 : List UInt8 := [132, 3, 1, 167, 255, 224, 27, 172]
abbrev dktX10_blame_2 : List UInt8 := dkwX10_blame_2 ++ []
def dkwX10_blame_1 : List UInt8 := [162, 0, 30, 42, 29, 182, 2, 25, 54, 4, 21, 4, 28, 161, 0, 6, 167, 0, 8, 21, 4, 61, 29, 60]
abbrev dktX10_blame_1 : List UInt8 := dkwX10_blame_1 ++ dktX10_blame_2
def dkwX10_blame_0 : List UInt8 := [42, 182, 2, 1, 154, 0, 6, 16, 254, 172, 2, 60, 42, 180, 1, 162, 61, 3, 62, 29, 42, 182, 1, 89]
abbrev dktX10_blame_0 : List UInt8 := dkwX10_blame_0 ++ dktX10_blame_1
theorem dksX10_blame_0 : cX10_blame.data.toList.drop 0 = dktX10_blame_0 := by decide +kernel
theorem dksX10_blame_1 : cX10_blame.data.toList.drop 24 = dktX10_blame_1 := dk_seg dksX10_blame_0 24 rfl rfl
theorem dksX10_blame_2 : cX10_blame.data.toList.drop 48 = dktX10_blame_2 := dk_seg dksX10_blame_1 24 rfl rfl
theorem dX10_blame_0 : decode cX10_blame 0 = .ok (.aload_n 0, 1) := dk_42 (dk_at dksX10_blame_0 0 rfl rfl)
theorem dX10_blame_1 : decode cX10_blame 1 = .ok (.invokevirtual 513, 3) := dk_182 2 1 (dk_at dksX10_blame_0 1 rfl rfl)
theorem dX10_blame_4 : decode cX10_blame 4 = .ok (.ifCond .ne 6, 3) := dk_154 0 6 (dk_at dksX10_blame_0 4 rfl rfl)
theorem dX10_blame_7 : decode cX10_blame 7 = .ok (.bipush (-2), 2) := dk_16 254 (dk_at dksX10_blame_0 7 rfl rfl)
theorem dX10_blame_9 : decode cX10_blame 9 = .ok (.ireturn, 1) := dk_172 (dk_at dksX10_blame_0 9 rfl rfl)
theorem dX10_blame_10 : decode cX10_blame 10 = .ok (.iconst (-1), 1) := dk_2 (dk_at dksX10_blame_0 10 rfl rfl)
theorem dX10_blame_11 : decode cX10_blame 11 = .ok (.istore_n 1, 1) := dk_60 (dk_at dksX10_blame_0 11 rfl rfl)
theorem dX10_blame_12 : decode cX10_blame 12 = .ok (.aload_n 0, 1) := dk_42 (dk_at dksX10_blame_0 12 rfl rfl)
theorem dX10_blame_13 : decode cX10_blame 13 = .ok (.getfield 418, 3) := dk_180 1 162 (dk_at dksX10_blame_0 13 rfl rfl)
theorem dX10_blame_16 : decode cX10_blame 16 = .ok (.istore_n 2, 1) := dk_61 (dk_at dksX10_blame_0 16 rfl rfl)
theorem dX10_blame_17 : decode cX10_blame 17 = .ok (.iconst 0, 1) := dk_3 (dk_at dksX10_blame_0 17 rfl rfl)
theorem dX10_blame_18 : decode cX10_blame 18 = .ok (.istore_n 3, 1) := dk_62 (dk_at dksX10_blame_0 18 rfl rfl)
theorem dX10_blame_19 : decode cX10_blame 19 = .ok (.iload_n 3, 1) := dk_29 (dk_at dksX10_blame_0 19 rfl rfl)
theorem dX10_blame_20 : decode cX10_blame 20 = .ok (.aload_n 0, 1) := dk_42 (dk_at dksX10_blame_0 20 rfl rfl)
theorem dX10_blame_21 : decode cX10_blame 21 = .ok (.invokevirtual 345, 3) := dk_182 1 89 (dk_at dksX10_blame_0 21 rfl rfl)
theorem dX10_blame_24 : decode cX10_blame 24 = .ok (.if_icmp .ge 30, 3) := dk_162 0 30 (dk_at dksX10_blame_1 0 rfl rfl)
theorem dX10_blame_27 : decode cX10_blame 27 = .ok (.aload_n 0, 1) := dk_42 (dk_at dksX10_blame_1 3 rfl rfl)
theorem dX10_blame_28 : decode cX10_blame 28 = .ok (.iload_n 3, 1) := dk_29 (dk_at dksX10_blame_1 4 rfl rfl)
theorem dX10_blame_29 : decode cX10_blame 29 = .ok (.invokevirtual 537, 3) := dk_182 2 25 (dk_at dksX10_blame_1 5 rfl rfl)
theorem dX10_blame_32 : decode cX10_blame 32 = .ok (.istore 4, 2) := dk_54 4 (dk_at dksX10_blame_1 8 rfl rfl)
theorem dX10_blame_34 : decode cX10_blame 34 = .ok (.iload 4, 2) := dk_21 4 (dk_at dksX10_blame_1 10 rfl rfl)
theorem dX10_blame_36 : decode cX10_blame 36 = .ok (.iload_n 2, 1) := dk_28 (dk_at dksX10_blame_1 12 rfl rfl)
theorem dX10_blame_37 : decode cX10_blame 37 = .ok (.if_icmp .lt 6, 3) := dk_161 0 6 (dk_at dksX10_blame_1 13 rfl rfl)
theorem dX10_blame_40 : decode cX10_blame 40 = .ok (.goto 8, 3) := dk_167 0 8 (dk_at dksX10_blame_1 16 rfl rfl)
theorem dX10_blame_43 : decode cX10_blame 43 = .ok (.iload 4, 2) := dk_21 4 (dk_at dksX10_blame_1 19 rfl rfl)
theorem dX10_blame_45 : decode cX10_blame 45 = .ok (.istore_n 2, 1) := dk_61 (dk_at dksX10_blame_1 21 rfl rfl)
theorem dX10_blame_46 : decode cX10_blame 46 = .ok (.iload_n 3, 1) := dk_29 (dk_at dksX10_blame_1 22 rfl rfl)
theorem dX10_blame_47 : decode cX10_blame 47 = .ok (.istore_n 1, 1) := dk_60 (dk_at dksX10_blame_1 23 rfl rfl)
theorem dX10_blame_48 : decode cX10_blame 48 = .ok (.iinc 3 1, 3) := dk_132 3 1 (dk_at dksX10_blame_2 0 rfl rfl)
theorem dX10_blame_51 : decode cX10_blame 51 = .ok (.goto (-32), 3) := dk_167 255 224 (dk_at dksX10_blame_2 3 rfl rfl)
theorem dX10_blame_54 : decode cX10_blame 54 = .ok (.iload_n 1, 1) := dk_27 (dk_at dksX10_blame_2 6 rfl rfl)
theorem dX10_blame_55 : decode cX10_blame 55 = .ok (.ireturn, 1) := dk_172 (dk_at dksX10_blame_2 7 rfl rfl)
abbrev cX10_with : ByteArray := prog_18_method_125_code
def yX10_with : MethodName := ⟨RX10, "with", "(III)I"⟩
def dkwX10_with_1 : List UInt8 := [96, 133, 20, 2, 30, 184, 0, 152, 153, 0, 13, 42, 27, 28, 29, 182, 2, 32, 167, 0, 5, 16, 254, 172]
abbrev dktX10_with_1 : List UInt8 := dkwX10_with_1 ++ []
def dkwX10_with_0 : List UInt8 := [42, 27, 182, 1, 77, 153, 0, 40, 28, 133, 9, 20, 2, 28, 184, 0, 152, 153, 0, 28, 29, 133, 28, 4]
abbrev dktX10_with_0 : List UInt8 := dkwX10_with_0 ++ dktX10_with_1
theorem dksX10_with_0 : cX10_with.data.toList.drop 0 = dktX10_with_0 := by decide +kernel
theorem dksX10_with_1 : cX10_with.data.toList.drop 24 = dktX10_with_1 := dk_seg dksX10_with_0 24 rfl rfl
theorem dX10_with_0 : decode cX10_with 0 = .ok (.aload_n 0, 1) := dk_42 (dk_at dksX10_with_0 0 rfl rfl)
theorem dX10_with_1 : decode cX10_with 1 = .ok (.iload_n 1, 1) := dk_27 (dk_at dksX10_with_0 1 rfl rfl)
theorem dX10_with_2 : decode cX10_with 2 = .ok (.invokevirtual 333, 3) := dk_182 1 77 (dk_at dksX10_with_0 2 rfl rfl)
theorem dX10_with_5 : decode cX10_with 5 = .ok (.ifCond .eq 40, 3) := dk_153 0 40 (dk_at dksX10_with_0 5 rfl rfl)
theorem dX10_with_8 : decode cX10_with 8 = .ok (.iload_n 2, 1) := dk_28 (dk_at dksX10_with_0 8 rfl rfl)
theorem dX10_with_9 : decode cX10_with 9 = .ok (.i2l, 1) := dk_133 (dk_at dksX10_with_0 9 rfl rfl)
theorem dX10_with_10 : decode cX10_with 10 = .ok (.lconst 0, 1) := dk_9 (dk_at dksX10_with_0 10 rfl rfl)
theorem dX10_with_11 : decode cX10_with 11 = .ok (.ldc2_w 540, 3) := dk_20 2 28 (dk_at dksX10_with_0 11 rfl rfl)
theorem dX10_with_14 : decode cX10_with 14 = .ok (.invokestatic 152, 3) := dk_184 0 152 (dk_at dksX10_with_0 14 rfl rfl)
theorem dX10_with_17 : decode cX10_with 17 = .ok (.ifCond .eq 28, 3) := dk_153 0 28 (dk_at dksX10_with_0 17 rfl rfl)
theorem dX10_with_20 : decode cX10_with 20 = .ok (.iload_n 3, 1) := dk_29 (dk_at dksX10_with_0 20 rfl rfl)
theorem dX10_with_21 : decode cX10_with 21 = .ok (.i2l, 1) := dk_133 (dk_at dksX10_with_0 21 rfl rfl)
theorem dX10_with_22 : decode cX10_with 22 = .ok (.iload_n 2, 1) := dk_28 (dk_at dksX10_with_0 22 rfl rfl)
theorem dX10_with_23 : decode cX10_with 23 = .ok (.iconst 1, 1) := dk_4 (dk_at dksX10_with_0 23 rfl rfl)
theorem dX10_with_24 : decode cX10_with 24 = .ok (.iadd, 1) := dk_96 (dk_at dksX10_with_1 0 rfl rfl)
theorem dX10_with_25 : decode cX10_with 25 = .ok (.i2l, 1) := dk_133 (dk_at dksX10_with_1 1 rfl rfl)
theorem dX10_with_26 : decode cX10_with 26 = .ok (.ldc2_w 542, 3) := dk_20 2 30 (dk_at dksX10_with_1 2 rfl rfl)
theorem dX10_with_29 : decode cX10_with 29 = .ok (.invokestatic 152, 3) := dk_184 0 152 (dk_at dksX10_with_1 5 rfl rfl)
theorem dX10_with_32 : decode cX10_with 32 = .ok (.ifCond .eq 13, 3) := dk_153 0 13 (dk_at dksX10_with_1 8 rfl rfl)
theorem dX10_with_35 : decode cX10_with 35 = .ok (.aload_n 0, 1) := dk_42 (dk_at dksX10_with_1 11 rfl rfl)
theorem dX10_with_36 : decode cX10_with 36 = .ok (.iload_n 1, 1) := dk_27 (dk_at dksX10_with_1 12 rfl rfl)
theorem dX10_with_37 : decode cX10_with 37 = .ok (.iload_n 2, 1) := dk_28 (dk_at dksX10_with_1 13 rfl rfl)
theorem dX10_with_38 : decode cX10_with 38 = .ok (.iload_n 3, 1) := dk_29 (dk_at dksX10_with_1 14 rfl rfl)
theorem dX10_with_39 : decode cX10_with 39 = .ok (.invokevirtual 544, 3) := dk_182 2 32 (dk_at dksX10_with_1 15 rfl rfl)
theorem dX10_with_42 : decode cX10_with 42 = .ok (.goto 5, 3) := dk_167 0 5 (dk_at dksX10_with_1 18 rfl rfl)
theorem dX10_with_45 : decode cX10_with 45 = .ok (.bipush (-2), 2) := dk_16 254 (dk_at dksX10_with_1 21 rfl rfl)
theorem dX10_with_47 : decode cX10_with 47 = .ok (.ireturn, 1) := dk_172 (dk_at dksX10_with_1 23 rfl rfl)
abbrev cX10_recordsWith : ByteArray := prog_18_method_124_code
def yX10_recordsWith : MethodName := ⟨RX10, "recordsWith", "(III)I"⟩
def dkwX10_recordsWith_1 : List UInt8 := [3, 46, 182, 1, 248, 42, 180, 1, 162, 172]
abbrev dktX10_recordsWith_1 : List UInt8 := dkwX10_recordsWith_1 ++ []
def dkwX10_recordsWith_0 : List UInt8 := [42, 182, 1, 245, 42, 27, 181, 0, 58, 42, 28, 181, 1, 153, 42, 29, 181, 1, 156, 42, 42, 180, 0, 9]
abbrev dktX10_recordsWith_0 : List UInt8 := dkwX10_recordsWith_0 ++ dktX10_recordsWith_1
theorem dksX10_recordsWith_0 : cX10_recordsWith.data.toList.drop 0 = dktX10_recordsWith_0 := by decide +kernel
theorem dksX10_recordsWith_1 : cX10_recordsWith.data.toList.drop 24 = dktX10_recordsWith_1 := dk_seg dksX10_recordsWith_0 24 rfl rfl
theorem dX10_recordsWith_0 : decode cX10_recordsWith 0 = .ok (.aload_n 0, 1) := dk_42 (dk_at dksX10_recordsWith_0 0 rfl rfl)
theorem dX10_recordsWith_1 : decode cX10_recordsWith 1 = .ok (.invokevirtual 501, 3) := dk_182 1 245 (dk_at dksX10_recordsWith_0 1 rfl rfl)
theorem dX10_recordsWith_4 : decode cX10_recordsWith 4 = .ok (.aload_n 0, 1) := dk_42 (dk_at dksX10_recordsWith_0 4 rfl rfl)
theorem dX10_recordsWith_5 : decode cX10_recordsWith 5 = .ok (.iload_n 1, 1) := dk_27 (dk_at dksX10_recordsWith_0 5 rfl rfl)
theorem dX10_recordsWith_6 : decode cX10_recordsWith 6 = .ok (.putfield 58, 3) := dk_181 0 58 (dk_at dksX10_recordsWith_0 6 rfl rfl)
theorem dX10_recordsWith_9 : decode cX10_recordsWith 9 = .ok (.aload_n 0, 1) := dk_42 (dk_at dksX10_recordsWith_0 9 rfl rfl)
theorem dX10_recordsWith_10 : decode cX10_recordsWith 10 = .ok (.iload_n 2, 1) := dk_28 (dk_at dksX10_recordsWith_0 10 rfl rfl)
theorem dX10_recordsWith_11 : decode cX10_recordsWith 11 = .ok (.putfield 409, 3) := dk_181 1 153 (dk_at dksX10_recordsWith_0 11 rfl rfl)
theorem dX10_recordsWith_14 : decode cX10_recordsWith 14 = .ok (.aload_n 0, 1) := dk_42 (dk_at dksX10_recordsWith_0 14 rfl rfl)
theorem dX10_recordsWith_15 : decode cX10_recordsWith 15 = .ok (.iload_n 3, 1) := dk_29 (dk_at dksX10_recordsWith_0 15 rfl rfl)
theorem dX10_recordsWith_16 : decode cX10_recordsWith 16 = .ok (.putfield 412, 3) := dk_181 1 156 (dk_at dksX10_recordsWith_0 16 rfl rfl)
theorem dX10_recordsWith_19 : decode cX10_recordsWith 19 = .ok (.aload_n 0, 1) := dk_42 (dk_at dksX10_recordsWith_0 19 rfl rfl)
theorem dX10_recordsWith_20 : decode cX10_recordsWith 20 = .ok (.aload_n 0, 1) := dk_42 (dk_at dksX10_recordsWith_0 20 rfl rfl)
theorem dX10_recordsWith_21 : decode cX10_recordsWith 21 = .ok (.getfield 9, 3) := dk_180 0 9 (dk_at dksX10_recordsWith_0 21 rfl rfl)
theorem dX10_recordsWith_24 : decode cX10_recordsWith 24 = .ok (.iconst 0, 1) := dk_3 (dk_at dksX10_recordsWith_1 0 rfl rfl)
theorem dX10_recordsWith_25 : decode cX10_recordsWith 25 = .ok (.iaload, 1) := dk_46 (dk_at dksX10_recordsWith_1 1 rfl rfl)
theorem dX10_recordsWith_26 : decode cX10_recordsWith 26 = .ok (.invokevirtual 504, 3) := dk_182 1 248 (dk_at dksX10_recordsWith_1 2 rfl rfl)
theorem dX10_recordsWith_29 : decode cX10_recordsWith 29 = .ok (.aload_n 0, 1) := dk_42 (dk_at dksX10_recordsWith_1 5 rfl rfl)
theorem dX10_recordsWith_30 : decode cX10_recordsWith 30 = .ok (.getfield 418, 3) := dk_180 1 162 (dk_at dksX10_recordsWith_1 6 rfl rfl)
theorem dX10_recordsWith_33 : decode cX10_recordsWith 33 = .ok (.ireturn, 1) := dk_172 (dk_at dksX10_recordsWith_1 9 rfl rfl)
abbrev cX10_tight : ByteArray := prog_18_method_126_code
def yX10_tight : MethodName := ⟨RX10, "tight", "(I)I"⟩
def dkwX10_tight_2 : List UInt8 := [132, 3, 1, 167, 255, 237, 29, 172]
abbrev dktX10_tight_2 : List UInt8 := dkwX10_tight_2 ++ []
def dkwX10_tight_1 : List UInt8 := [27, 5, 182, 0, 156, 4, 96, 62, 42, 27, 42, 27, 5, 182, 0, 156, 29, 182, 2, 32, 28, 164, 0, 9]
abbrev dktX10_tight_1 : List UInt8 := dkwX10_tight_1 ++ dktX10_tight_2
def dkwX10_tight_0 : List UInt8 := [42, 27, 182, 1, 77, 153, 0, 10, 42, 182, 2, 1, 154, 0, 6, 16, 254, 172, 42, 180, 1, 162, 61, 42]
abbrev dktX10_tight_0 : List UInt8 := dkwX10_tight_0 ++ dktX10_tight_1
theorem dksX10_tight_0 : cX10_tight.data.toList.drop 0 = dktX10_tight_0 := by decide +kernel
theorem dksX10_tight_1 : cX10_tight.data.toList.drop 24 = dktX10_tight_1 := dk_seg dksX10_tight_0 24 rfl rfl
theorem dksX10_tight_2 : cX10_tight.data.toList.drop 48 = dktX10_tight_2 := dk_seg dksX10_tight_1 24 rfl rfl
theorem dX10_tight_0 : decode cX10_tight 0 = .ok (.aload_n 0, 1) := dk_42 (dk_at dksX10_tight_0 0 rfl rfl)
theorem dX10_tight_1 : decode cX10_tight 1 = .ok (.iload_n 1, 1) := dk_27 (dk_at dksX10_tight_0 1 rfl rfl)
theorem dX10_tight_2 : decode cX10_tight 2 = .ok (.invokevirtual 333, 3) := dk_182 1 77 (dk_at dksX10_tight_0 2 rfl rfl)
theorem dX10_tight_5 : decode cX10_tight 5 = .ok (.ifCond .eq 10, 3) := dk_153 0 10 (dk_at dksX10_tight_0 5 rfl rfl)
theorem dX10_tight_8 : decode cX10_tight 8 = .ok (.aload_n 0, 1) := dk_42 (dk_at dksX10_tight_0 8 rfl rfl)
theorem dX10_tight_9 : decode cX10_tight 9 = .ok (.invokevirtual 513, 3) := dk_182 2 1 (dk_at dksX10_tight_0 9 rfl rfl)
theorem dX10_tight_12 : decode cX10_tight 12 = .ok (.ifCond .ne 6, 3) := dk_154 0 6 (dk_at dksX10_tight_0 12 rfl rfl)
theorem dX10_tight_15 : decode cX10_tight 15 = .ok (.bipush (-2), 2) := dk_16 254 (dk_at dksX10_tight_0 15 rfl rfl)
theorem dX10_tight_17 : decode cX10_tight 17 = .ok (.ireturn, 1) := dk_172 (dk_at dksX10_tight_0 17 rfl rfl)
theorem dX10_tight_18 : decode cX10_tight 18 = .ok (.aload_n 0, 1) := dk_42 (dk_at dksX10_tight_0 18 rfl rfl)
theorem dX10_tight_19 : decode cX10_tight 19 = .ok (.getfield 418, 3) := dk_180 1 162 (dk_at dksX10_tight_0 19 rfl rfl)
theorem dX10_tight_22 : decode cX10_tight 22 = .ok (.istore_n 2, 1) := dk_61 (dk_at dksX10_tight_0 22 rfl rfl)
theorem dX10_tight_23 : decode cX10_tight 23 = .ok (.aload_n 0, 1) := dk_42 (dk_at dksX10_tight_0 23 rfl rfl)
theorem dX10_tight_24 : decode cX10_tight 24 = .ok (.iload_n 1, 1) := dk_27 (dk_at dksX10_tight_1 0 rfl rfl)
theorem dX10_tight_25 : decode cX10_tight 25 = .ok (.iconst 2, 1) := dk_5 (dk_at dksX10_tight_1 1 rfl rfl)
theorem dX10_tight_26 : decode cX10_tight 26 = .ok (.invokevirtual 156, 3) := dk_182 0 156 (dk_at dksX10_tight_1 2 rfl rfl)
theorem dX10_tight_29 : decode cX10_tight 29 = .ok (.iconst 1, 1) := dk_4 (dk_at dksX10_tight_1 5 rfl rfl)
theorem dX10_tight_30 : decode cX10_tight 30 = .ok (.iadd, 1) := dk_96 (dk_at dksX10_tight_1 6 rfl rfl)
theorem dX10_tight_31 : decode cX10_tight 31 = .ok (.istore_n 3, 1) := dk_62 (dk_at dksX10_tight_1 7 rfl rfl)
theorem dX10_tight_32 : decode cX10_tight 32 = .ok (.aload_n 0, 1) := dk_42 (dk_at dksX10_tight_1 8 rfl rfl)
theorem dX10_tight_33 : decode cX10_tight 33 = .ok (.iload_n 1, 1) := dk_27 (dk_at dksX10_tight_1 9 rfl rfl)
theorem dX10_tight_34 : decode cX10_tight 34 = .ok (.aload_n 0, 1) := dk_42 (dk_at dksX10_tight_1 10 rfl rfl)
theorem dX10_tight_35 : decode cX10_tight 35 = .ok (.iload_n 1, 1) := dk_27 (dk_at dksX10_tight_1 11 rfl rfl)
theorem dX10_tight_36 : decode cX10_tight 36 = .ok (.iconst 2, 1) := dk_5 (dk_at dksX10_tight_1 12 rfl rfl)
theorem dX10_tight_37 : decode cX10_tight 37 = .ok (.invokevirtual 156, 3) := dk_182 0 156 (dk_at dksX10_tight_1 13 rfl rfl)
theorem dX10_tight_40 : decode cX10_tight 40 = .ok (.iload_n 3, 1) := dk_29 (dk_at dksX10_tight_1 16 rfl rfl)
theorem dX10_tight_41 : decode cX10_tight 41 = .ok (.invokevirtual 544, 3) := dk_182 2 32 (dk_at dksX10_tight_1 17 rfl rfl)
theorem dX10_tight_44 : decode cX10_tight 44 = .ok (.iload_n 2, 1) := dk_28 (dk_at dksX10_tight_1 20 rfl rfl)
theorem dX10_tight_45 : decode cX10_tight 45 = .ok (.if_icmp .le 9, 3) := dk_164 0 9 (dk_at dksX10_tight_1 21 rfl rfl)
theorem dX10_tight_48 : decode cX10_tight 48 = .ok (.iinc 3 1, 3) := dk_132 3 1 (dk_at dksX10_tight_2 0 rfl rfl)
theorem dX10_tight_51 : decode cX10_tight 51 = .ok (.goto (-19), 3) := dk_167 255 237 (dk_at dksX10_tight_2 3 rfl rfl)
theorem dX10_tight_54 : decode cX10_tight 54 = .ok (.iload_n 3, 1) := dk_29 (dk_at dksX10_tight_2 6 rfl rfl)
theorem dX10_tight_55 : decode cX10_tight 55 = .ok (.ireturn, 1) := dk_172 (dk_at dksX10_tight_2 7 rfl rfl)
abbrev cX10_loose : ByteArray := prog_18_method_127_code
def yX10_loose : MethodName := ⟨RX10, "loose", "(I)I"⟩
def dkwX10_loose_2 : List UInt8 := [182, 2, 32, 28, 164, 0, 9, 132, 3, 255, 167, 255, 237, 29, 172]
abbrev dktX10_loose_2 : List UInt8 := dkwX10_loose_2 ++ []
def dkwX10_loose_1 : List UInt8 := [16, 99, 42, 27, 6, 182, 0, 156, 4, 100, 184, 0, 191, 62, 42, 27, 29, 42, 27, 6, 182, 0, 156]
abbrev dktX10_loose_1 : List UInt8 := dkwX10_loose_1 ++ dktX10_loose_2
def dkwX10_loose_0 : List UInt8 := [42, 27, 182, 1, 77, 153, 0, 10, 42, 182, 2, 1, 154, 0, 6, 16, 254, 172, 42, 180, 1, 162, 61]
abbrev dktX10_loose_0 : List UInt8 := dkwX10_loose_0 ++ dktX10_loose_1
theorem dksX10_loose_0 : cX10_loose.data.toList.drop 0 = dktX10_loose_0 := by decide +kernel
theorem dksX10_loose_1 : cX10_loose.data.toList.drop 23 = dktX10_loose_1 := dk_seg dksX10_loose_0 23 rfl rfl
theorem dksX10_loose_2 : cX10_loose.data.toList.drop 46 = dktX10_loose_2 := dk_seg dksX10_loose_1 23 rfl rfl
theorem dX10_loose_0 : decode cX10_loose 0 = .ok (.aload_n 0, 1) := dk_42 (dk_at dksX10_loose_0 0 rfl rfl)
theorem dX10_loose_1 : decode cX10_loose 1 = .ok (.iload_n 1, 1) := dk_27 (dk_at dksX10_loose_0 1 rfl rfl)
theorem dX10_loose_2 : decode cX10_loose 2 = .ok (.invokevirtual 333, 3) := dk_182 1 77 (dk_at dksX10_loose_0 2 rfl rfl)
theorem dX10_loose_5 : decode cX10_loose 5 = .ok (.ifCond .eq 10, 3) := dk_153 0 10 (dk_at dksX10_loose_0 5 rfl rfl)
theorem dX10_loose_8 : decode cX10_loose 8 = .ok (.aload_n 0, 1) := dk_42 (dk_at dksX10_loose_0 8 rfl rfl)
theorem dX10_loose_9 : decode cX10_loose 9 = .ok (.invokevirtual 513, 3) := dk_182 2 1 (dk_at dksX10_loose_0 9 rfl rfl)
theorem dX10_loose_12 : decode cX10_loose 12 = .ok (.ifCond .ne 6, 3) := dk_154 0 6 (dk_at dksX10_loose_0 12 rfl rfl)
theorem dX10_loose_15 : decode cX10_loose 15 = .ok (.bipush (-2), 2) := dk_16 254 (dk_at dksX10_loose_0 15 rfl rfl)
theorem dX10_loose_17 : decode cX10_loose 17 = .ok (.ireturn, 1) := dk_172 (dk_at dksX10_loose_0 17 rfl rfl)
theorem dX10_loose_18 : decode cX10_loose 18 = .ok (.aload_n 0, 1) := dk_42 (dk_at dksX10_loose_0 18 rfl rfl)
theorem dX10_loose_19 : decode cX10_loose 19 = .ok (.getfield 418, 3) := dk_180 1 162 (dk_at dksX10_loose_0 19 rfl rfl)
theorem dX10_loose_22 : decode cX10_loose 22 = .ok (.istore_n 2, 1) := dk_61 (dk_at dksX10_loose_0 22 rfl rfl)
theorem dX10_loose_23 : decode cX10_loose 23 = .ok (.bipush 99, 2) := dk_16 99 (dk_at dksX10_loose_1 0 rfl rfl)
theorem dX10_loose_25 : decode cX10_loose 25 = .ok (.aload_n 0, 1) := dk_42 (dk_at dksX10_loose_1 2 rfl rfl)
theorem dX10_loose_26 : decode cX10_loose 26 = .ok (.iload_n 1, 1) := dk_27 (dk_at dksX10_loose_1 3 rfl rfl)
theorem dX10_loose_27 : decode cX10_loose 27 = .ok (.iconst 3, 1) := dk_6 (dk_at dksX10_loose_1 4 rfl rfl)
theorem dX10_loose_28 : decode cX10_loose 28 = .ok (.invokevirtual 156, 3) := dk_182 0 156 (dk_at dksX10_loose_1 5 rfl rfl)
theorem dX10_loose_31 : decode cX10_loose 31 = .ok (.iconst 1, 1) := dk_4 (dk_at dksX10_loose_1 8 rfl rfl)
theorem dX10_loose_32 : decode cX10_loose 32 = .ok (.isub, 1) := dk_100 (dk_at dksX10_loose_1 9 rfl rfl)
theorem dX10_loose_33 : decode cX10_loose 33 = .ok (.invokestatic 191, 3) := dk_184 0 191 (dk_at dksX10_loose_1 10 rfl rfl)
theorem dX10_loose_36 : decode cX10_loose 36 = .ok (.istore_n 3, 1) := dk_62 (dk_at dksX10_loose_1 13 rfl rfl)
theorem dX10_loose_37 : decode cX10_loose 37 = .ok (.aload_n 0, 1) := dk_42 (dk_at dksX10_loose_1 14 rfl rfl)
theorem dX10_loose_38 : decode cX10_loose 38 = .ok (.iload_n 1, 1) := dk_27 (dk_at dksX10_loose_1 15 rfl rfl)
theorem dX10_loose_39 : decode cX10_loose 39 = .ok (.iload_n 3, 1) := dk_29 (dk_at dksX10_loose_1 16 rfl rfl)
theorem dX10_loose_40 : decode cX10_loose 40 = .ok (.aload_n 0, 1) := dk_42 (dk_at dksX10_loose_1 17 rfl rfl)
theorem dX10_loose_41 : decode cX10_loose 41 = .ok (.iload_n 1, 1) := dk_27 (dk_at dksX10_loose_1 18 rfl rfl)
theorem dX10_loose_42 : decode cX10_loose 42 = .ok (.iconst 3, 1) := dk_6 (dk_at dksX10_loose_1 19 rfl rfl)
theorem dX10_loose_43 : decode cX10_loose 43 = .ok (.invokevirtual 156, 3) := dk_182 0 156 (dk_at dksX10_loose_1 20 rfl rfl)
theorem dX10_loose_46 : decode cX10_loose 46 = .ok (.invokevirtual 544, 3) := dk_182 2 32 (dk_at dksX10_loose_2 0 rfl rfl)
theorem dX10_loose_49 : decode cX10_loose 49 = .ok (.iload_n 2, 1) := dk_28 (dk_at dksX10_loose_2 3 rfl rfl)
theorem dX10_loose_50 : decode cX10_loose 50 = .ok (.if_icmp .le 9, 3) := dk_164 0 9 (dk_at dksX10_loose_2 4 rfl rfl)
theorem dX10_loose_53 : decode cX10_loose 53 = .ok (.iinc 3 (-1), 3) := dk_132 3 255 (dk_at dksX10_loose_2 7 rfl rfl)
theorem dX10_loose_56 : decode cX10_loose 56 = .ok (.goto (-19), 3) := dk_167 255 237 (dk_at dksX10_loose_2 10 rfl rfl)
theorem dX10_loose_59 : decode cX10_loose 59 = .ok (.iload_n 3, 1) := dk_29 (dk_at dksX10_loose_2 13 rfl rfl)
theorem dX10_loose_60 : decode cX10_loose 60 = .ok (.ireturn, 1) := dk_172 (dk_at dksX10_loose_2 14 rfl rfl)
abbrev cX10_longest : ByteArray := prog_18_method_130_code
def yX10_longest : MethodName := ⟨RX10, "longest", "(II)I"⟩
def dkwX10_longest_0 : List UInt8 := [42, 27, 28, 182, 2, 44, 153, 0, 10, 42, 180, 2, 35, 167, 0, 5, 16, 254, 172]
abbrev dktX10_longest_0 : List UInt8 := dkwX10_longest_0 ++ []
theorem dksX10_longest_0 : cX10_longest.data.toList.drop 0 = dktX10_longest_0 := by decide +kernel
theorem dX10_longest_0 : decode cX10_longest 0 = .ok (.aload_n 0, 1) := dk_42 (dk_at dksX10_longest_0 0 rfl rfl)
theorem dX10_longest_1 : decode cX10_longest 1 = .ok (.iload_n 1, 1) := dk_27 (dk_at dksX10_longest_0 1 rfl rfl)
theorem dX10_longest_2 : decode cX10_longest 2 = .ok (.iload_n 2, 1) := dk_28 (dk_at dksX10_longest_0 2 rfl rfl)
theorem dX10_longest_3 : decode cX10_longest 3 = .ok (.invokevirtual 556, 3) := dk_182 2 44 (dk_at dksX10_longest_0 3 rfl rfl)
theorem dX10_longest_6 : decode cX10_longest 6 = .ok (.ifCond .eq 10, 3) := dk_153 0 10 (dk_at dksX10_longest_0 6 rfl rfl)
theorem dX10_longest_9 : decode cX10_longest 9 = .ok (.aload_n 0, 1) := dk_42 (dk_at dksX10_longest_0 9 rfl rfl)
theorem dX10_longest_10 : decode cX10_longest 10 = .ok (.getfield 547, 3) := dk_180 2 35 (dk_at dksX10_longest_0 10 rfl rfl)
theorem dX10_longest_13 : decode cX10_longest 13 = .ok (.goto 5, 3) := dk_167 0 5 (dk_at dksX10_longest_0 13 rfl rfl)
theorem dX10_longest_16 : decode cX10_longest 16 = .ok (.bipush (-2), 2) := dk_16 254 (dk_at dksX10_longest_0 16 rfl rfl)
theorem dX10_longest_18 : decode cX10_longest 18 = .ok (.ireturn, 1) := dk_172 (dk_at dksX10_longest_0 18 rfl rfl)
abbrev cX10_asksExtras : ByteArray := prog_18_method_129_code
def yX10_asksExtras : MethodName := ⟨RX10, "asksExtras", "(II)Z"⟩
def dkwX10_asksExtras_4 : List UInt8 := [167, 0, 5, 21, 5, 182, 2, 41, 132, 5, 1, 167, 255, 215, 132, 4, 1, 167, 255, 200, 4, 172]
abbrev dktX10_asksExtras_4 : List UInt8 := dkwX10_asksExtras_4 ++ []
def dkwX10_asksExtras_3 : List UInt8 := [167, 0, 8, 42, 27, 182, 1, 61, 162, 0, 28, 42, 28, 27, 21, 4, 28, 7, 160, 0, 7, 2]
abbrev dktX10_asksExtras_3 : List UInt8 := dkwX10_asksExtras_3 ++ dktX10_asksExtras_4
def dkwX10_asksExtras_2 : List UInt8 := [181, 2, 38, 3, 54, 4, 21, 4, 29, 162, 0, 56, 3, 54, 5, 21, 5, 28, 7, 160, 0, 7, 4]
abbrev dktX10_asksExtras_2 : List UInt8 := dkwX10_asksExtras_2 ++ dktX10_asksExtras_3
def dkwX10_asksExtras_1 : List UInt8 := [154, 0, 5, 3, 172, 16, 51, 42, 180, 0, 67, 27, 46, 184, 0, 191, 62, 42, 2, 181, 2, 35, 42, 3]
abbrev dktX10_asksExtras_1 : List UInt8 := dkwX10_asksExtras_1 ++ dktX10_asksExtras_2
def dkwX10_asksExtras_0 : List UInt8 := [42, 27, 182, 1, 77, 153, 0, 22, 28, 133, 9, 20, 1, 92, 184, 0, 152, 153, 0, 10, 42, 182, 2, 1]
abbrev dktX10_asksExtras_0 : List UInt8 := dkwX10_asksExtras_0 ++ dktX10_asksExtras_1
theorem dksX10_asksExtras_0 : cX10_asksExtras.data.toList.drop 0 = dktX10_asksExtras_0 := by decide +kernel
theorem dksX10_asksExtras_1 : cX10_asksExtras.data.toList.drop 24 = dktX10_asksExtras_1 := dk_seg dksX10_asksExtras_0 24 rfl rfl
theorem dksX10_asksExtras_2 : cX10_asksExtras.data.toList.drop 48 = dktX10_asksExtras_2 := dk_seg dksX10_asksExtras_1 24 rfl rfl
theorem dksX10_asksExtras_3 : cX10_asksExtras.data.toList.drop 71 = dktX10_asksExtras_3 := dk_seg dksX10_asksExtras_2 23 rfl rfl
theorem dksX10_asksExtras_4 : cX10_asksExtras.data.toList.drop 93 = dktX10_asksExtras_4 := dk_seg dksX10_asksExtras_3 22 rfl rfl
theorem dX10_asksExtras_0 : decode cX10_asksExtras 0 = .ok (.aload_n 0, 1) := dk_42 (dk_at dksX10_asksExtras_0 0 rfl rfl)
theorem dX10_asksExtras_1 : decode cX10_asksExtras 1 = .ok (.iload_n 1, 1) := dk_27 (dk_at dksX10_asksExtras_0 1 rfl rfl)
theorem dX10_asksExtras_2 : decode cX10_asksExtras 2 = .ok (.invokevirtual 333, 3) := dk_182 1 77 (dk_at dksX10_asksExtras_0 2 rfl rfl)
theorem dX10_asksExtras_5 : decode cX10_asksExtras 5 = .ok (.ifCond .eq 22, 3) := dk_153 0 22 (dk_at dksX10_asksExtras_0 5 rfl rfl)
theorem dX10_asksExtras_8 : decode cX10_asksExtras 8 = .ok (.iload_n 2, 1) := dk_28 (dk_at dksX10_asksExtras_0 8 rfl rfl)
theorem dX10_asksExtras_9 : decode cX10_asksExtras 9 = .ok (.i2l, 1) := dk_133 (dk_at dksX10_asksExtras_0 9 rfl rfl)
theorem dX10_asksExtras_10 : decode cX10_asksExtras 10 = .ok (.lconst 0, 1) := dk_9 (dk_at dksX10_asksExtras_0 10 rfl rfl)
theorem dX10_asksExtras_11 : decode cX10_asksExtras 11 = .ok (.ldc2_w 348, 3) := dk_20 1 92 (dk_at dksX10_asksExtras_0 11 rfl rfl)
theorem dX10_asksExtras_14 : decode cX10_asksExtras 14 = .ok (.invokestatic 152, 3) := dk_184 0 152 (dk_at dksX10_asksExtras_0 14 rfl rfl)
theorem dX10_asksExtras_17 : decode cX10_asksExtras 17 = .ok (.ifCond .eq 10, 3) := dk_153 0 10 (dk_at dksX10_asksExtras_0 17 rfl rfl)
theorem dX10_asksExtras_20 : decode cX10_asksExtras 20 = .ok (.aload_n 0, 1) := dk_42 (dk_at dksX10_asksExtras_0 20 rfl rfl)
theorem dX10_asksExtras_21 : decode cX10_asksExtras 21 = .ok (.invokevirtual 513, 3) := dk_182 2 1 (dk_at dksX10_asksExtras_0 21 rfl rfl)
theorem dX10_asksExtras_24 : decode cX10_asksExtras 24 = .ok (.ifCond .ne 5, 3) := dk_154 0 5 (dk_at dksX10_asksExtras_1 0 rfl rfl)
theorem dX10_asksExtras_27 : decode cX10_asksExtras 27 = .ok (.iconst 0, 1) := dk_3 (dk_at dksX10_asksExtras_1 3 rfl rfl)
theorem dX10_asksExtras_28 : decode cX10_asksExtras 28 = .ok (.ireturn, 1) := dk_172 (dk_at dksX10_asksExtras_1 4 rfl rfl)
theorem dX10_asksExtras_29 : decode cX10_asksExtras 29 = .ok (.bipush 51, 2) := dk_16 51 (dk_at dksX10_asksExtras_1 5 rfl rfl)
theorem dX10_asksExtras_31 : decode cX10_asksExtras 31 = .ok (.aload_n 0, 1) := dk_42 (dk_at dksX10_asksExtras_1 7 rfl rfl)
theorem dX10_asksExtras_32 : decode cX10_asksExtras 32 = .ok (.getfield 67, 3) := dk_180 0 67 (dk_at dksX10_asksExtras_1 8 rfl rfl)
theorem dX10_asksExtras_35 : decode cX10_asksExtras 35 = .ok (.iload_n 1, 1) := dk_27 (dk_at dksX10_asksExtras_1 11 rfl rfl)
theorem dX10_asksExtras_36 : decode cX10_asksExtras 36 = .ok (.iaload, 1) := dk_46 (dk_at dksX10_asksExtras_1 12 rfl rfl)
theorem dX10_asksExtras_37 : decode cX10_asksExtras 37 = .ok (.invokestatic 191, 3) := dk_184 0 191 (dk_at dksX10_asksExtras_1 13 rfl rfl)
theorem dX10_asksExtras_40 : decode cX10_asksExtras 40 = .ok (.istore_n 3, 1) := dk_62 (dk_at dksX10_asksExtras_1 16 rfl rfl)
theorem dX10_asksExtras_41 : decode cX10_asksExtras 41 = .ok (.aload_n 0, 1) := dk_42 (dk_at dksX10_asksExtras_1 17 rfl rfl)
theorem dX10_asksExtras_42 : decode cX10_asksExtras 42 = .ok (.iconst (-1), 1) := dk_2 (dk_at dksX10_asksExtras_1 18 rfl rfl)
theorem dX10_asksExtras_43 : decode cX10_asksExtras 43 = .ok (.putfield 547, 3) := dk_181 2 35 (dk_at dksX10_asksExtras_1 19 rfl rfl)
theorem dX10_asksExtras_46 : decode cX10_asksExtras 46 = .ok (.aload_n 0, 1) := dk_42 (dk_at dksX10_asksExtras_1 22 rfl rfl)
theorem dX10_asksExtras_47 : decode cX10_asksExtras 47 = .ok (.iconst 0, 1) := dk_3 (dk_at dksX10_asksExtras_1 23 rfl rfl)
theorem dX10_asksExtras_48 : decode cX10_asksExtras 48 = .ok (.putfield 550, 3) := dk_181 2 38 (dk_at dksX10_asksExtras_2 0 rfl rfl)
theorem dX10_asksExtras_51 : decode cX10_asksExtras 51 = .ok (.iconst 0, 1) := dk_3 (dk_at dksX10_asksExtras_2 3 rfl rfl)
theorem dX10_asksExtras_52 : decode cX10_asksExtras 52 = .ok (.istore 4, 2) := dk_54 4 (dk_at dksX10_asksExtras_2 4 rfl rfl)
theorem dX10_asksExtras_54 : decode cX10_asksExtras 54 = .ok (.iload 4, 2) := dk_21 4 (dk_at dksX10_asksExtras_2 6 rfl rfl)
theorem dX10_asksExtras_56 : decode cX10_asksExtras 56 = .ok (.iload_n 3, 1) := dk_29 (dk_at dksX10_asksExtras_2 8 rfl rfl)
theorem dX10_asksExtras_57 : decode cX10_asksExtras 57 = .ok (.if_icmp .ge 56, 3) := dk_162 0 56 (dk_at dksX10_asksExtras_2 9 rfl rfl)
theorem dX10_asksExtras_60 : decode cX10_asksExtras 60 = .ok (.iconst 0, 1) := dk_3 (dk_at dksX10_asksExtras_2 12 rfl rfl)
theorem dX10_asksExtras_61 : decode cX10_asksExtras 61 = .ok (.istore 5, 2) := dk_54 5 (dk_at dksX10_asksExtras_2 13 rfl rfl)
theorem dX10_asksExtras_63 : decode cX10_asksExtras 63 = .ok (.iload 5, 2) := dk_21 5 (dk_at dksX10_asksExtras_2 15 rfl rfl)
theorem dX10_asksExtras_65 : decode cX10_asksExtras 65 = .ok (.iload_n 2, 1) := dk_28 (dk_at dksX10_asksExtras_2 17 rfl rfl)
theorem dX10_asksExtras_66 : decode cX10_asksExtras 66 = .ok (.iconst 4, 1) := dk_7 (dk_at dksX10_asksExtras_2 18 rfl rfl)
theorem dX10_asksExtras_67 : decode cX10_asksExtras 67 = .ok (.if_icmp .ne 7, 3) := dk_160 0 7 (dk_at dksX10_asksExtras_2 19 rfl rfl)
theorem dX10_asksExtras_70 : decode cX10_asksExtras 70 = .ok (.iconst 1, 1) := dk_4 (dk_at dksX10_asksExtras_2 22 rfl rfl)
theorem dX10_asksExtras_71 : decode cX10_asksExtras 71 = .ok (.goto 8, 3) := dk_167 0 8 (dk_at dksX10_asksExtras_3 0 rfl rfl)
theorem dX10_asksExtras_74 : decode cX10_asksExtras 74 = .ok (.aload_n 0, 1) := dk_42 (dk_at dksX10_asksExtras_3 3 rfl rfl)
theorem dX10_asksExtras_75 : decode cX10_asksExtras 75 = .ok (.iload_n 1, 1) := dk_27 (dk_at dksX10_asksExtras_3 4 rfl rfl)
theorem dX10_asksExtras_76 : decode cX10_asksExtras 76 = .ok (.invokevirtual 317, 3) := dk_182 1 61 (dk_at dksX10_asksExtras_3 5 rfl rfl)
theorem dX10_asksExtras_79 : decode cX10_asksExtras 79 = .ok (.if_icmp .ge 28, 3) := dk_162 0 28 (dk_at dksX10_asksExtras_3 8 rfl rfl)
theorem dX10_asksExtras_82 : decode cX10_asksExtras 82 = .ok (.aload_n 0, 1) := dk_42 (dk_at dksX10_asksExtras_3 11 rfl rfl)
theorem dX10_asksExtras_83 : decode cX10_asksExtras 83 = .ok (.iload_n 2, 1) := dk_28 (dk_at dksX10_asksExtras_3 12 rfl rfl)
theorem dX10_asksExtras_84 : decode cX10_asksExtras 84 = .ok (.iload_n 1, 1) := dk_27 (dk_at dksX10_asksExtras_3 13 rfl rfl)
theorem dX10_asksExtras_85 : decode cX10_asksExtras 85 = .ok (.iload 4, 2) := dk_21 4 (dk_at dksX10_asksExtras_3 14 rfl rfl)
theorem dX10_asksExtras_87 : decode cX10_asksExtras 87 = .ok (.iload_n 2, 1) := dk_28 (dk_at dksX10_asksExtras_3 16 rfl rfl)
theorem dX10_asksExtras_88 : decode cX10_asksExtras 88 = .ok (.iconst 4, 1) := dk_7 (dk_at dksX10_asksExtras_3 17 rfl rfl)
theorem dX10_asksExtras_89 : decode cX10_asksExtras 89 = .ok (.if_icmp .ne 7, 3) := dk_160 0 7 (dk_at dksX10_asksExtras_3 18 rfl rfl)
theorem dX10_asksExtras_92 : decode cX10_asksExtras 92 = .ok (.iconst (-1), 1) := dk_2 (dk_at dksX10_asksExtras_3 21 rfl rfl)
theorem dX10_asksExtras_93 : decode cX10_asksExtras 93 = .ok (.goto 5, 3) := dk_167 0 5 (dk_at dksX10_asksExtras_4 0 rfl rfl)
theorem dX10_asksExtras_96 : decode cX10_asksExtras 96 = .ok (.iload 5, 2) := dk_21 5 (dk_at dksX10_asksExtras_4 3 rfl rfl)
theorem dX10_asksExtras_98 : decode cX10_asksExtras 98 = .ok (.invokevirtual 553, 3) := dk_182 2 41 (dk_at dksX10_asksExtras_4 5 rfl rfl)
theorem dX10_asksExtras_101 : decode cX10_asksExtras 101 = .ok (.iinc 5 1, 3) := dk_132 5 1 (dk_at dksX10_asksExtras_4 8 rfl rfl)
theorem dX10_asksExtras_104 : decode cX10_asksExtras 104 = .ok (.goto (-41), 3) := dk_167 255 215 (dk_at dksX10_asksExtras_4 11 rfl rfl)
theorem dX10_asksExtras_107 : decode cX10_asksExtras 107 = .ok (.iinc 4 1, 3) := dk_132 4 1 (dk_at dksX10_asksExtras_4 14 rfl rfl)
theorem dX10_asksExtras_110 : decode cX10_asksExtras 110 = .ok (.goto (-56), 3) := dk_167 255 200 (dk_at dksX10_asksExtras_4 17 rfl rfl)
theorem dX10_asksExtras_113 : decode cX10_asksExtras 113 = .ok (.iconst 1, 1) := dk_4 (dk_at dksX10_asksExtras_4 20 rfl rfl)
theorem dX10_asksExtras_114 : decode cX10_asksExtras 114 = .ok (.ireturn, 1) := dk_172 (dk_at dksX10_asksExtras_4 21 rfl rfl)
abbrev cX10_extra : ByteArray := prog_18_method_128_code
def yX10_extra : MethodName := ⟨RX10, "extra", "(IIII)V"⟩
def dkwX10_extra_5 : List UInt8 := [167, 0, 4, 3, 96, 181, 2, 38, 177]
abbrev dktX10_extra_5 : List UInt8 := dkwX10_extra_5 ++ []
def dkwX10_extra_4 : List UInt8 := [42, 180, 2, 35, 21, 6, 184, 1, 71, 181, 2, 35, 42, 89, 180, 2, 38, 21, 6, 2, 160, 0, 7, 4]
abbrev dktX10_extra_4 : List UInt8 := dkwX10_extra_4 ++ dktX10_extra_5
def dkwX10_extra_3 : List UInt8 := [180, 0, 9, 3, 46, 182, 1, 248, 42, 42, 182, 1, 89, 182, 2, 22, 54, 6, 42, 3, 181, 1, 159, 42]
abbrev dktX10_extra_3 : List UInt8 := dkwX10_extra_3 ++ dktX10_extra_4
def dkwX10_extra_2 : List UInt8 := [42, 180, 0, 9, 21, 5, 6, 96, 21, 4, 79, 42, 180, 0, 9, 21, 5, 7, 96, 4, 79, 42, 42]
abbrev dktX10_extra_2 : List UInt8 := dkwX10_extra_2 ++ dktX10_extra_3
def dkwX10_extra_1 : List UInt8 := [21, 5, 27, 79, 42, 180, 0, 9, 21, 5, 4, 96, 28, 79, 42, 180, 0, 9, 21, 5, 5, 96, 29, 79]
abbrev dktX10_extra_1 : List UInt8 := dkwX10_extra_1 ++ dktX10_extra_2
def dkwX10_extra_0 : List UInt8 := [16, 106, 8, 42, 182, 1, 89, 104, 96, 54, 5, 42, 182, 1, 245, 42, 4, 181, 1, 159, 42, 180, 0, 9]
abbrev dktX10_extra_0 : List UInt8 := dkwX10_extra_0 ++ dktX10_extra_1
theorem dksX10_extra_0 : cX10_extra.data.toList.drop 0 = dktX10_extra_0 := by decide +kernel
theorem dksX10_extra_1 : cX10_extra.data.toList.drop 24 = dktX10_extra_1 := dk_seg dksX10_extra_0 24 rfl rfl
theorem dksX10_extra_2 : cX10_extra.data.toList.drop 48 = dktX10_extra_2 := dk_seg dksX10_extra_1 24 rfl rfl
theorem dksX10_extra_3 : cX10_extra.data.toList.drop 71 = dktX10_extra_3 := dk_seg dksX10_extra_2 23 rfl rfl
theorem dksX10_extra_4 : cX10_extra.data.toList.drop 95 = dktX10_extra_4 := dk_seg dksX10_extra_3 24 rfl rfl
theorem dksX10_extra_5 : cX10_extra.data.toList.drop 119 = dktX10_extra_5 := dk_seg dksX10_extra_4 24 rfl rfl
theorem dX10_extra_0 : decode cX10_extra 0 = .ok (.bipush 106, 2) := dk_16 106 (dk_at dksX10_extra_0 0 rfl rfl)
theorem dX10_extra_2 : decode cX10_extra 2 = .ok (.iconst 5, 1) := dk_8 (dk_at dksX10_extra_0 2 rfl rfl)
theorem dX10_extra_3 : decode cX10_extra 3 = .ok (.aload_n 0, 1) := dk_42 (dk_at dksX10_extra_0 3 rfl rfl)
theorem dX10_extra_4 : decode cX10_extra 4 = .ok (.invokevirtual 345, 3) := dk_182 1 89 (dk_at dksX10_extra_0 4 rfl rfl)
theorem dX10_extra_7 : decode cX10_extra 7 = .ok (.imul, 1) := dk_104 (dk_at dksX10_extra_0 7 rfl rfl)
theorem dX10_extra_8 : decode cX10_extra 8 = .ok (.iadd, 1) := dk_96 (dk_at dksX10_extra_0 8 rfl rfl)
theorem dX10_extra_9 : decode cX10_extra 9 = .ok (.istore 5, 2) := dk_54 5 (dk_at dksX10_extra_0 9 rfl rfl)
theorem dX10_extra_11 : decode cX10_extra 11 = .ok (.aload_n 0, 1) := dk_42 (dk_at dksX10_extra_0 11 rfl rfl)
theorem dX10_extra_12 : decode cX10_extra 12 = .ok (.invokevirtual 501, 3) := dk_182 1 245 (dk_at dksX10_extra_0 12 rfl rfl)
theorem dX10_extra_15 : decode cX10_extra 15 = .ok (.aload_n 0, 1) := dk_42 (dk_at dksX10_extra_0 15 rfl rfl)
theorem dX10_extra_16 : decode cX10_extra 16 = .ok (.iconst 1, 1) := dk_4 (dk_at dksX10_extra_0 16 rfl rfl)
theorem dX10_extra_17 : decode cX10_extra 17 = .ok (.putfield 415, 3) := dk_181 1 159 (dk_at dksX10_extra_0 17 rfl rfl)
theorem dX10_extra_20 : decode cX10_extra 20 = .ok (.aload_n 0, 1) := dk_42 (dk_at dksX10_extra_0 20 rfl rfl)
theorem dX10_extra_21 : decode cX10_extra 21 = .ok (.getfield 9, 3) := dk_180 0 9 (dk_at dksX10_extra_0 21 rfl rfl)
theorem dX10_extra_24 : decode cX10_extra 24 = .ok (.iload 5, 2) := dk_21 5 (dk_at dksX10_extra_1 0 rfl rfl)
theorem dX10_extra_26 : decode cX10_extra 26 = .ok (.iload_n 1, 1) := dk_27 (dk_at dksX10_extra_1 2 rfl rfl)
theorem dX10_extra_27 : decode cX10_extra 27 = .ok (.iastore, 1) := dk_79 (dk_at dksX10_extra_1 3 rfl rfl)
theorem dX10_extra_28 : decode cX10_extra 28 = .ok (.aload_n 0, 1) := dk_42 (dk_at dksX10_extra_1 4 rfl rfl)
theorem dX10_extra_29 : decode cX10_extra 29 = .ok (.getfield 9, 3) := dk_180 0 9 (dk_at dksX10_extra_1 5 rfl rfl)
theorem dX10_extra_32 : decode cX10_extra 32 = .ok (.iload 5, 2) := dk_21 5 (dk_at dksX10_extra_1 8 rfl rfl)
theorem dX10_extra_34 : decode cX10_extra 34 = .ok (.iconst 1, 1) := dk_4 (dk_at dksX10_extra_1 10 rfl rfl)
theorem dX10_extra_35 : decode cX10_extra 35 = .ok (.iadd, 1) := dk_96 (dk_at dksX10_extra_1 11 rfl rfl)
theorem dX10_extra_36 : decode cX10_extra 36 = .ok (.iload_n 2, 1) := dk_28 (dk_at dksX10_extra_1 12 rfl rfl)
theorem dX10_extra_37 : decode cX10_extra 37 = .ok (.iastore, 1) := dk_79 (dk_at dksX10_extra_1 13 rfl rfl)
theorem dX10_extra_38 : decode cX10_extra 38 = .ok (.aload_n 0, 1) := dk_42 (dk_at dksX10_extra_1 14 rfl rfl)
theorem dX10_extra_39 : decode cX10_extra 39 = .ok (.getfield 9, 3) := dk_180 0 9 (dk_at dksX10_extra_1 15 rfl rfl)
theorem dX10_extra_42 : decode cX10_extra 42 = .ok (.iload 5, 2) := dk_21 5 (dk_at dksX10_extra_1 18 rfl rfl)
theorem dX10_extra_44 : decode cX10_extra 44 = .ok (.iconst 2, 1) := dk_5 (dk_at dksX10_extra_1 20 rfl rfl)
theorem dX10_extra_45 : decode cX10_extra 45 = .ok (.iadd, 1) := dk_96 (dk_at dksX10_extra_1 21 rfl rfl)
theorem dX10_extra_46 : decode cX10_extra 46 = .ok (.iload_n 3, 1) := dk_29 (dk_at dksX10_extra_1 22 rfl rfl)
theorem dX10_extra_47 : decode cX10_extra 47 = .ok (.iastore, 1) := dk_79 (dk_at dksX10_extra_1 23 rfl rfl)
theorem dX10_extra_48 : decode cX10_extra 48 = .ok (.aload_n 0, 1) := dk_42 (dk_at dksX10_extra_2 0 rfl rfl)
theorem dX10_extra_49 : decode cX10_extra 49 = .ok (.getfield 9, 3) := dk_180 0 9 (dk_at dksX10_extra_2 1 rfl rfl)
theorem dX10_extra_52 : decode cX10_extra 52 = .ok (.iload 5, 2) := dk_21 5 (dk_at dksX10_extra_2 4 rfl rfl)
theorem dX10_extra_54 : decode cX10_extra 54 = .ok (.iconst 3, 1) := dk_6 (dk_at dksX10_extra_2 6 rfl rfl)
theorem dX10_extra_55 : decode cX10_extra 55 = .ok (.iadd, 1) := dk_96 (dk_at dksX10_extra_2 7 rfl rfl)
theorem dX10_extra_56 : decode cX10_extra 56 = .ok (.iload 4, 2) := dk_21 4 (dk_at dksX10_extra_2 8 rfl rfl)
theorem dX10_extra_58 : decode cX10_extra 58 = .ok (.iastore, 1) := dk_79 (dk_at dksX10_extra_2 10 rfl rfl)
theorem dX10_extra_59 : decode cX10_extra 59 = .ok (.aload_n 0, 1) := dk_42 (dk_at dksX10_extra_2 11 rfl rfl)
theorem dX10_extra_60 : decode cX10_extra 60 = .ok (.getfield 9, 3) := dk_180 0 9 (dk_at dksX10_extra_2 12 rfl rfl)
theorem dX10_extra_63 : decode cX10_extra 63 = .ok (.iload 5, 2) := dk_21 5 (dk_at dksX10_extra_2 15 rfl rfl)
theorem dX10_extra_65 : decode cX10_extra 65 = .ok (.iconst 4, 1) := dk_7 (dk_at dksX10_extra_2 17 rfl rfl)
theorem dX10_extra_66 : decode cX10_extra 66 = .ok (.iadd, 1) := dk_96 (dk_at dksX10_extra_2 18 rfl rfl)
theorem dX10_extra_67 : decode cX10_extra 67 = .ok (.iconst 1, 1) := dk_4 (dk_at dksX10_extra_2 19 rfl rfl)
theorem dX10_extra_68 : decode cX10_extra 68 = .ok (.iastore, 1) := dk_79 (dk_at dksX10_extra_2 20 rfl rfl)
theorem dX10_extra_69 : decode cX10_extra 69 = .ok (.aload_n 0, 1) := dk_42 (dk_at dksX10_extra_2 21 rfl rfl)
theorem dX10_extra_70 : decode cX10_extra 70 = .ok (.aload_n 0, 1) := dk_42 (dk_at dksX10_extra_2 22 rfl rfl)
theorem dX10_extra_71 : decode cX10_extra 71 = .ok (.getfield 9, 3) := dk_180 0 9 (dk_at dksX10_extra_3 0 rfl rfl)
theorem dX10_extra_74 : decode cX10_extra 74 = .ok (.iconst 0, 1) := dk_3 (dk_at dksX10_extra_3 3 rfl rfl)
theorem dX10_extra_75 : decode cX10_extra 75 = .ok (.iaload, 1) := dk_46 (dk_at dksX10_extra_3 4 rfl rfl)
theorem dX10_extra_76 : decode cX10_extra 76 = .ok (.invokevirtual 504, 3) := dk_182 1 248 (dk_at dksX10_extra_3 5 rfl rfl)
theorem dX10_extra_79 : decode cX10_extra 79 = .ok (.aload_n 0, 1) := dk_42 (dk_at dksX10_extra_3 8 rfl rfl)
theorem dX10_extra_80 : decode cX10_extra 80 = .ok (.aload_n 0, 1) := dk_42 (dk_at dksX10_extra_3 9 rfl rfl)
theorem dX10_extra_81 : decode cX10_extra 81 = .ok (.invokevirtual 345, 3) := dk_182 1 89 (dk_at dksX10_extra_3 10 rfl rfl)
theorem dX10_extra_84 : decode cX10_extra 84 = .ok (.invokevirtual 534, 3) := dk_182 2 22 (dk_at dksX10_extra_3 13 rfl rfl)
theorem dX10_extra_87 : decode cX10_extra 87 = .ok (.istore 6, 2) := dk_54 6 (dk_at dksX10_extra_3 16 rfl rfl)
theorem dX10_extra_89 : decode cX10_extra 89 = .ok (.aload_n 0, 1) := dk_42 (dk_at dksX10_extra_3 18 rfl rfl)
theorem dX10_extra_90 : decode cX10_extra 90 = .ok (.iconst 0, 1) := dk_3 (dk_at dksX10_extra_3 19 rfl rfl)
theorem dX10_extra_91 : decode cX10_extra 91 = .ok (.putfield 415, 3) := dk_181 1 159 (dk_at dksX10_extra_3 20 rfl rfl)
theorem dX10_extra_94 : decode cX10_extra 94 = .ok (.aload_n 0, 1) := dk_42 (dk_at dksX10_extra_3 23 rfl rfl)
theorem dX10_extra_95 : decode cX10_extra 95 = .ok (.aload_n 0, 1) := dk_42 (dk_at dksX10_extra_4 0 rfl rfl)
theorem dX10_extra_96 : decode cX10_extra 96 = .ok (.getfield 547, 3) := dk_180 2 35 (dk_at dksX10_extra_4 1 rfl rfl)
theorem dX10_extra_99 : decode cX10_extra 99 = .ok (.iload 6, 2) := dk_21 6 (dk_at dksX10_extra_4 4 rfl rfl)
theorem dX10_extra_101 : decode cX10_extra 101 = .ok (.invokestatic 327, 3) := dk_184 1 71 (dk_at dksX10_extra_4 6 rfl rfl)
theorem dX10_extra_104 : decode cX10_extra 104 = .ok (.putfield 547, 3) := dk_181 2 35 (dk_at dksX10_extra_4 9 rfl rfl)
theorem dX10_extra_107 : decode cX10_extra 107 = .ok (.aload_n 0, 1) := dk_42 (dk_at dksX10_extra_4 12 rfl rfl)
theorem dX10_extra_108 : decode cX10_extra 108 = .ok (.dup, 1) := dk_89 (dk_at dksX10_extra_4 13 rfl rfl)
theorem dX10_extra_109 : decode cX10_extra 109 = .ok (.getfield 550, 3) := dk_180 2 38 (dk_at dksX10_extra_4 14 rfl rfl)
theorem dX10_extra_112 : decode cX10_extra 112 = .ok (.iload 6, 2) := dk_21 6 (dk_at dksX10_extra_4 17 rfl rfl)
theorem dX10_extra_114 : decode cX10_extra 114 = .ok (.iconst (-1), 1) := dk_2 (dk_at dksX10_extra_4 19 rfl rfl)
theorem dX10_extra_115 : decode cX10_extra 115 = .ok (.if_icmp .ne 7, 3) := dk_160 0 7 (dk_at dksX10_extra_4 20 rfl rfl)
theorem dX10_extra_118 : decode cX10_extra 118 = .ok (.iconst 1, 1) := dk_4 (dk_at dksX10_extra_4 23 rfl rfl)
theorem dX10_extra_119 : decode cX10_extra 119 = .ok (.goto 4, 3) := dk_167 0 4 (dk_at dksX10_extra_5 0 rfl rfl)
theorem dX10_extra_122 : decode cX10_extra 122 = .ok (.iconst 0, 1) := dk_3 (dk_at dksX10_extra_5 3 rfl rfl)
theorem dX10_extra_123 : decode cX10_extra 123 = .ok (.iadd, 1) := dk_96 (dk_at dksX10_extra_5 4 rfl rfl)
theorem dX10_extra_124 : decode cX10_extra 124 = .ok (.putfield 550, 3) := dk_181 2 38 (dk_at dksX10_extra_5 5 rfl rfl)
theorem dX10_extra_127 : decode cX10_extra 127 = .ok (.return_, 1) := dk_177 (dk_at dksX10_extra_5 8 rfl rfl)
abbrev cX10_silent : ByteArray := prog_18_method_131_code
def yX10_silent : MethodName := ⟨RX10, "silent", "(II)I"⟩
def dkwX10_silent_0 : List UInt8 := [42, 27, 28, 182, 2, 44, 153, 0, 10, 42, 180, 2, 38, 167, 0, 5, 16, 254, 172]
abbrev dktX10_silent_0 : List UInt8 := dkwX10_silent_0 ++ []
theorem dksX10_silent_0 : cX10_silent.data.toList.drop 0 = dktX10_silent_0 := by decide +kernel
theorem dX10_silent_0 : decode cX10_silent 0 = .ok (.aload_n 0, 1) := dk_42 (dk_at dksX10_silent_0 0 rfl rfl)
theorem dX10_silent_1 : decode cX10_silent 1 = .ok (.iload_n 1, 1) := dk_27 (dk_at dksX10_silent_0 1 rfl rfl)
theorem dX10_silent_2 : decode cX10_silent 2 = .ok (.iload_n 2, 1) := dk_28 (dk_at dksX10_silent_0 2 rfl rfl)
theorem dX10_silent_3 : decode cX10_silent 3 = .ok (.invokevirtual 556, 3) := dk_182 2 44 (dk_at dksX10_silent_0 3 rfl rfl)
theorem dX10_silent_6 : decode cX10_silent 6 = .ok (.ifCond .eq 10, 3) := dk_153 0 10 (dk_at dksX10_silent_0 6 rfl rfl)
theorem dX10_silent_9 : decode cX10_silent 9 = .ok (.aload_n 0, 1) := dk_42 (dk_at dksX10_silent_0 9 rfl rfl)
theorem dX10_silent_10 : decode cX10_silent 10 = .ok (.getfield 550, 3) := dk_180 2 38 (dk_at dksX10_silent_0 10 rfl rfl)
theorem dX10_silent_13 : decode cX10_silent 13 = .ok (.goto 5, 3) := dk_167 0 5 (dk_at dksX10_silent_0 13 rfl rfl)
theorem dX10_silent_16 : decode cX10_silent 16 = .ok (.bipush (-2), 2) := dk_16 254 (dk_at dksX10_silent_0 16 rfl rfl)
theorem dX10_silent_18 : decode cX10_silent 18 = .ok (.ireturn, 1) := dk_172 (dk_at dksX10_silent_0 18 rfl rfl)
abbrev cX10_inject : ByteArray := prog_18_method_133_code
def yX10_inject : MethodName := ⟨RX10, "inject", "(IIIII)I"⟩
def dkwX10_inject_5 : List UInt8 := [180, 0, 9, 16, 6, 92, 46, 4, 96, 79, 42, 182, 2, 1, 87, 42, 180, 1, 162, 172]
abbrev dktX10_inject_5 : List UInt8 := dkwX10_inject_5 ++ []
def dkwX10_inject_4 : List UInt8 := [21, 4, 79, 42, 180, 0, 9, 21, 6, 7, 96, 27, 8, 160, 0, 7, 2, 167, 0, 5, 21, 5, 79, 42]
abbrev dktX10_inject_4 : List UInt8 := dkwX10_inject_4 ++ dktX10_inject_5
def dkwX10_inject_3 : List UInt8 := [21, 6, 5, 96, 29, 79, 42, 180, 0, 9, 21, 6, 6, 96, 27, 7, 161, 0, 7, 2, 167, 0, 5]
abbrev dktX10_inject_3 : List UInt8 := dkwX10_inject_3 ++ dktX10_inject_4
def dkwX10_inject_2 : List UInt8 := [54, 6, 42, 180, 0, 9, 21, 6, 27, 79, 42, 180, 0, 9, 21, 6, 4, 96, 28, 79, 42, 180, 0, 9]
abbrev dktX10_inject_2 : List UInt8 := dkwX10_inject_2 ++ dktX10_inject_3
def dkwX10_inject_1 : List UInt8 := [42, 180, 0, 9, 16, 6, 46, 16, 10, 160, 0, 6, 16, 251, 172, 16, 106, 8, 42, 182, 1, 89, 104, 96]
abbrev dktX10_inject_1 : List UInt8 := dkwX10_inject_1 ++ dktX10_inject_2
def dkwX10_inject_0 : List UInt8 := [42, 182, 1, 116, 153, 0, 17, 42, 27, 28, 29, 21, 4, 21, 5, 182, 2, 51, 154, 0, 6, 16, 254, 172]
abbrev dktX10_inject_0 : List UInt8 := dkwX10_inject_0 ++ dktX10_inject_1
theorem dksX10_inject_0 : cX10_inject.data.toList.drop 0 = dktX10_inject_0 := by decide +kernel
theorem dksX10_inject_1 : cX10_inject.data.toList.drop 24 = dktX10_inject_1 := dk_seg dksX10_inject_0 24 rfl rfl
theorem dksX10_inject_2 : cX10_inject.data.toList.drop 48 = dktX10_inject_2 := dk_seg dksX10_inject_1 24 rfl rfl
theorem dksX10_inject_3 : cX10_inject.data.toList.drop 72 = dktX10_inject_3 := dk_seg dksX10_inject_2 24 rfl rfl
theorem dksX10_inject_4 : cX10_inject.data.toList.drop 95 = dktX10_inject_4 := dk_seg dksX10_inject_3 23 rfl rfl
theorem dksX10_inject_5 : cX10_inject.data.toList.drop 119 = dktX10_inject_5 := dk_seg dksX10_inject_4 24 rfl rfl
theorem dX10_inject_0 : decode cX10_inject 0 = .ok (.aload_n 0, 1) := dk_42 (dk_at dksX10_inject_0 0 rfl rfl)
theorem dX10_inject_1 : decode cX10_inject 1 = .ok (.invokevirtual 372, 3) := dk_182 1 116 (dk_at dksX10_inject_0 1 rfl rfl)
theorem dX10_inject_4 : decode cX10_inject 4 = .ok (.ifCond .eq 17, 3) := dk_153 0 17 (dk_at dksX10_inject_0 4 rfl rfl)
theorem dX10_inject_7 : decode cX10_inject 7 = .ok (.aload_n 0, 1) := dk_42 (dk_at dksX10_inject_0 7 rfl rfl)
theorem dX10_inject_8 : decode cX10_inject 8 = .ok (.iload_n 1, 1) := dk_27 (dk_at dksX10_inject_0 8 rfl rfl)
theorem dX10_inject_9 : decode cX10_inject 9 = .ok (.iload_n 2, 1) := dk_28 (dk_at dksX10_inject_0 9 rfl rfl)
theorem dX10_inject_10 : decode cX10_inject 10 = .ok (.iload_n 3, 1) := dk_29 (dk_at dksX10_inject_0 10 rfl rfl)
theorem dX10_inject_11 : decode cX10_inject 11 = .ok (.iload 4, 2) := dk_21 4 (dk_at dksX10_inject_0 11 rfl rfl)
theorem dX10_inject_13 : decode cX10_inject 13 = .ok (.iload 5, 2) := dk_21 5 (dk_at dksX10_inject_0 13 rfl rfl)
theorem dX10_inject_15 : decode cX10_inject 15 = .ok (.invokevirtual 563, 3) := dk_182 2 51 (dk_at dksX10_inject_0 15 rfl rfl)
theorem dX10_inject_18 : decode cX10_inject 18 = .ok (.ifCond .ne 6, 3) := dk_154 0 6 (dk_at dksX10_inject_0 18 rfl rfl)
theorem dX10_inject_21 : decode cX10_inject 21 = .ok (.bipush (-2), 2) := dk_16 254 (dk_at dksX10_inject_0 21 rfl rfl)
theorem dX10_inject_23 : decode cX10_inject 23 = .ok (.ireturn, 1) := dk_172 (dk_at dksX10_inject_0 23 rfl rfl)
theorem dX10_inject_24 : decode cX10_inject 24 = .ok (.aload_n 0, 1) := dk_42 (dk_at dksX10_inject_1 0 rfl rfl)
theorem dX10_inject_25 : decode cX10_inject 25 = .ok (.getfield 9, 3) := dk_180 0 9 (dk_at dksX10_inject_1 1 rfl rfl)
theorem dX10_inject_28 : decode cX10_inject 28 = .ok (.bipush 6, 2) := dk_16 6 (dk_at dksX10_inject_1 4 rfl rfl)
theorem dX10_inject_30 : decode cX10_inject 30 = .ok (.iaload, 1) := dk_46 (dk_at dksX10_inject_1 6 rfl rfl)
theorem dX10_inject_31 : decode cX10_inject 31 = .ok (.bipush 10, 2) := dk_16 10 (dk_at dksX10_inject_1 7 rfl rfl)
theorem dX10_inject_33 : decode cX10_inject 33 = .ok (.if_icmp .ne 6, 3) := dk_160 0 6 (dk_at dksX10_inject_1 9 rfl rfl)
theorem dX10_inject_36 : decode cX10_inject 36 = .ok (.bipush (-5), 2) := dk_16 251 (dk_at dksX10_inject_1 12 rfl rfl)
theorem dX10_inject_38 : decode cX10_inject 38 = .ok (.ireturn, 1) := dk_172 (dk_at dksX10_inject_1 14 rfl rfl)
theorem dX10_inject_39 : decode cX10_inject 39 = .ok (.bipush 106, 2) := dk_16 106 (dk_at dksX10_inject_1 15 rfl rfl)
theorem dX10_inject_41 : decode cX10_inject 41 = .ok (.iconst 5, 1) := dk_8 (dk_at dksX10_inject_1 17 rfl rfl)
theorem dX10_inject_42 : decode cX10_inject 42 = .ok (.aload_n 0, 1) := dk_42 (dk_at dksX10_inject_1 18 rfl rfl)
theorem dX10_inject_43 : decode cX10_inject 43 = .ok (.invokevirtual 345, 3) := dk_182 1 89 (dk_at dksX10_inject_1 19 rfl rfl)
theorem dX10_inject_46 : decode cX10_inject 46 = .ok (.imul, 1) := dk_104 (dk_at dksX10_inject_1 22 rfl rfl)
theorem dX10_inject_47 : decode cX10_inject 47 = .ok (.iadd, 1) := dk_96 (dk_at dksX10_inject_1 23 rfl rfl)
theorem dX10_inject_48 : decode cX10_inject 48 = .ok (.istore 6, 2) := dk_54 6 (dk_at dksX10_inject_2 0 rfl rfl)
theorem dX10_inject_50 : decode cX10_inject 50 = .ok (.aload_n 0, 1) := dk_42 (dk_at dksX10_inject_2 2 rfl rfl)
theorem dX10_inject_51 : decode cX10_inject 51 = .ok (.getfield 9, 3) := dk_180 0 9 (dk_at dksX10_inject_2 3 rfl rfl)
theorem dX10_inject_54 : decode cX10_inject 54 = .ok (.iload 6, 2) := dk_21 6 (dk_at dksX10_inject_2 6 rfl rfl)
theorem dX10_inject_56 : decode cX10_inject 56 = .ok (.iload_n 1, 1) := dk_27 (dk_at dksX10_inject_2 8 rfl rfl)
theorem dX10_inject_57 : decode cX10_inject 57 = .ok (.iastore, 1) := dk_79 (dk_at dksX10_inject_2 9 rfl rfl)
theorem dX10_inject_58 : decode cX10_inject 58 = .ok (.aload_n 0, 1) := dk_42 (dk_at dksX10_inject_2 10 rfl rfl)
theorem dX10_inject_59 : decode cX10_inject 59 = .ok (.getfield 9, 3) := dk_180 0 9 (dk_at dksX10_inject_2 11 rfl rfl)
theorem dX10_inject_62 : decode cX10_inject 62 = .ok (.iload 6, 2) := dk_21 6 (dk_at dksX10_inject_2 14 rfl rfl)
theorem dX10_inject_64 : decode cX10_inject 64 = .ok (.iconst 1, 1) := dk_4 (dk_at dksX10_inject_2 16 rfl rfl)
theorem dX10_inject_65 : decode cX10_inject 65 = .ok (.iadd, 1) := dk_96 (dk_at dksX10_inject_2 17 rfl rfl)
theorem dX10_inject_66 : decode cX10_inject 66 = .ok (.iload_n 2, 1) := dk_28 (dk_at dksX10_inject_2 18 rfl rfl)
theorem dX10_inject_67 : decode cX10_inject 67 = .ok (.iastore, 1) := dk_79 (dk_at dksX10_inject_2 19 rfl rfl)
theorem dX10_inject_68 : decode cX10_inject 68 = .ok (.aload_n 0, 1) := dk_42 (dk_at dksX10_inject_2 20 rfl rfl)
theorem dX10_inject_69 : decode cX10_inject 69 = .ok (.getfield 9, 3) := dk_180 0 9 (dk_at dksX10_inject_2 21 rfl rfl)
theorem dX10_inject_72 : decode cX10_inject 72 = .ok (.iload 6, 2) := dk_21 6 (dk_at dksX10_inject_3 0 rfl rfl)
theorem dX10_inject_74 : decode cX10_inject 74 = .ok (.iconst 2, 1) := dk_5 (dk_at dksX10_inject_3 2 rfl rfl)
theorem dX10_inject_75 : decode cX10_inject 75 = .ok (.iadd, 1) := dk_96 (dk_at dksX10_inject_3 3 rfl rfl)
theorem dX10_inject_76 : decode cX10_inject 76 = .ok (.iload_n 3, 1) := dk_29 (dk_at dksX10_inject_3 4 rfl rfl)
theorem dX10_inject_77 : decode cX10_inject 77 = .ok (.iastore, 1) := dk_79 (dk_at dksX10_inject_3 5 rfl rfl)
theorem dX10_inject_78 : decode cX10_inject 78 = .ok (.aload_n 0, 1) := dk_42 (dk_at dksX10_inject_3 6 rfl rfl)
theorem dX10_inject_79 : decode cX10_inject 79 = .ok (.getfield 9, 3) := dk_180 0 9 (dk_at dksX10_inject_3 7 rfl rfl)
theorem dX10_inject_82 : decode cX10_inject 82 = .ok (.iload 6, 2) := dk_21 6 (dk_at dksX10_inject_3 10 rfl rfl)
theorem dX10_inject_84 : decode cX10_inject 84 = .ok (.iconst 3, 1) := dk_6 (dk_at dksX10_inject_3 12 rfl rfl)
theorem dX10_inject_85 : decode cX10_inject 85 = .ok (.iadd, 1) := dk_96 (dk_at dksX10_inject_3 13 rfl rfl)
theorem dX10_inject_86 : decode cX10_inject 86 = .ok (.iload_n 1, 1) := dk_27 (dk_at dksX10_inject_3 14 rfl rfl)
theorem dX10_inject_87 : decode cX10_inject 87 = .ok (.iconst 4, 1) := dk_7 (dk_at dksX10_inject_3 15 rfl rfl)
theorem dX10_inject_88 : decode cX10_inject 88 = .ok (.if_icmp .lt 7, 3) := dk_161 0 7 (dk_at dksX10_inject_3 16 rfl rfl)
theorem dX10_inject_91 : decode cX10_inject 91 = .ok (.iconst (-1), 1) := dk_2 (dk_at dksX10_inject_3 19 rfl rfl)
theorem dX10_inject_92 : decode cX10_inject 92 = .ok (.goto 5, 3) := dk_167 0 5 (dk_at dksX10_inject_3 20 rfl rfl)
theorem dX10_inject_95 : decode cX10_inject 95 = .ok (.iload 4, 2) := dk_21 4 (dk_at dksX10_inject_4 0 rfl rfl)
theorem dX10_inject_97 : decode cX10_inject 97 = .ok (.iastore, 1) := dk_79 (dk_at dksX10_inject_4 2 rfl rfl)
theorem dX10_inject_98 : decode cX10_inject 98 = .ok (.aload_n 0, 1) := dk_42 (dk_at dksX10_inject_4 3 rfl rfl)
theorem dX10_inject_99 : decode cX10_inject 99 = .ok (.getfield 9, 3) := dk_180 0 9 (dk_at dksX10_inject_4 4 rfl rfl)
theorem dX10_inject_102 : decode cX10_inject 102 = .ok (.iload 6, 2) := dk_21 6 (dk_at dksX10_inject_4 7 rfl rfl)
theorem dX10_inject_104 : decode cX10_inject 104 = .ok (.iconst 4, 1) := dk_7 (dk_at dksX10_inject_4 9 rfl rfl)
theorem dX10_inject_105 : decode cX10_inject 105 = .ok (.iadd, 1) := dk_96 (dk_at dksX10_inject_4 10 rfl rfl)
theorem dX10_inject_106 : decode cX10_inject 106 = .ok (.iload_n 1, 1) := dk_27 (dk_at dksX10_inject_4 11 rfl rfl)
theorem dX10_inject_107 : decode cX10_inject 107 = .ok (.iconst 5, 1) := dk_8 (dk_at dksX10_inject_4 12 rfl rfl)
theorem dX10_inject_108 : decode cX10_inject 108 = .ok (.if_icmp .ne 7, 3) := dk_160 0 7 (dk_at dksX10_inject_4 13 rfl rfl)
theorem dX10_inject_111 : decode cX10_inject 111 = .ok (.iconst (-1), 1) := dk_2 (dk_at dksX10_inject_4 16 rfl rfl)
theorem dX10_inject_112 : decode cX10_inject 112 = .ok (.goto 5, 3) := dk_167 0 5 (dk_at dksX10_inject_4 17 rfl rfl)
theorem dX10_inject_115 : decode cX10_inject 115 = .ok (.iload 5, 2) := dk_21 5 (dk_at dksX10_inject_4 20 rfl rfl)
theorem dX10_inject_117 : decode cX10_inject 117 = .ok (.iastore, 1) := dk_79 (dk_at dksX10_inject_4 22 rfl rfl)
theorem dX10_inject_118 : decode cX10_inject 118 = .ok (.aload_n 0, 1) := dk_42 (dk_at dksX10_inject_4 23 rfl rfl)
theorem dX10_inject_119 : decode cX10_inject 119 = .ok (.getfield 9, 3) := dk_180 0 9 (dk_at dksX10_inject_5 0 rfl rfl)
theorem dX10_inject_122 : decode cX10_inject 122 = .ok (.bipush 6, 2) := dk_16 6 (dk_at dksX10_inject_5 3 rfl rfl)
theorem dX10_inject_124 : decode cX10_inject 124 = .ok (.dup2, 1) := dk_92 (dk_at dksX10_inject_5 5 rfl rfl)
theorem dX10_inject_125 : decode cX10_inject 125 = .ok (.iaload, 1) := dk_46 (dk_at dksX10_inject_5 6 rfl rfl)
theorem dX10_inject_126 : decode cX10_inject 126 = .ok (.iconst 1, 1) := dk_4 (dk_at dksX10_inject_5 7 rfl rfl)
theorem dX10_inject_127 : decode cX10_inject 127 = .ok (.iadd, 1) := dk_96 (dk_at dksX10_inject_5 8 rfl rfl)
theorem dX10_inject_128 : decode cX10_inject 128 = .ok (.iastore, 1) := dk_79 (dk_at dksX10_inject_5 9 rfl rfl)
theorem dX10_inject_129 : decode cX10_inject 129 = .ok (.aload_n 0, 1) := dk_42 (dk_at dksX10_inject_5 10 rfl rfl)
theorem dX10_inject_130 : decode cX10_inject 130 = .ok (.invokevirtual 513, 3) := dk_182 2 1 (dk_at dksX10_inject_5 11 rfl rfl)
theorem dX10_inject_133 : decode cX10_inject 133 = .ok (.pop, 1) := dk_87 (dk_at dksX10_inject_5 14 rfl rfl)
theorem dX10_inject_134 : decode cX10_inject 134 = .ok (.aload_n 0, 1) := dk_42 (dk_at dksX10_inject_5 15 rfl rfl)
theorem dX10_inject_135 : decode cX10_inject 135 = .ok (.getfield 418, 3) := dk_180 1 162 (dk_at dksX10_inject_5 16 rfl rfl)
theorem dX10_inject_138 : decode cX10_inject 138 = .ok (.ireturn, 1) := dk_172 (dk_at dksX10_inject_5 19 rfl rfl)
abbrev cX10_canInject : ByteArray := prog_18_method_132_code
def yX10_canInject : MethodName := ⟨RX10, "canInject", "(IIIII)Z"⟩
def dkwX10_canInject_5 : List UInt8 := [182, 1, 61, 4, 100, 133, 184, 0, 152, 172]
abbrev dktX10_canInject_5 : List UInt8 := dkwX10_canInject_5 ++ []
def dkwX10_canInject_4 : List UInt8 := [160, 0, 16, 21, 4, 154, 0, 7, 4, 167, 0, 22, 3, 167, 0, 18, 21, 4, 133, 9, 42, 28]
abbrev dktX10_canInject_4 : List UInt8 := dkwX10_canInject_4 ++ dktX10_canInject_5
def dkwX10_canInject_3 : List UInt8 := [184, 0, 152, 153, 0, 16, 21, 5, 133, 10, 20, 2, 49, 184, 0, 152, 154, 0, 5, 3, 172, 27, 7]
abbrev dktX10_canInject_3 : List UInt8 := dkwX10_canInject_3 ++ dktX10_canInject_4
def dkwX10_canInject_2 : List UInt8 := [20, 1, 92, 184, 0, 152, 153, 0, 36, 42, 28, 182, 1, 77, 153, 0, 28, 29, 133, 9, 20, 1, 138]
abbrev dktX10_canInject_2 : List UInt8 := dkwX10_canInject_2 ++ dktX10_canInject_3
def dkwX10_canInject_1 : List UInt8 := [153, 0, 17, 21, 4, 154, 0, 12, 21, 5, 154, 0, 7, 4, 167, 0, 4, 3, 172, 27, 133, 9]
abbrev dktX10_canInject_1 : List UInt8 := dkwX10_canInject_1 ++ dktX10_canInject_2
def dkwX10_canInject_0 : List UInt8 := [27, 8, 160, 0, 39, 42, 28, 182, 1, 86, 153, 0, 29, 29, 133, 9, 20, 2, 47, 184, 0, 152]
abbrev dktX10_canInject_0 : List UInt8 := dkwX10_canInject_0 ++ dktX10_canInject_1
theorem dksX10_canInject_0 : cX10_canInject.data.toList.drop 0 = dktX10_canInject_0 := by decide +kernel
theorem dksX10_canInject_1 : cX10_canInject.data.toList.drop 22 = dktX10_canInject_1 := dk_seg dksX10_canInject_0 22 rfl rfl
theorem dksX10_canInject_2 : cX10_canInject.data.toList.drop 44 = dktX10_canInject_2 := dk_seg dksX10_canInject_1 22 rfl rfl
theorem dksX10_canInject_3 : cX10_canInject.data.toList.drop 67 = dktX10_canInject_3 := dk_seg dksX10_canInject_2 23 rfl rfl
theorem dksX10_canInject_4 : cX10_canInject.data.toList.drop 90 = dktX10_canInject_4 := dk_seg dksX10_canInject_3 23 rfl rfl
theorem dksX10_canInject_5 : cX10_canInject.data.toList.drop 112 = dktX10_canInject_5 := dk_seg dksX10_canInject_4 22 rfl rfl
theorem dX10_canInject_0 : decode cX10_canInject 0 = .ok (.iload_n 1, 1) := dk_27 (dk_at dksX10_canInject_0 0 rfl rfl)
theorem dX10_canInject_1 : decode cX10_canInject 1 = .ok (.iconst 5, 1) := dk_8 (dk_at dksX10_canInject_0 1 rfl rfl)
theorem dX10_canInject_2 : decode cX10_canInject 2 = .ok (.if_icmp .ne 39, 3) := dk_160 0 39 (dk_at dksX10_canInject_0 2 rfl rfl)
theorem dX10_canInject_5 : decode cX10_canInject 5 = .ok (.aload_n 0, 1) := dk_42 (dk_at dksX10_canInject_0 5 rfl rfl)
theorem dX10_canInject_6 : decode cX10_canInject 6 = .ok (.iload_n 2, 1) := dk_28 (dk_at dksX10_canInject_0 6 rfl rfl)
theorem dX10_canInject_7 : decode cX10_canInject 7 = .ok (.invokevirtual 342, 3) := dk_182 1 86 (dk_at dksX10_canInject_0 7 rfl rfl)
theorem dX10_canInject_10 : decode cX10_canInject 10 = .ok (.ifCond .eq 29, 3) := dk_153 0 29 (dk_at dksX10_canInject_0 10 rfl rfl)
theorem dX10_canInject_13 : decode cX10_canInject 13 = .ok (.iload_n 3, 1) := dk_29 (dk_at dksX10_canInject_0 13 rfl rfl)
theorem dX10_canInject_14 : decode cX10_canInject 14 = .ok (.i2l, 1) := dk_133 (dk_at dksX10_canInject_0 14 rfl rfl)
theorem dX10_canInject_15 : decode cX10_canInject 15 = .ok (.lconst 0, 1) := dk_9 (dk_at dksX10_canInject_0 15 rfl rfl)
theorem dX10_canInject_16 : decode cX10_canInject 16 = .ok (.ldc2_w 559, 3) := dk_20 2 47 (dk_at dksX10_canInject_0 16 rfl rfl)
theorem dX10_canInject_19 : decode cX10_canInject 19 = .ok (.invokestatic 152, 3) := dk_184 0 152 (dk_at dksX10_canInject_0 19 rfl rfl)
theorem dX10_canInject_22 : decode cX10_canInject 22 = .ok (.ifCond .eq 17, 3) := dk_153 0 17 (dk_at dksX10_canInject_1 0 rfl rfl)
theorem dX10_canInject_25 : decode cX10_canInject 25 = .ok (.iload 4, 2) := dk_21 4 (dk_at dksX10_canInject_1 3 rfl rfl)
theorem dX10_canInject_27 : decode cX10_canInject 27 = .ok (.ifCond .ne 12, 3) := dk_154 0 12 (dk_at dksX10_canInject_1 5 rfl rfl)
theorem dX10_canInject_30 : decode cX10_canInject 30 = .ok (.iload 5, 2) := dk_21 5 (dk_at dksX10_canInject_1 8 rfl rfl)
theorem dX10_canInject_32 : decode cX10_canInject 32 = .ok (.ifCond .ne 7, 3) := dk_154 0 7 (dk_at dksX10_canInject_1 10 rfl rfl)
theorem dX10_canInject_35 : decode cX10_canInject 35 = .ok (.iconst 1, 1) := dk_4 (dk_at dksX10_canInject_1 13 rfl rfl)
theorem dX10_canInject_36 : decode cX10_canInject 36 = .ok (.goto 4, 3) := dk_167 0 4 (dk_at dksX10_canInject_1 14 rfl rfl)
theorem dX10_canInject_39 : decode cX10_canInject 39 = .ok (.iconst 0, 1) := dk_3 (dk_at dksX10_canInject_1 17 rfl rfl)
theorem dX10_canInject_40 : decode cX10_canInject 40 = .ok (.ireturn, 1) := dk_172 (dk_at dksX10_canInject_1 18 rfl rfl)
theorem dX10_canInject_41 : decode cX10_canInject 41 = .ok (.iload_n 1, 1) := dk_27 (dk_at dksX10_canInject_1 19 rfl rfl)
theorem dX10_canInject_42 : decode cX10_canInject 42 = .ok (.i2l, 1) := dk_133 (dk_at dksX10_canInject_1 20 rfl rfl)
theorem dX10_canInject_43 : decode cX10_canInject 43 = .ok (.lconst 0, 1) := dk_9 (dk_at dksX10_canInject_1 21 rfl rfl)
theorem dX10_canInject_44 : decode cX10_canInject 44 = .ok (.ldc2_w 348, 3) := dk_20 1 92 (dk_at dksX10_canInject_2 0 rfl rfl)
theorem dX10_canInject_47 : decode cX10_canInject 47 = .ok (.invokestatic 152, 3) := dk_184 0 152 (dk_at dksX10_canInject_2 3 rfl rfl)
theorem dX10_canInject_50 : decode cX10_canInject 50 = .ok (.ifCond .eq 36, 3) := dk_153 0 36 (dk_at dksX10_canInject_2 6 rfl rfl)
theorem dX10_canInject_53 : decode cX10_canInject 53 = .ok (.aload_n 0, 1) := dk_42 (dk_at dksX10_canInject_2 9 rfl rfl)
theorem dX10_canInject_54 : decode cX10_canInject 54 = .ok (.iload_n 2, 1) := dk_28 (dk_at dksX10_canInject_2 10 rfl rfl)
theorem dX10_canInject_55 : decode cX10_canInject 55 = .ok (.invokevirtual 333, 3) := dk_182 1 77 (dk_at dksX10_canInject_2 11 rfl rfl)
theorem dX10_canInject_58 : decode cX10_canInject 58 = .ok (.ifCond .eq 28, 3) := dk_153 0 28 (dk_at dksX10_canInject_2 14 rfl rfl)
theorem dX10_canInject_61 : decode cX10_canInject 61 = .ok (.iload_n 3, 1) := dk_29 (dk_at dksX10_canInject_2 17 rfl rfl)
theorem dX10_canInject_62 : decode cX10_canInject 62 = .ok (.i2l, 1) := dk_133 (dk_at dksX10_canInject_2 18 rfl rfl)
theorem dX10_canInject_63 : decode cX10_canInject 63 = .ok (.lconst 0, 1) := dk_9 (dk_at dksX10_canInject_2 19 rfl rfl)
theorem dX10_canInject_64 : decode cX10_canInject 64 = .ok (.ldc2_w 394, 3) := dk_20 1 138 (dk_at dksX10_canInject_2 20 rfl rfl)
theorem dX10_canInject_67 : decode cX10_canInject 67 = .ok (.invokestatic 152, 3) := dk_184 0 152 (dk_at dksX10_canInject_3 0 rfl rfl)
theorem dX10_canInject_70 : decode cX10_canInject 70 = .ok (.ifCond .eq 16, 3) := dk_153 0 16 (dk_at dksX10_canInject_3 3 rfl rfl)
theorem dX10_canInject_73 : decode cX10_canInject 73 = .ok (.iload 5, 2) := dk_21 5 (dk_at dksX10_canInject_3 6 rfl rfl)
theorem dX10_canInject_75 : decode cX10_canInject 75 = .ok (.i2l, 1) := dk_133 (dk_at dksX10_canInject_3 8 rfl rfl)
theorem dX10_canInject_76 : decode cX10_canInject 76 = .ok (.lconst 1, 1) := dk_10 (dk_at dksX10_canInject_3 9 rfl rfl)
theorem dX10_canInject_77 : decode cX10_canInject 77 = .ok (.ldc2_w 561, 3) := dk_20 2 49 (dk_at dksX10_canInject_3 10 rfl rfl)
theorem dX10_canInject_80 : decode cX10_canInject 80 = .ok (.invokestatic 152, 3) := dk_184 0 152 (dk_at dksX10_canInject_3 13 rfl rfl)
theorem dX10_canInject_83 : decode cX10_canInject 83 = .ok (.ifCond .ne 5, 3) := dk_154 0 5 (dk_at dksX10_canInject_3 16 rfl rfl)
theorem dX10_canInject_86 : decode cX10_canInject 86 = .ok (.iconst 0, 1) := dk_3 (dk_at dksX10_canInject_3 19 rfl rfl)
theorem dX10_canInject_87 : decode cX10_canInject 87 = .ok (.ireturn, 1) := dk_172 (dk_at dksX10_canInject_3 20 rfl rfl)
theorem dX10_canInject_88 : decode cX10_canInject 88 = .ok (.iload_n 1, 1) := dk_27 (dk_at dksX10_canInject_3 21 rfl rfl)
theorem dX10_canInject_89 : decode cX10_canInject 89 = .ok (.iconst 4, 1) := dk_7 (dk_at dksX10_canInject_3 22 rfl rfl)
theorem dX10_canInject_90 : decode cX10_canInject 90 = .ok (.if_icmp .ne 16, 3) := dk_160 0 16 (dk_at dksX10_canInject_4 0 rfl rfl)
theorem dX10_canInject_93 : decode cX10_canInject 93 = .ok (.iload 4, 2) := dk_21 4 (dk_at dksX10_canInject_4 3 rfl rfl)
theorem dX10_canInject_95 : decode cX10_canInject 95 = .ok (.ifCond .ne 7, 3) := dk_154 0 7 (dk_at dksX10_canInject_4 5 rfl rfl)
theorem dX10_canInject_98 : decode cX10_canInject 98 = .ok (.iconst 1, 1) := dk_4 (dk_at dksX10_canInject_4 8 rfl rfl)
theorem dX10_canInject_99 : decode cX10_canInject 99 = .ok (.goto 22, 3) := dk_167 0 22 (dk_at dksX10_canInject_4 9 rfl rfl)
theorem dX10_canInject_102 : decode cX10_canInject 102 = .ok (.iconst 0, 1) := dk_3 (dk_at dksX10_canInject_4 12 rfl rfl)
theorem dX10_canInject_103 : decode cX10_canInject 103 = .ok (.goto 18, 3) := dk_167 0 18 (dk_at dksX10_canInject_4 13 rfl rfl)
theorem dX10_canInject_106 : decode cX10_canInject 106 = .ok (.iload 4, 2) := dk_21 4 (dk_at dksX10_canInject_4 16 rfl rfl)
theorem dX10_canInject_108 : decode cX10_canInject 108 = .ok (.i2l, 1) := dk_133 (dk_at dksX10_canInject_4 18 rfl rfl)
theorem dX10_canInject_109 : decode cX10_canInject 109 = .ok (.lconst 0, 1) := dk_9 (dk_at dksX10_canInject_4 19 rfl rfl)
theorem dX10_canInject_110 : decode cX10_canInject 110 = .ok (.aload_n 0, 1) := dk_42 (dk_at dksX10_canInject_4 20 rfl rfl)
theorem dX10_canInject_111 : decode cX10_canInject 111 = .ok (.iload_n 2, 1) := dk_28 (dk_at dksX10_canInject_4 21 rfl rfl)
theorem dX10_canInject_112 : decode cX10_canInject 112 = .ok (.invokevirtual 317, 3) := dk_182 1 61 (dk_at dksX10_canInject_5 0 rfl rfl)
theorem dX10_canInject_115 : decode cX10_canInject 115 = .ok (.iconst 1, 1) := dk_4 (dk_at dksX10_canInject_5 3 rfl rfl)
theorem dX10_canInject_116 : decode cX10_canInject 116 = .ok (.isub, 1) := dk_100 (dk_at dksX10_canInject_5 4 rfl rfl)
theorem dX10_canInject_117 : decode cX10_canInject 117 = .ok (.i2l, 1) := dk_133 (dk_at dksX10_canInject_5 5 rfl rfl)
theorem dX10_canInject_118 : decode cX10_canInject 118 = .ok (.invokestatic 152, 3) := dk_184 0 152 (dk_at dksX10_canInject_5 6 rfl rfl)
theorem dX10_canInject_121 : decode cX10_canInject 121 = .ok (.ireturn, 1) := dk_172 (dk_at dksX10_canInject_5 9 rfl rfl)
abbrev cX10_undo : ByteArray := prog_18_method_134_code
def yX10_undo : MethodName := ⟨RX10, "undo", "()I"⟩
def dkwX10_undo_1 : List UInt8 := [180, 0, 9, 16, 6, 92, 46, 4, 100, 79, 42, 180, 0, 9, 16, 6, 46, 172]
abbrev dktX10_undo_1 : List UInt8 := dkwX10_undo_1 ++ []
def dkwX10_undo_0 : List UInt8 := [42, 182, 1, 116, 154, 0, 6, 16, 254, 172, 42, 180, 0, 9, 16, 6, 46, 154, 0, 6, 16, 251, 172, 42]
abbrev dktX10_undo_0 : List UInt8 := dkwX10_undo_0 ++ dktX10_undo_1
theorem dksX10_undo_0 : cX10_undo.data.toList.drop 0 = dktX10_undo_0 := by decide +kernel
theorem dksX10_undo_1 : cX10_undo.data.toList.drop 24 = dktX10_undo_1 := dk_seg dksX10_undo_0 24 rfl rfl
theorem dX10_undo_0 : decode cX10_undo 0 = .ok (.aload_n 0, 1) := dk_42 (dk_at dksX10_undo_0 0 rfl rfl)
theorem dX10_undo_1 : decode cX10_undo 1 = .ok (.invokevirtual 372, 3) := dk_182 1 116 (dk_at dksX10_undo_0 1 rfl rfl)
theorem dX10_undo_4 : decode cX10_undo 4 = .ok (.ifCond .ne 6, 3) := dk_154 0 6 (dk_at dksX10_undo_0 4 rfl rfl)
theorem dX10_undo_7 : decode cX10_undo 7 = .ok (.bipush (-2), 2) := dk_16 254 (dk_at dksX10_undo_0 7 rfl rfl)
theorem dX10_undo_9 : decode cX10_undo 9 = .ok (.ireturn, 1) := dk_172 (dk_at dksX10_undo_0 9 rfl rfl)
theorem dX10_undo_10 : decode cX10_undo 10 = .ok (.aload_n 0, 1) := dk_42 (dk_at dksX10_undo_0 10 rfl rfl)
theorem dX10_undo_11 : decode cX10_undo 11 = .ok (.getfield 9, 3) := dk_180 0 9 (dk_at dksX10_undo_0 11 rfl rfl)
theorem dX10_undo_14 : decode cX10_undo 14 = .ok (.bipush 6, 2) := dk_16 6 (dk_at dksX10_undo_0 14 rfl rfl)
theorem dX10_undo_16 : decode cX10_undo 16 = .ok (.iaload, 1) := dk_46 (dk_at dksX10_undo_0 16 rfl rfl)
theorem dX10_undo_17 : decode cX10_undo 17 = .ok (.ifCond .ne 6, 3) := dk_154 0 6 (dk_at dksX10_undo_0 17 rfl rfl)
theorem dX10_undo_20 : decode cX10_undo 20 = .ok (.bipush (-5), 2) := dk_16 251 (dk_at dksX10_undo_0 20 rfl rfl)
theorem dX10_undo_22 : decode cX10_undo 22 = .ok (.ireturn, 1) := dk_172 (dk_at dksX10_undo_0 22 rfl rfl)
theorem dX10_undo_23 : decode cX10_undo 23 = .ok (.aload_n 0, 1) := dk_42 (dk_at dksX10_undo_0 23 rfl rfl)
theorem dX10_undo_24 : decode cX10_undo 24 = .ok (.getfield 9, 3) := dk_180 0 9 (dk_at dksX10_undo_1 0 rfl rfl)
theorem dX10_undo_27 : decode cX10_undo 27 = .ok (.bipush 6, 2) := dk_16 6 (dk_at dksX10_undo_1 3 rfl rfl)
theorem dX10_undo_29 : decode cX10_undo 29 = .ok (.dup2, 1) := dk_92 (dk_at dksX10_undo_1 5 rfl rfl)
theorem dX10_undo_30 : decode cX10_undo 30 = .ok (.iaload, 1) := dk_46 (dk_at dksX10_undo_1 6 rfl rfl)
theorem dX10_undo_31 : decode cX10_undo 31 = .ok (.iconst 1, 1) := dk_4 (dk_at dksX10_undo_1 7 rfl rfl)
theorem dX10_undo_32 : decode cX10_undo 32 = .ok (.isub, 1) := dk_100 (dk_at dksX10_undo_1 8 rfl rfl)
theorem dX10_undo_33 : decode cX10_undo 33 = .ok (.iastore, 1) := dk_79 (dk_at dksX10_undo_1 9 rfl rfl)
theorem dX10_undo_34 : decode cX10_undo 34 = .ok (.aload_n 0, 1) := dk_42 (dk_at dksX10_undo_1 10 rfl rfl)
theorem dX10_undo_35 : decode cX10_undo 35 = .ok (.getfield 9, 3) := dk_180 0 9 (dk_at dksX10_undo_1 11 rfl rfl)
theorem dX10_undo_38 : decode cX10_undo 38 = .ok (.bipush 6, 2) := dk_16 6 (dk_at dksX10_undo_1 14 rfl rfl)
theorem dX10_undo_40 : decode cX10_undo 40 = .ok (.iaload, 1) := dk_46 (dk_at dksX10_undo_1 16 rfl rfl)
theorem dX10_undo_41 : decode cX10_undo 41 = .ok (.ireturn, 1) := dk_172 (dk_at dksX10_undo_1 17 rfl rfl)
abbrev cX10_anew : ByteArray := prog_18_method_135_code
def yX10_anew : MethodName := ⟨RX10, "anew", "()I"⟩
def dkwX10_anew_1 : List UInt8 := [3, 79, 27, 172]
abbrev dktX10_anew_1 : List UInt8 := dkwX10_anew_1 ++ []
def dkwX10_anew_0 : List UInt8 := [42, 182, 1, 116, 154, 0, 6, 16, 254, 172, 42, 180, 0, 9, 16, 6, 46, 60, 42, 180, 0, 9, 16, 6]
abbrev dktX10_anew_0 : List UInt8 := dkwX10_anew_0 ++ dktX10_anew_1
theorem dksX10_anew_0 : cX10_anew.data.toList.drop 0 = dktX10_anew_0 := by decide +kernel
theorem dksX10_anew_1 : cX10_anew.data.toList.drop 24 = dktX10_anew_1 := dk_seg dksX10_anew_0 24 rfl rfl
theorem dX10_anew_0 : decode cX10_anew 0 = .ok (.aload_n 0, 1) := dk_42 (dk_at dksX10_anew_0 0 rfl rfl)
theorem dX10_anew_1 : decode cX10_anew 1 = .ok (.invokevirtual 372, 3) := dk_182 1 116 (dk_at dksX10_anew_0 1 rfl rfl)
theorem dX10_anew_4 : decode cX10_anew 4 = .ok (.ifCond .ne 6, 3) := dk_154 0 6 (dk_at dksX10_anew_0 4 rfl rfl)
theorem dX10_anew_7 : decode cX10_anew 7 = .ok (.bipush (-2), 2) := dk_16 254 (dk_at dksX10_anew_0 7 rfl rfl)
theorem dX10_anew_9 : decode cX10_anew 9 = .ok (.ireturn, 1) := dk_172 (dk_at dksX10_anew_0 9 rfl rfl)
theorem dX10_anew_10 : decode cX10_anew 10 = .ok (.aload_n 0, 1) := dk_42 (dk_at dksX10_anew_0 10 rfl rfl)
theorem dX10_anew_11 : decode cX10_anew 11 = .ok (.getfield 9, 3) := dk_180 0 9 (dk_at dksX10_anew_0 11 rfl rfl)
theorem dX10_anew_14 : decode cX10_anew 14 = .ok (.bipush 6, 2) := dk_16 6 (dk_at dksX10_anew_0 14 rfl rfl)
theorem dX10_anew_16 : decode cX10_anew 16 = .ok (.iaload, 1) := dk_46 (dk_at dksX10_anew_0 16 rfl rfl)
theorem dX10_anew_17 : decode cX10_anew 17 = .ok (.istore_n 1, 1) := dk_60 (dk_at dksX10_anew_0 17 rfl rfl)
theorem dX10_anew_18 : decode cX10_anew 18 = .ok (.aload_n 0, 1) := dk_42 (dk_at dksX10_anew_0 18 rfl rfl)
theorem dX10_anew_19 : decode cX10_anew 19 = .ok (.getfield 9, 3) := dk_180 0 9 (dk_at dksX10_anew_0 19 rfl rfl)
theorem dX10_anew_22 : decode cX10_anew 22 = .ok (.bipush 6, 2) := dk_16 6 (dk_at dksX10_anew_0 22 rfl rfl)
theorem dX10_anew_24 : decode cX10_anew 24 = .ok (.iconst 0, 1) := dk_3 (dk_at dksX10_anew_1 0 rfl rfl)
theorem dX10_anew_25 : decode cX10_anew 25 = .ok (.iastore, 1) := dk_79 (dk_at dksX10_anew_1 1 rfl rfl)
theorem dX10_anew_26 : decode cX10_anew 26 = .ok (.iload_n 1, 1) := dk_27 (dk_at dksX10_anew_1 2 rfl rfl)
theorem dX10_anew_27 : decode cX10_anew 27 = .ok (.ireturn, 1) := dk_172 (dk_at dksX10_anew_1 3 rfl rfl)
abbrev cX10_count : ByteArray := prog_18_method_136_code
def yX10_count : MethodName := ⟨RX10, "count", "(I)I"⟩
def dkwX10_count_1 : List UInt8 := [160, 0, 10, 42, 180, 0, 160, 167, 0, 4, 2, 172]
abbrev dktX10_count_1 : List UInt8 := dkwX10_count_1 ++ []
def dkwX10_count_0 : List UInt8 := [27, 133, 9, 20, 2, 17, 184, 0, 152, 153, 0, 10, 42, 180, 0, 9, 27, 46, 172, 27, 16, 8]
abbrev dktX10_count_0 : List UInt8 := dkwX10_count_0 ++ dktX10_count_1
theorem dksX10_count_0 : cX10_count.data.toList.drop 0 = dktX10_count_0 := by decide +kernel
theorem dksX10_count_1 : cX10_count.data.toList.drop 22 = dktX10_count_1 := dk_seg dksX10_count_0 22 rfl rfl
theorem dX10_count_0 : decode cX10_count 0 = .ok (.iload_n 1, 1) := dk_27 (dk_at dksX10_count_0 0 rfl rfl)
theorem dX10_count_1 : decode cX10_count 1 = .ok (.i2l, 1) := dk_133 (dk_at dksX10_count_0 1 rfl rfl)
theorem dX10_count_2 : decode cX10_count 2 = .ok (.lconst 0, 1) := dk_9 (dk_at dksX10_count_0 2 rfl rfl)
theorem dX10_count_3 : decode cX10_count 3 = .ok (.ldc2_w 529, 3) := dk_20 2 17 (dk_at dksX10_count_0 3 rfl rfl)
theorem dX10_count_6 : decode cX10_count 6 = .ok (.invokestatic 152, 3) := dk_184 0 152 (dk_at dksX10_count_0 6 rfl rfl)
theorem dX10_count_9 : decode cX10_count 9 = .ok (.ifCond .eq 10, 3) := dk_153 0 10 (dk_at dksX10_count_0 9 rfl rfl)
theorem dX10_count_12 : decode cX10_count 12 = .ok (.aload_n 0, 1) := dk_42 (dk_at dksX10_count_0 12 rfl rfl)
theorem dX10_count_13 : decode cX10_count 13 = .ok (.getfield 9, 3) := dk_180 0 9 (dk_at dksX10_count_0 13 rfl rfl)
theorem dX10_count_16 : decode cX10_count 16 = .ok (.iload_n 1, 1) := dk_27 (dk_at dksX10_count_0 16 rfl rfl)
theorem dX10_count_17 : decode cX10_count 17 = .ok (.iaload, 1) := dk_46 (dk_at dksX10_count_0 17 rfl rfl)
theorem dX10_count_18 : decode cX10_count 18 = .ok (.ireturn, 1) := dk_172 (dk_at dksX10_count_0 18 rfl rfl)
theorem dX10_count_19 : decode cX10_count 19 = .ok (.iload_n 1, 1) := dk_27 (dk_at dksX10_count_0 19 rfl rfl)
theorem dX10_count_20 : decode cX10_count 20 = .ok (.bipush 8, 2) := dk_16 8 (dk_at dksX10_count_0 20 rfl rfl)
theorem dX10_count_22 : decode cX10_count 22 = .ok (.if_icmp .ne 10, 3) := dk_160 0 10 (dk_at dksX10_count_1 0 rfl rfl)
theorem dX10_count_25 : decode cX10_count 25 = .ok (.aload_n 0, 1) := dk_42 (dk_at dksX10_count_1 3 rfl rfl)
theorem dX10_count_26 : decode cX10_count 26 = .ok (.getfield 160, 3) := dk_180 0 160 (dk_at dksX10_count_1 4 rfl rfl)
theorem dX10_count_29 : decode cX10_count 29 = .ok (.goto 4, 3) := dk_167 0 4 (dk_at dksX10_count_1 7 rfl rfl)
theorem dX10_count_32 : decode cX10_count 32 = .ok (.iconst (-1), 1) := dk_2 (dk_at dksX10_count_1 10 rfl rfl)
theorem dX10_count_33 : decode cX10_count 33 = .ok (.ireturn, 1) := dk_172 (dk_at dksX10_count_1 11 rfl rfl)
theorem q152 : (Jvm.Cond.initialized "WatchStackModel") ∈ lw_all := lw_g (lw_at lw_m1 16 rfl) rfl
theorem q906 : (Jvm.Cond.selects "WatchStackModel" ({ cls := "java/lang/Object", name := "getClass", desc := "()Ljava/lang/Class;" } : Jvm.MethodName) ({ cls := "java/lang/Object", name := "getClass", desc := "()Ljava/lang/Class;" } : Jvm.MethodName)) ∈ lw_all := lw_g (lw_at lw_m4 50 rfl) rfl
theorem q1584 : (Jvm.Cond.instantiable "WatchStackModel" (62 : Nat)) ∈ lw_all := lw_g (lw_at lw_m7 8 rfl) rfl
theorem q1586 : (Jvm.Cond.instanceMethod ({ cls := "WatchStackModel", name := "<init>", desc := "()V" } : Jvm.MethodName)) ∈ lw_all := lw_g (lw_at lw_m7 10 rfl) rfl
theorem q1587 : (Jvm.Cond.code ({ cls := "WatchStackModel", name := "<init>", desc := "()V" } : Jvm.MethodName) prog_18_method_1_code (1 : Nat) (Option.none : Option Jvm.ClassFile.FieldType)) ∈ lw_all := lw_g (lw_at lw_m7 11 rfl) rfl
theorem q1588 : (Jvm.Cond.methodLink "WatchStackModel" (3 : Nat) ({ cls := "java/lang/Object", name := "<init>", desc := "()V" } : Jvm.MethodName)) ∈ lw_all := lw_g (lw_at lw_m7 12 rfl) rfl
theorem q1589 : (Jvm.Cond.fieldLink "WatchStackModel" (9 : Nat) "WatchStackModel" "world" "[I") ∈ lw_all := lw_g (lw_at lw_m7 13 rfl) rfl
theorem q1590 : (Jvm.Cond.fieldLink "WatchStackModel" (13 : Nat) "WatchStackModel" "images" "[I") ∈ lw_all := lw_g (lw_at lw_m7 14 rfl) rfl
theorem q1591 : (Jvm.Cond.fieldLink "WatchStackModel" (16 : Nat) "WatchStackModel" "hasImage" "[Z") ∈ lw_all := lw_g (lw_at lw_m7 15 rfl) rfl
theorem q1592 : (Jvm.Cond.fieldLink "WatchStackModel" (20 : Nat) "WatchStackModel" "tape" "[B") ∈ lw_all := lw_g (lw_at lw_m7 16 rfl) rfl
theorem q1593 : (Jvm.Cond.fieldLink "WatchStackModel" (160 : Nat) "WatchStackModel" "taped" "I") ∈ lw_all := lw_g (lw_at lw_m7 17 rfl) rfl
theorem q1594 : (Jvm.Cond.fieldLink "WatchStackModel" (24 : Nat) "WatchStackModel" "five" "[I") ∈ lw_all := lw_g (lw_at lw_m7 18 rfl) rfl
theorem q1595 : (Jvm.Cond.fieldLink "WatchStackModel" (163 : Nat) "WatchStackModel" "size" "I") ∈ lw_all := lw_g (lw_at lw_m7 19 rfl) rfl
theorem q1596 : (Jvm.Cond.fieldLink "WatchStackModel" (166 : Nat) "WatchStackModel" "at" "I") ∈ lw_all := lw_g (lw_at lw_m7 20 rfl) rfl
theorem q1597 : (Jvm.Cond.fieldLink "WatchStackModel" (173 : Nat) "WatchStackModel" "from" "I") ∈ lw_all := lw_g (lw_at lw_m7 21 rfl) rfl
theorem q1598 : (Jvm.Cond.fieldLink "WatchStackModel" (176 : Nat) "WatchStackModel" "token" "I") ∈ lw_all := lw_g (lw_at lw_m7 22 rfl) rfl
theorem q1599 : (Jvm.Cond.fieldLink "WatchStackModel" (187 : Nat) "WatchStackModel" "value" "I") ∈ lw_all := lw_g (lw_at lw_m7 23 rfl) rfl
theorem q1600 : (Jvm.Cond.fieldLink "WatchStackModel" (196 : Nat) "WatchStackModel" "faultKind" "I") ∈ lw_all := lw_g (lw_at lw_m7 24 rfl) rfl
theorem q1601 : (Jvm.Cond.fieldLink "WatchStackModel" (27 : Nat) "WatchStackModel" "faultPlace" "I") ∈ lw_all := lw_g (lw_at lw_m7 25 rfl) rfl
theorem q1602 : (Jvm.Cond.fieldLink "WatchStackModel" (31 : Nat) "WatchStackModel" "fresh" "[I") ∈ lw_all := lw_g (lw_at lw_m7 26 rfl) rfl
theorem q1603 : (Jvm.Cond.fieldLink "WatchStackModel" (34 : Nat) "WatchStackModel" "best" "[I") ∈ lw_all := lw_g (lw_at lw_m7 27 rfl) rfl
theorem q1604 : (Jvm.Cond.fieldLink "WatchStackModel" (37 : Nat) "WatchStackModel" "longest" "[I") ∈ lw_all := lw_g (lw_at lw_m7 28 rfl) rfl
theorem q1605 : (Jvm.Cond.fieldLink "WatchStackModel" (40 : Nat) "WatchStackModel" "shortest" "[I") ∈ lw_all := lw_g (lw_at lw_m7 29 rfl) rfl
theorem q1606 : (Jvm.Cond.fieldLink "WatchStackModel" (43 : Nat) "WatchStackModel" "ahead" "[I") ∈ lw_all := lw_g (lw_at lw_m7 30 rfl) rfl
theorem q1607 : (Jvm.Cond.fieldLink "WatchStackModel" (46 : Nat) "WatchStackModel" "order" "[I") ∈ lw_all := lw_g (lw_at lw_m7 31 rfl) rfl
theorem q1608 : (Jvm.Cond.fieldLink "WatchStackModel" (49 : Nat) "WatchStackModel" "firstOrder" "[I") ∈ lw_all := lw_g (lw_at lw_m7 32 rfl) rfl
theorem q1609 : (Jvm.Cond.fieldLink "WatchStackModel" (378 : Nat) "WatchStackModel" "ordersMany" "I") ∈ lw_all := lw_g (lw_at lw_m7 33 rfl) rfl
theorem q1610 : (Jvm.Cond.fieldLink "WatchStackModel" (52 : Nat) "WatchStackModel" "answers" "[I") ∈ lw_all := lw_g (lw_at lw_m7 34 rfl) rfl
theorem q1611 : (Jvm.Cond.fieldLink "WatchStackModel" (55 : Nat) "WatchStackModel" "leftOut" "I") ∈ lw_all := lw_g (lw_at lw_m7 35 rfl) rfl
theorem q1612 : (Jvm.Cond.fieldLink "WatchStackModel" (58 : Nat) "WatchStackModel" "otherTask" "I") ∈ lw_all := lw_g (lw_at lw_m7 36 rfl) rfl
theorem q1613 : (Jvm.Cond.fieldLink "WatchStackModel" (409 : Nat) "WatchStackModel" "otherOpen" "I") ∈ lw_all := lw_g (lw_at lw_m7 37 rfl) rfl
theorem q1614 : (Jvm.Cond.fieldLink "WatchStackModel" (412 : Nat) "WatchStackModel" "otherClose" "I") ∈ lw_all := lw_g (lw_at lw_m7 38 rfl) rfl
theorem q1615 : (Jvm.Cond.fieldLink "WatchStackModel" (415 : Nat) "WatchStackModel" "extraMany" "I") ∈ lw_all := lw_g (lw_at lw_m7 39 rfl) rfl
theorem q1616 : (Jvm.Cond.fieldLink "WatchStackModel" (61 : Nat) "WatchStackModel" "start" "[I") ∈ lw_all := lw_g (lw_at lw_m7 40 rfl) rfl
theorem q1617 : (Jvm.Cond.fieldLink "WatchStackModel" (64 : Nat) "WatchStackModel" "job" "[I") ∈ lw_all := lw_g (lw_at lw_m7 41 rfl) rfl
theorem q1618 : (Jvm.Cond.fieldLink "WatchStackModel" (67 : Nat) "WatchStackModel" "jobs" "[I") ∈ lw_all := lw_g (lw_at lw_m7 42 rfl) rfl
theorem q1619 : (Jvm.Cond.fieldLink "WatchStackModel" (70 : Nat) "WatchStackModel" "nodeNow" "[I") ∈ lw_all := lw_g (lw_at lw_m7 43 rfl) rfl
theorem q1620 : (Jvm.Cond.fieldLink "WatchStackModel" (73 : Nat) "WatchStackModel" "units" "[I") ∈ lw_all := lw_g (lw_at lw_m7 44 rfl) rfl
theorem q1621 : (Jvm.Cond.fieldLink "WatchStackModel" (76 : Nat) "WatchStackModel" "question" "[I") ∈ lw_all := lw_g (lw_at lw_m7 45 rfl) rfl
theorem q1622 : (Jvm.Cond.fieldLink "WatchStackModel" (79 : Nat) "WatchStackModel" "latest" "[I") ∈ lw_all := lw_g (lw_at lw_m7 46 rfl) rfl
theorem q1623 : (Jvm.Cond.fieldLink "WatchStackModel" (82 : Nat) "WatchStackModel" "hasKicked" "[Z") ∈ lw_all := lw_g (lw_at lw_m7 47 rfl) rfl
theorem q1624 : (Jvm.Cond.fieldLink "WatchStackModel" (85 : Nat) "WatchStackModel" "goodNow" "[I") ∈ lw_all := lw_g (lw_at lw_m7 48 rfl) rfl
theorem q1625 : (Jvm.Cond.fieldLink "WatchStackModel" (88 : Nat) "WatchStackModel" "memory" "[I") ∈ lw_all := lw_g (lw_at lw_m7 49 rfl) rfl
theorem q1626 : (Jvm.Cond.fieldLink "WatchStackModel" (91 : Nat) "WatchStackModel" "health" "[F") ∈ lw_all := lw_g (lw_at lw_m7 50 rfl) rfl
theorem q1627 : (Jvm.Cond.fieldLink "WatchStackModel" (95 : Nat) "WatchStackModel" "well" "[I") ∈ lw_all := lw_g (lw_at lw_m7 51 rfl) rfl
theorem q1628 : (Jvm.Cond.fieldLink "WatchStackModel" (98 : Nat) "WatchStackModel" "hasFault" "[Z") ∈ lw_all := lw_g (lw_at lw_m7 52 rfl) rfl
theorem q1629 : (Jvm.Cond.fieldLink "WatchStackModel" (101 : Nat) "WatchStackModel" "goodAll" "[I") ∈ lw_all := lw_g (lw_at lw_m7 53 rfl) rfl
theorem q1630 : (Jvm.Cond.fieldLink "WatchStackModel" (104 : Nat) "WatchStackModel" "goodLast" "[I") ∈ lw_all := lw_g (lw_at lw_m7 54 rfl) rfl
theorem q1631 : (Jvm.Cond.fieldLink "WatchStackModel" (107 : Nat) "WatchStackModel" "margin" "[F") ∈ lw_all := lw_g (lw_at lw_m7 55 rfl) rfl
theorem q1632 : (Jvm.Cond.fieldLink "WatchStackModel" (110 : Nat) "WatchStackModel" "margins" "[D") ∈ lw_all := lw_g (lw_at lw_m7 56 rfl) rfl
theorem q1633 : (Jvm.Cond.fieldLink "WatchStackModel" (114 : Nat) "WatchStackModel" "marginMany" "[I") ∈ lw_all := lw_g (lw_at lw_m7 57 rfl) rfl
theorem q1634 : (Jvm.Cond.fieldLink "WatchStackModel" (117 : Nat) "WatchStackModel" "gaps" "[I") ∈ lw_all := lw_g (lw_at lw_m7 58 rfl) rfl
theorem q1635 : (Jvm.Cond.fieldLink "WatchStackModel" (120 : Nat) "WatchStackModel" "begun" "[I") ∈ lw_all := lw_g (lw_at lw_m7 59 rfl) rfl
theorem q1636 : (Jvm.Cond.fieldLink "WatchStackModel" (123 : Nat) "WatchStackModel" "isAwake" "[Z") ∈ lw_all := lw_g (lw_at lw_m7 60 rfl) rfl
theorem q1637 : (Jvm.Cond.fieldLink "WatchStackModel" (126 : Nat) "WatchStackModel" "hasSlept" "[Z") ∈ lw_all := lw_g (lw_at lw_m7 61 rfl) rfl
theorem q1638 : (Jvm.Cond.fieldLink "WatchStackModel" (129 : Nat) "WatchStackModel" "looked" "[Z") ∈ lw_all := lw_g (lw_at lw_m7 62 rfl) rfl
theorem q1639 : (Jvm.Cond.fieldLink "WatchStackModel" (132 : Nat) "WatchStackModel" "hadAt" "[I") ∈ lw_all := lw_g (lw_at lw_m7 63 rfl) rfl
theorem q1640 : (Jvm.Cond.fieldLink "WatchStackModel" (135 : Nat) "WatchStackModel" "recordTick" "[I") ∈ lw_all := lw_g (lw_at lw_m7 64 rfl) rfl
theorem q1641 : (Jvm.Cond.fieldLink "WatchStackModel" (138 : Nat) "WatchStackModel" "recordKind" "[I") ∈ lw_all := lw_g (lw_at lw_m7 65 rfl) rfl
theorem q1642 : (Jvm.Cond.fieldLink "WatchStackModel" (141 : Nat) "WatchStackModel" "recordWho" "[I") ∈ lw_all := lw_g (lw_at lw_m7 66 rfl) rfl
theorem q1643 : (Jvm.Cond.fieldLink "WatchStackModel" (144 : Nat) "WatchStackModel" "recordLevel" "[I") ∈ lw_all := lw_g (lw_at lw_m7 67 rfl) rfl
theorem q1644 : (Jvm.Cond.fieldLink "WatchStackModel" (418 : Nat) "WatchStackModel" "records" "I") ∈ lw_all := lw_g (lw_at lw_m7 68 rfl) rfl
theorem q1645 : (Jvm.Cond.fieldLink "WatchStackModel" (421 : Nat) "WatchStackModel" "boards" "I") ∈ lw_all := lw_g (lw_at lw_m7 69 rfl) rfl
theorem q1646 : (Jvm.Cond.fieldLink "WatchStackModel" (442 : Nat) "WatchStackModel" "isReset" "Z") ∈ lw_all := lw_g (lw_at lw_m7 70 rfl) rfl
theorem q1647 : (Jvm.Cond.fieldLink "WatchStackModel" (424 : Nat) "WatchStackModel" "haltAt" "I") ∈ lw_all := lw_g (lw_at lw_m7 71 rfl) rfl
theorem q1648 : (Jvm.Cond.fieldLink "WatchStackModel" (547 : Nat) "WatchStackModel" "greatestCaught" "I") ∈ lw_all := lw_g (lw_at lw_m7 72 rfl) rfl
theorem q1649 : (Jvm.Cond.fieldLink "WatchStackModel" (550 : Nat) "WatchStackModel" "silentMany" "I") ∈ lw_all := lw_g (lw_at lw_m7 73 rfl) rfl
theorem q1650 : (Jvm.Cond.lays "WatchStackModel" "WatchStackModel" "thrown" "I") ∈ lw_all := lw_g (lw_at lw_m7 74 rfl) rfl
theorem q1651 : (Jvm.Cond.soleField "WatchStackModel" "thrown") ∈ lw_all := lw_g (lw_at lw_m7 75 rfl) rfl
theorem q1652 : (Jvm.Cond.laysFinal "WatchStackModel" "WatchStackModel" "world" "[I") ∈ lw_all := lw_g (lw_at lw_m7 76 rfl) rfl
theorem q1653 : (Jvm.Cond.soleField "WatchStackModel" "world") ∈ lw_all := lw_g (lw_at lw_m7 77 rfl) rfl
theorem q1654 : (Jvm.Cond.laysFinal "WatchStackModel" "WatchStackModel" "images" "[I") ∈ lw_all := lw_g (lw_at lw_m7 78 rfl) rfl
theorem q1655 : (Jvm.Cond.soleField "WatchStackModel" "images") ∈ lw_all := lw_g (lw_at lw_m7 79 rfl) rfl
theorem q1656 : (Jvm.Cond.laysFinal "WatchStackModel" "WatchStackModel" "hasImage" "[Z") ∈ lw_all := lw_g (lw_at lw_m7 80 rfl) rfl
theorem q1657 : (Jvm.Cond.soleField "WatchStackModel" "hasImage") ∈ lw_all := lw_g (lw_at lw_m7 81 rfl) rfl
theorem q1658 : (Jvm.Cond.laysFinal "WatchStackModel" "WatchStackModel" "tape" "[B") ∈ lw_all := lw_g (lw_at lw_m7 82 rfl) rfl
theorem q1659 : (Jvm.Cond.soleField "WatchStackModel" "tape") ∈ lw_all := lw_g (lw_at lw_m7 83 rfl) rfl
theorem q1660 : (Jvm.Cond.lays "WatchStackModel" "WatchStackModel" "taped" "I") ∈ lw_all := lw_g (lw_at lw_m7 84 rfl) rfl
theorem q1661 : (Jvm.Cond.soleField "WatchStackModel" "taped") ∈ lw_all := lw_g (lw_at lw_m7 85 rfl) rfl
theorem q1662 : (Jvm.Cond.laysFinal "WatchStackModel" "WatchStackModel" "five" "[I") ∈ lw_all := lw_g (lw_at lw_m7 86 rfl) rfl
theorem q1663 : (Jvm.Cond.soleField "WatchStackModel" "five") ∈ lw_all := lw_g (lw_at lw_m7 87 rfl) rfl
theorem q1664 : (Jvm.Cond.lays "WatchStackModel" "WatchStackModel" "size" "I") ∈ lw_all := lw_g (lw_at lw_m7 88 rfl) rfl
theorem q1665 : (Jvm.Cond.soleField "WatchStackModel" "size") ∈ lw_all := lw_g (lw_at lw_m7 89 rfl) rfl
theorem q1666 : (Jvm.Cond.lays "WatchStackModel" "WatchStackModel" "at" "I") ∈ lw_all := lw_g (lw_at lw_m7 90 rfl) rfl
theorem q1667 : (Jvm.Cond.soleField "WatchStackModel" "at") ∈ lw_all := lw_g (lw_at lw_m7 91 rfl) rfl
theorem q1668 : (Jvm.Cond.lays "WatchStackModel" "WatchStackModel" "from" "I") ∈ lw_all := lw_g (lw_at lw_m7 92 rfl) rfl
theorem q1669 : (Jvm.Cond.soleField "WatchStackModel" "from") ∈ lw_all := lw_g (lw_at lw_m7 93 rfl) rfl
theorem q1670 : (Jvm.Cond.lays "WatchStackModel" "WatchStackModel" "token" "I") ∈ lw_all := lw_g (lw_at lw_m7 94 rfl) rfl
theorem q1671 : (Jvm.Cond.soleField "WatchStackModel" "token") ∈ lw_all := lw_g (lw_at lw_m7 95 rfl) rfl
theorem q1672 : (Jvm.Cond.lays "WatchStackModel" "WatchStackModel" "value" "I") ∈ lw_all := lw_g (lw_at lw_m7 96 rfl) rfl
theorem q1673 : (Jvm.Cond.soleField "WatchStackModel" "value") ∈ lw_all := lw_g (lw_at lw_m7 97 rfl) rfl
theorem q1674 : (Jvm.Cond.lays "WatchStackModel" "WatchStackModel" "faultKind" "I") ∈ lw_all := lw_g (lw_at lw_m7 98 rfl) rfl
theorem q1675 : (Jvm.Cond.soleField "WatchStackModel" "faultKind") ∈ lw_all := lw_g (lw_at lw_m7 99 rfl) rfl
theorem q1676 : (Jvm.Cond.lays "WatchStackModel" "WatchStackModel" "faultPlace" "I") ∈ lw_all := lw_g (lw_at lw_m7 100 rfl) rfl
theorem q1677 : (Jvm.Cond.soleField "WatchStackModel" "faultPlace") ∈ lw_all := lw_g (lw_at lw_m7 101 rfl) rfl
theorem q1678 : (Jvm.Cond.laysFinal "WatchStackModel" "WatchStackModel" "fresh" "[I") ∈ lw_all := lw_g (lw_at lw_m7 102 rfl) rfl
theorem q1679 : (Jvm.Cond.soleField "WatchStackModel" "fresh") ∈ lw_all := lw_g (lw_at lw_m7 103 rfl) rfl
theorem q1680 : (Jvm.Cond.laysFinal "WatchStackModel" "WatchStackModel" "best" "[I") ∈ lw_all := lw_g (lw_at lw_m7 104 rfl) rfl
theorem q1681 : (Jvm.Cond.soleField "WatchStackModel" "best") ∈ lw_all := lw_g (lw_at lw_m7 105 rfl) rfl
theorem q1682 : (Jvm.Cond.laysFinal "WatchStackModel" "WatchStackModel" "longest" "[I") ∈ lw_all := lw_g (lw_at lw_m7 106 rfl) rfl
theorem q1683 : (Jvm.Cond.soleField "WatchStackModel" "longest") ∈ lw_all := lw_g (lw_at lw_m7 107 rfl) rfl
theorem q1684 : (Jvm.Cond.laysFinal "WatchStackModel" "WatchStackModel" "shortest" "[I") ∈ lw_all := lw_g (lw_at lw_m7 108 rfl) rfl
theorem q1685 : (Jvm.Cond.soleField "WatchStackModel" "shortest") ∈ lw_all := lw_g (lw_at lw_m7 109 rfl) rfl
theorem q1686 : (Jvm.Cond.laysFinal "WatchStackModel" "WatchStackModel" "ahead" "[I") ∈ lw_all := lw_g (lw_at lw_m7 110 rfl) rfl
theorem q1687 : (Jvm.Cond.soleField "WatchStackModel" "ahead") ∈ lw_all := lw_g (lw_at lw_m7 111 rfl) rfl
theorem q1688 : (Jvm.Cond.laysFinal "WatchStackModel" "WatchStackModel" "order" "[I") ∈ lw_all := lw_g (lw_at lw_m7 112 rfl) rfl
theorem q1689 : (Jvm.Cond.soleField "WatchStackModel" "order") ∈ lw_all := lw_g (lw_at lw_m7 113 rfl) rfl
theorem q1690 : (Jvm.Cond.laysFinal "WatchStackModel" "WatchStackModel" "firstOrder" "[I") ∈ lw_all := lw_g (lw_at lw_m7 114 rfl) rfl
theorem q1691 : (Jvm.Cond.soleField "WatchStackModel" "firstOrder") ∈ lw_all := lw_g (lw_at lw_m7 115 rfl) rfl
theorem q1692 : (Jvm.Cond.lays "WatchStackModel" "WatchStackModel" "ordersMany" "I") ∈ lw_all := lw_g (lw_at lw_m7 116 rfl) rfl
theorem q1693 : (Jvm.Cond.soleField "WatchStackModel" "ordersMany") ∈ lw_all := lw_g (lw_at lw_m7 117 rfl) rfl
theorem q1694 : (Jvm.Cond.laysFinal "WatchStackModel" "WatchStackModel" "answers" "[I") ∈ lw_all := lw_g (lw_at lw_m7 118 rfl) rfl
theorem q1695 : (Jvm.Cond.soleField "WatchStackModel" "answers") ∈ lw_all := lw_g (lw_at lw_m7 119 rfl) rfl
theorem q1696 : (Jvm.Cond.lays "WatchStackModel" "WatchStackModel" "leftOut" "I") ∈ lw_all := lw_g (lw_at lw_m7 120 rfl) rfl
theorem q1697 : (Jvm.Cond.soleField "WatchStackModel" "leftOut") ∈ lw_all := lw_g (lw_at lw_m7 121 rfl) rfl
theorem q1698 : (Jvm.Cond.lays "WatchStackModel" "WatchStackModel" "otherTask" "I") ∈ lw_all := lw_g (lw_at lw_m7 122 rfl) rfl
theorem q1699 : (Jvm.Cond.soleField "WatchStackModel" "otherTask") ∈ lw_all := lw_g (lw_at lw_m7 123 rfl) rfl
theorem q1700 : (Jvm.Cond.lays "WatchStackModel" "WatchStackModel" "otherOpen" "I") ∈ lw_all := lw_g (lw_at lw_m7 124 rfl) rfl
theorem q1701 : (Jvm.Cond.soleField "WatchStackModel" "otherOpen") ∈ lw_all := lw_g (lw_at lw_m7 125 rfl) rfl
theorem q1702 : (Jvm.Cond.lays "WatchStackModel" "WatchStackModel" "otherClose" "I") ∈ lw_all := lw_g (lw_at lw_m7 126 rfl) rfl
theorem q1703 : (Jvm.Cond.soleField "WatchStackModel" "otherClose") ∈ lw_all := lw_g (lw_at lw_m7 127 rfl) rfl
theorem q1704 : (Jvm.Cond.lays "WatchStackModel" "WatchStackModel" "extraMany" "I") ∈ lw_all := lw_g (lw_at lw_m7 128 rfl) rfl
theorem q1705 : (Jvm.Cond.soleField "WatchStackModel" "extraMany") ∈ lw_all := lw_g (lw_at lw_m7 129 rfl) rfl
theorem q1706 : (Jvm.Cond.laysFinal "WatchStackModel" "WatchStackModel" "start" "[I") ∈ lw_all := lw_g (lw_at lw_m7 130 rfl) rfl
theorem q1707 : (Jvm.Cond.soleField "WatchStackModel" "start") ∈ lw_all := lw_g (lw_at lw_m7 131 rfl) rfl
theorem q1708 : (Jvm.Cond.laysFinal "WatchStackModel" "WatchStackModel" "job" "[I") ∈ lw_all := lw_g (lw_at lw_m7 132 rfl) rfl
theorem q1709 : (Jvm.Cond.soleField "WatchStackModel" "job") ∈ lw_all := lw_g (lw_at lw_m7 133 rfl) rfl
theorem q1710 : (Jvm.Cond.laysFinal "WatchStackModel" "WatchStackModel" "jobs" "[I") ∈ lw_all := lw_g (lw_at lw_m7 134 rfl) rfl
theorem q1711 : (Jvm.Cond.soleField "WatchStackModel" "jobs") ∈ lw_all := lw_g (lw_at lw_m7 135 rfl) rfl
theorem q1712 : (Jvm.Cond.laysFinal "WatchStackModel" "WatchStackModel" "nodeNow" "[I") ∈ lw_all := lw_g (lw_at lw_m7 136 rfl) rfl
theorem q1713 : (Jvm.Cond.soleField "WatchStackModel" "nodeNow") ∈ lw_all := lw_g (lw_at lw_m7 137 rfl) rfl
theorem q1714 : (Jvm.Cond.laysFinal "WatchStackModel" "WatchStackModel" "units" "[I") ∈ lw_all := lw_g (lw_at lw_m7 138 rfl) rfl
theorem q1715 : (Jvm.Cond.soleField "WatchStackModel" "units") ∈ lw_all := lw_g (lw_at lw_m7 139 rfl) rfl
theorem q1716 : (Jvm.Cond.laysFinal "WatchStackModel" "WatchStackModel" "question" "[I") ∈ lw_all := lw_g (lw_at lw_m7 140 rfl) rfl
theorem q1717 : (Jvm.Cond.soleField "WatchStackModel" "question") ∈ lw_all := lw_g (lw_at lw_m7 141 rfl) rfl
theorem q1718 : (Jvm.Cond.laysFinal "WatchStackModel" "WatchStackModel" "latest" "[I") ∈ lw_all := lw_g (lw_at lw_m7 142 rfl) rfl
theorem q1719 : (Jvm.Cond.soleField "WatchStackModel" "latest") ∈ lw_all := lw_g (lw_at lw_m7 143 rfl) rfl
theorem q1720 : (Jvm.Cond.laysFinal "WatchStackModel" "WatchStackModel" "hasKicked" "[Z") ∈ lw_all := lw_g (lw_at lw_m7 144 rfl) rfl
theorem q1721 : (Jvm.Cond.soleField "WatchStackModel" "hasKicked") ∈ lw_all := lw_g (lw_at lw_m7 145 rfl) rfl
theorem q1722 : (Jvm.Cond.laysFinal "WatchStackModel" "WatchStackModel" "goodNow" "[I") ∈ lw_all := lw_g (lw_at lw_m7 146 rfl) rfl
theorem q1723 : (Jvm.Cond.soleField "WatchStackModel" "goodNow") ∈ lw_all := lw_g (lw_at lw_m7 147 rfl) rfl
theorem q1724 : (Jvm.Cond.laysFinal "WatchStackModel" "WatchStackModel" "memory" "[I") ∈ lw_all := lw_g (lw_at lw_m7 148 rfl) rfl
theorem q1725 : (Jvm.Cond.soleField "WatchStackModel" "memory") ∈ lw_all := lw_g (lw_at lw_m7 149 rfl) rfl
theorem q1726 : (Jvm.Cond.laysFinal "WatchStackModel" "WatchStackModel" "health" "[F") ∈ lw_all := lw_g (lw_at lw_m7 150 rfl) rfl
theorem q1727 : (Jvm.Cond.soleField "WatchStackModel" "health") ∈ lw_all := lw_g (lw_at lw_m7 151 rfl) rfl
theorem q1728 : (Jvm.Cond.laysFinal "WatchStackModel" "WatchStackModel" "well" "[I") ∈ lw_all := lw_g (lw_at lw_m7 152 rfl) rfl
theorem q1729 : (Jvm.Cond.soleField "WatchStackModel" "well") ∈ lw_all := lw_g (lw_at lw_m7 153 rfl) rfl
theorem q1730 : (Jvm.Cond.laysFinal "WatchStackModel" "WatchStackModel" "hasFault" "[Z") ∈ lw_all := lw_g (lw_at lw_m7 154 rfl) rfl
theorem q1731 : (Jvm.Cond.soleField "WatchStackModel" "hasFault") ∈ lw_all := lw_g (lw_at lw_m7 155 rfl) rfl
theorem q1732 : (Jvm.Cond.laysFinal "WatchStackModel" "WatchStackModel" "goodAll" "[I") ∈ lw_all := lw_g (lw_at lw_m7 156 rfl) rfl
theorem q1733 : (Jvm.Cond.soleField "WatchStackModel" "goodAll") ∈ lw_all := lw_g (lw_at lw_m7 157 rfl) rfl
theorem q1734 : (Jvm.Cond.laysFinal "WatchStackModel" "WatchStackModel" "goodLast" "[I") ∈ lw_all := lw_g (lw_at lw_m7 158 rfl) rfl
theorem q1735 : (Jvm.Cond.soleField "WatchStackModel" "goodLast") ∈ lw_all := lw_g (lw_at lw_m7 159 rfl) rfl
theorem q1736 : (Jvm.Cond.laysFinal "WatchStackModel" "WatchStackModel" "margin" "[F") ∈ lw_all := lw_g (lw_at lw_m7 160 rfl) rfl
theorem q1737 : (Jvm.Cond.soleField "WatchStackModel" "margin") ∈ lw_all := lw_g (lw_at lw_m7 161 rfl) rfl
theorem q1738 : (Jvm.Cond.laysFinal "WatchStackModel" "WatchStackModel" "margins" "[D") ∈ lw_all := lw_g (lw_at lw_m7 162 rfl) rfl
theorem q1739 : (Jvm.Cond.soleField "WatchStackModel" "margins") ∈ lw_all := lw_g (lw_at lw_m7 163 rfl) rfl
theorem q1740 : (Jvm.Cond.laysFinal "WatchStackModel" "WatchStackModel" "marginMany" "[I") ∈ lw_all := lw_g (lw_at lw_m7 164 rfl) rfl
theorem q1741 : (Jvm.Cond.soleField "WatchStackModel" "marginMany") ∈ lw_all := lw_g (lw_at lw_m7 165 rfl) rfl
theorem q1742 : (Jvm.Cond.laysFinal "WatchStackModel" "WatchStackModel" "gaps" "[I") ∈ lw_all := lw_g (lw_at lw_m7 166 rfl) rfl
theorem q1743 : (Jvm.Cond.soleField "WatchStackModel" "gaps") ∈ lw_all := lw_g (lw_at lw_m7 167 rfl) rfl
theorem q1744 : (Jvm.Cond.laysFinal "WatchStackModel" "WatchStackModel" "begun" "[I") ∈ lw_all := lw_g (lw_at lw_m7 168 rfl) rfl
theorem q1745 : (Jvm.Cond.soleField "WatchStackModel" "begun") ∈ lw_all := lw_g (lw_at lw_m7 169 rfl) rfl
theorem q1746 : (Jvm.Cond.laysFinal "WatchStackModel" "WatchStackModel" "isAwake" "[Z") ∈ lw_all := lw_g (lw_at lw_m7 170 rfl) rfl
theorem q1747 : (Jvm.Cond.soleField "WatchStackModel" "isAwake") ∈ lw_all := lw_g (lw_at lw_m7 171 rfl) rfl
theorem q1748 : (Jvm.Cond.laysFinal "WatchStackModel" "WatchStackModel" "hasSlept" "[Z") ∈ lw_all := lw_g (lw_at lw_m7 172 rfl) rfl
theorem q1749 : (Jvm.Cond.soleField "WatchStackModel" "hasSlept") ∈ lw_all := lw_g (lw_at lw_m7 173 rfl) rfl
theorem q1750 : (Jvm.Cond.laysFinal "WatchStackModel" "WatchStackModel" "looked" "[Z") ∈ lw_all := lw_g (lw_at lw_m7 174 rfl) rfl
theorem q1751 : (Jvm.Cond.soleField "WatchStackModel" "looked") ∈ lw_all := lw_g (lw_at lw_m7 175 rfl) rfl
theorem q1752 : (Jvm.Cond.laysFinal "WatchStackModel" "WatchStackModel" "hadAt" "[I") ∈ lw_all := lw_g (lw_at lw_m7 176 rfl) rfl
theorem q1753 : (Jvm.Cond.soleField "WatchStackModel" "hadAt") ∈ lw_all := lw_g (lw_at lw_m7 177 rfl) rfl
theorem q1754 : (Jvm.Cond.laysFinal "WatchStackModel" "WatchStackModel" "recordTick" "[I") ∈ lw_all := lw_g (lw_at lw_m7 178 rfl) rfl
theorem q1755 : (Jvm.Cond.soleField "WatchStackModel" "recordTick") ∈ lw_all := lw_g (lw_at lw_m7 179 rfl) rfl
theorem q1756 : (Jvm.Cond.laysFinal "WatchStackModel" "WatchStackModel" "recordKind" "[I") ∈ lw_all := lw_g (lw_at lw_m7 180 rfl) rfl
theorem q1757 : (Jvm.Cond.soleField "WatchStackModel" "recordKind") ∈ lw_all := lw_g (lw_at lw_m7 181 rfl) rfl
theorem q1758 : (Jvm.Cond.laysFinal "WatchStackModel" "WatchStackModel" "recordWho" "[I") ∈ lw_all := lw_g (lw_at lw_m7 182 rfl) rfl
theorem q1759 : (Jvm.Cond.soleField "WatchStackModel" "recordWho") ∈ lw_all := lw_g (lw_at lw_m7 183 rfl) rfl
theorem q1760 : (Jvm.Cond.laysFinal "WatchStackModel" "WatchStackModel" "recordLevel" "[I") ∈ lw_all := lw_g (lw_at lw_m7 184 rfl) rfl
theorem q1761 : (Jvm.Cond.soleField "WatchStackModel" "recordLevel") ∈ lw_all := lw_g (lw_at lw_m7 185 rfl) rfl
theorem q1762 : (Jvm.Cond.lays "WatchStackModel" "WatchStackModel" "records" "I") ∈ lw_all := lw_g (lw_at lw_m7 186 rfl) rfl
theorem q1763 : (Jvm.Cond.soleField "WatchStackModel" "records") ∈ lw_all := lw_g (lw_at lw_m7 187 rfl) rfl
theorem q1764 : (Jvm.Cond.lays "WatchStackModel" "WatchStackModel" "boards" "I") ∈ lw_all := lw_g (lw_at lw_m7 188 rfl) rfl
theorem q1765 : (Jvm.Cond.soleField "WatchStackModel" "boards") ∈ lw_all := lw_g (lw_at lw_m7 189 rfl) rfl
theorem q1766 : (Jvm.Cond.lays "WatchStackModel" "WatchStackModel" "isReset" "Z") ∈ lw_all := lw_g (lw_at lw_m7 190 rfl) rfl
theorem q1767 : (Jvm.Cond.soleField "WatchStackModel" "isReset") ∈ lw_all := lw_g (lw_at lw_m7 191 rfl) rfl
theorem q1768 : (Jvm.Cond.lays "WatchStackModel" "WatchStackModel" "haltAt" "I") ∈ lw_all := lw_g (lw_at lw_m7 192 rfl) rfl
theorem q1769 : (Jvm.Cond.soleField "WatchStackModel" "haltAt") ∈ lw_all := lw_g (lw_at lw_m7 193 rfl) rfl
theorem q1770 : (Jvm.Cond.lays "WatchStackModel" "WatchStackModel" "greatestCaught" "I") ∈ lw_all := lw_g (lw_at lw_m7 194 rfl) rfl
theorem q1771 : (Jvm.Cond.soleField "WatchStackModel" "greatestCaught") ∈ lw_all := lw_g (lw_at lw_m7 195 rfl) rfl
theorem q1772 : (Jvm.Cond.lays "WatchStackModel" "WatchStackModel" "silentMany" "I") ∈ lw_all := lw_g (lw_at lw_m7 196 rfl) rfl
theorem q1773 : (Jvm.Cond.soleField "WatchStackModel" "silentMany") ∈ lw_all := lw_g (lw_at lw_m7 197 rfl) rfl
theorem q1774 : (Jvm.Cond.superclass "WatchStackModel" "java/lang/Object") ∈ lw_all := lw_g (lw_at lw_m7 198 rfl) rfl
theorem q1778 : (Jvm.Cond.instanceMethod ({ cls := "WatchStackModel", name := "image", desc := "(I)I" } : Jvm.MethodName)) ∈ lw_all := lw_g (lw_at lw_m7 202 rfl) rfl
theorem q1779 : (Jvm.Cond.selects "WatchStackModel" ({ cls := "WatchStackModel", name := "image", desc := "(I)I" } : Jvm.MethodName) ({ cls := "WatchStackModel", name := "image", desc := "(I)I" } : Jvm.MethodName)) ∈ lw_all := lw_g (lw_at lw_m7 203 rfl) rfl
theorem q1780 : (Jvm.Cond.code ({ cls := "WatchStackModel", name := "image", desc := "(I)I" } : Jvm.MethodName) prog_18_method_4_code (3 : Nat) (Option.some Jvm.ClassFile.FieldType.int)) ∈ lw_all := lw_g (lw_at lw_m7 204 rfl) rfl
theorem q1781 : (Jvm.Cond.constantLong "WatchStackModel" (150 : Nat) (2 : Int64)) ∈ lw_all := lw_g (lw_at lw_m7 205 rfl) rfl
theorem q1782 : (Jvm.Cond.methodLink "WatchStackModel" (152 : Nat) ({ cls := "WatchStackModel", name := "in", desc := "(JJJ)Z" } : Jvm.MethodName)) ∈ lw_all := lw_g (lw_at lw_m7 206 rfl) rfl
theorem q1783 : (Jvm.Cond.static ({ cls := "WatchStackModel", name := "in", desc := "(JJJ)Z" } : Jvm.MethodName)) ∈ lw_all := lw_g (lw_at lw_m7 207 rfl) rfl
theorem q1784 : (Jvm.Cond.code ({ cls := "WatchStackModel", name := "in", desc := "(JJJ)Z" } : Jvm.MethodName) prog_18_method_3_code (6 : Nat) (Option.some Jvm.ClassFile.FieldType.boolean)) ∈ lw_all := lw_g (lw_at lw_m7 208 rfl) rfl
theorem q1786 : (Jvm.Cond.instanceMethod ({ cls := "WatchStackModel", name := "back", desc := "(I)I" } : Jvm.MethodName)) ∈ lw_all := lw_g (lw_at lw_m7 210 rfl) rfl
theorem q1787 : (Jvm.Cond.selects "WatchStackModel" ({ cls := "WatchStackModel", name := "back", desc := "(I)I" } : Jvm.MethodName) ({ cls := "WatchStackModel", name := "back", desc := "(I)I" } : Jvm.MethodName)) ∈ lw_all := lw_g (lw_at lw_m7 211 rfl) rfl
theorem q1788 : (Jvm.Cond.code ({ cls := "WatchStackModel", name := "back", desc := "(I)I" } : Jvm.MethodName) prog_18_method_5_code (3 : Nat) (Option.some Jvm.ClassFile.FieldType.int)) ∈ lw_all := lw_g (lw_at lw_m7 212 rfl) rfl
theorem q1790 : (Jvm.Cond.instanceMethod ({ cls := "WatchStackModel", name := "feed", desc := "(IIIII)I" } : Jvm.MethodName)) ∈ lw_all := lw_g (lw_at lw_m7 214 rfl) rfl
theorem q1791 : (Jvm.Cond.selects "WatchStackModel" ({ cls := "WatchStackModel", name := "feed", desc := "(IIIII)I" } : Jvm.MethodName) ({ cls := "WatchStackModel", name := "feed", desc := "(IIIII)I" } : Jvm.MethodName)) ∈ lw_all := lw_g (lw_at lw_m7 215 rfl) rfl
theorem q1792 : (Jvm.Cond.code ({ cls := "WatchStackModel", name := "feed", desc := "(IIIII)I" } : Jvm.MethodName) prog_18_method_16_code (7 : Nat) (Option.some Jvm.ClassFile.FieldType.int)) ∈ lw_all := lw_g (lw_at lw_m7 216 rfl) rfl
theorem q1794 : (Jvm.Cond.instanceMethod ({ cls := "WatchStackModel", name := "end", desc := "(I)I" } : Jvm.MethodName)) ∈ lw_all := lw_g (lw_at lw_m7 218 rfl) rfl
theorem q1795 : (Jvm.Cond.selects "WatchStackModel" ({ cls := "WatchStackModel", name := "end", desc := "(I)I" } : Jvm.MethodName) ({ cls := "WatchStackModel", name := "end", desc := "(I)I" } : Jvm.MethodName)) ∈ lw_all := lw_g (lw_at lw_m7 219 rfl) rfl
theorem q1796 : (Jvm.Cond.code ({ cls := "WatchStackModel", name := "end", desc := "(I)I" } : Jvm.MethodName) prog_18_method_17_code (2 : Nat) (Option.some Jvm.ClassFile.FieldType.int)) ∈ lw_all := lw_g (lw_at lw_m7 220 rfl) rfl
theorem q1798 : (Jvm.Cond.instanceMethod ({ cls := "WatchStackModel", name := "fault", desc := "(I)I" } : Jvm.MethodName)) ∈ lw_all := lw_g (lw_at lw_m7 222 rfl) rfl
theorem q1799 : (Jvm.Cond.selects "WatchStackModel" ({ cls := "WatchStackModel", name := "fault", desc := "(I)I" } : Jvm.MethodName) ({ cls := "WatchStackModel", name := "fault", desc := "(I)I" } : Jvm.MethodName)) ∈ lw_all := lw_g (lw_at lw_m7 223 rfl) rfl
theorem q1800 : (Jvm.Cond.code ({ cls := "WatchStackModel", name := "fault", desc := "(I)I" } : Jvm.MethodName) prog_18_method_26_code (2 : Nat) (Option.some Jvm.ClassFile.FieldType.int)) ∈ lw_all := lw_g (lw_at lw_m7 224 rfl) rfl
theorem q1802 : (Jvm.Cond.instanceMethod ({ cls := "WatchStackModel", name := "board", desc := "()I" } : Jvm.MethodName)) ∈ lw_all := lw_g (lw_at lw_m7 226 rfl) rfl
theorem q1803 : (Jvm.Cond.selects "WatchStackModel" ({ cls := "WatchStackModel", name := "board", desc := "()I" } : Jvm.MethodName) ({ cls := "WatchStackModel", name := "board", desc := "()I" } : Jvm.MethodName)) ∈ lw_all := lw_g (lw_at lw_m7 227 rfl) rfl
theorem q1804 : (Jvm.Cond.code ({ cls := "WatchStackModel", name := "board", desc := "()I" } : Jvm.MethodName) prog_18_method_38_code (2 : Nat) (Option.some Jvm.ClassFile.FieldType.int)) ∈ lw_all := lw_g (lw_at lw_m7 228 rfl) rfl
theorem q1805 : (Jvm.Cond.methodLink "WatchStackModel" (217 : Nat) ({ cls := "WatchStackModel", name := "advance", desc := "()V" } : Jvm.MethodName)) ∈ lw_all := lw_g (lw_at lw_m7 229 rfl) rfl
theorem q1806 : (Jvm.Cond.privateMethod ({ cls := "WatchStackModel", name := "advance", desc := "()V" } : Jvm.MethodName)) ∈ lw_tbl := lw_at lw_m7 230 rfl
theorem q1807 : (Jvm.Cond.instanceMethod ({ cls := "WatchStackModel", name := "advance", desc := "()V" } : Jvm.MethodName)) ∈ lw_all := lw_g (lw_at lw_m7 231 rfl) rfl
theorem q1808 : (Jvm.Cond.code ({ cls := "WatchStackModel", name := "advance", desc := "()V" } : Jvm.MethodName) prog_18_method_19_code (2 : Nat) (Option.none : Option Jvm.ClassFile.FieldType)) ∈ lw_all := lw_g (lw_at lw_m7 232 rfl) rfl
theorem q1809 : (Jvm.Cond.methodLink "WatchStackModel" (169 : Nat) ({ cls := "WatchStackModel", name := "see", desc := "(I)I" } : Jvm.MethodName)) ∈ lw_all := lw_g (lw_at lw_m7 233 rfl) rfl
theorem q1810 : (Jvm.Cond.privateMethod ({ cls := "WatchStackModel", name := "see", desc := "(I)I" } : Jvm.MethodName)) ∈ lw_tbl := lw_at lw_m7 234 rfl
theorem q1811 : (Jvm.Cond.instanceMethod ({ cls := "WatchStackModel", name := "see", desc := "(I)I" } : Jvm.MethodName)) ∈ lw_all := lw_g (lw_at lw_m7 235 rfl) rfl
theorem q1812 : (Jvm.Cond.code ({ cls := "WatchStackModel", name := "see", desc := "(I)I" } : Jvm.MethodName) prog_18_method_18_code (2 : Nat) (Option.some Jvm.ClassFile.FieldType.int)) ∈ lw_all := lw_g (lw_at lw_m7 236 rfl) rfl
theorem q1813 : (Jvm.Cond.constantLong "WatchStackModel" (179 : Nat) (97 : Int64)) ∈ lw_all := lw_g (lw_at lw_m7 237 rfl) rfl
theorem q1814 : (Jvm.Cond.constantLong "WatchStackModel" (181 : Nat) (122 : Int64)) ∈ lw_all := lw_g (lw_at lw_m7 238 rfl) rfl
theorem q1815 : (Jvm.Cond.constantLong "WatchStackModel" (183 : Nat) (48 : Int64)) ∈ lw_all := lw_g (lw_at lw_m7 239 rfl) rfl
theorem q1816 : (Jvm.Cond.constantLong "WatchStackModel" (185 : Nat) (57 : Int64)) ∈ lw_all := lw_g (lw_at lw_m8 0 rfl) rfl
theorem q1817 : (Jvm.Cond.constant "WatchStackModel" (190 : Nat) (99999 : Int32)) ∈ lw_all := lw_g (lw_at lw_m8 1 rfl) rfl
theorem q1818 : (Jvm.Cond.methodLink "WatchStackModel" (191 : Nat) ({ cls := "java/lang/Math", name := "min", desc := "(II)I" } : Jvm.MethodName)) ∈ lw_all := lw_g (lw_at lw_m8 2 rfl) rfl
theorem q1819 : (Jvm.Cond.methodLink "WatchStackModel" (199 : Nat) ({ cls := "WatchStackModel", name := "good", desc := "()Z" } : Jvm.MethodName)) ∈ lw_all := lw_g (lw_at lw_m8 3 rfl) rfl
theorem q1820 : (Jvm.Cond.privateMethod ({ cls := "WatchStackModel", name := "good", desc := "()Z" } : Jvm.MethodName)) ∈ lw_tbl := lw_at lw_m8 4 rfl
theorem q1821 : (Jvm.Cond.instanceMethod ({ cls := "WatchStackModel", name := "good", desc := "()Z" } : Jvm.MethodName)) ∈ lw_all := lw_g (lw_at lw_m8 5 rfl) rfl
theorem q1822 : (Jvm.Cond.code ({ cls := "WatchStackModel", name := "good", desc := "()Z" } : Jvm.MethodName) prog_18_method_20_code (1 : Nat) (Option.some Jvm.ClassFile.FieldType.boolean)) ∈ lw_all := lw_g (lw_at lw_m8 6 rfl) rfl
theorem q1823 : (Jvm.Cond.methodLink "WatchStackModel" (314 : Nat) ({ cls := "WatchStackModel", name := "readText", desc := "()V" } : Jvm.MethodName)) ∈ lw_all := lw_g (lw_at lw_m8 7 rfl) rfl
theorem q1824 : (Jvm.Cond.privateMethod ({ cls := "WatchStackModel", name := "readText", desc := "()V" } : Jvm.MethodName)) ∈ lw_tbl := lw_at lw_m8 8 rfl
theorem q1825 : (Jvm.Cond.instanceMethod ({ cls := "WatchStackModel", name := "readText", desc := "()V" } : Jvm.MethodName)) ∈ lw_all := lw_g (lw_at lw_m8 9 rfl) rfl
theorem q1826 : (Jvm.Cond.code ({ cls := "WatchStackModel", name := "readText", desc := "()V" } : Jvm.MethodName) prog_18_method_37_code (2 : Nat) (Option.none : Option Jvm.ClassFile.FieldType)) ∈ lw_all := lw_g (lw_at lw_m8 10 rfl) rfl
theorem q1827 : (Jvm.Cond.methodLink "WatchStackModel" (292 : Nat) ({ cls := "WatchStackModel", name := "kindRead", desc := "()I" } : Jvm.MethodName)) ∈ lw_all := lw_g (lw_at lw_m8 11 rfl) rfl
theorem q1828 : (Jvm.Cond.privateMethod ({ cls := "WatchStackModel", name := "kindRead", desc := "()I" } : Jvm.MethodName)) ∈ lw_tbl := lw_at lw_m8 12 rfl
theorem q1829 : (Jvm.Cond.instanceMethod ({ cls := "WatchStackModel", name := "kindRead", desc := "()I" } : Jvm.MethodName)) ∈ lw_all := lw_g (lw_at lw_m8 13 rfl) rfl
theorem q1830 : (Jvm.Cond.code ({ cls := "WatchStackModel", name := "kindRead", desc := "()I" } : Jvm.MethodName) prog_18_method_36_code (2 : Nat) (Option.some Jvm.ClassFile.FieldType.int)) ∈ lw_all := lw_g (lw_at lw_m8 14 rfl) rfl
theorem q1831 : (Jvm.Cond.methodLink "WatchStackModel" (288 : Nat) ({ cls := "WatchStackModel", name := "wordOf", desc := "(I)Ljava/lang/String;" } : Jvm.MethodName)) ∈ lw_all := lw_g (lw_at lw_m8 15 rfl) rfl
theorem q1832 : (Jvm.Cond.static ({ cls := "WatchStackModel", name := "wordOf", desc := "(I)Ljava/lang/String;" } : Jvm.MethodName)) ∈ lw_all := lw_g (lw_at lw_m8 16 rfl) rfl
theorem q1833 : (Jvm.Cond.code ({ cls := "WatchStackModel", name := "wordOf", desc := "(I)Ljava/lang/String;" } : Jvm.MethodName) prog_18_method_33_code (1 : Nat) (Option.some (Jvm.ClassFile.FieldType.object "java/lang/String"))) ∈ lw_all := lw_g (lw_at lw_m8 17 rfl) rfl
theorem q1834 : (Jvm.Cond.stringRef "WatchStackModel" (266 : Nat) "hang") ∈ lw_tbl := lw_at lw_m8 18 rfl
theorem q1835 : (Jvm.Cond.stringRef "WatchStackModel" (268 : Nat) "stop") ∈ lw_tbl := lw_at lw_m8 19 rfl
theorem q1836 : (Jvm.Cond.stringRef "WatchStackModel" (270 : Nat) "skip") ∈ lw_tbl := lw_at lw_m8 20 rfl
theorem q1837 : (Jvm.Cond.stringRef "WatchStackModel" (272 : Nat) "slow") ∈ lw_tbl := lw_at lw_m8 21 rfl
theorem q1838 : (Jvm.Cond.stringRef "WatchStackModel" (274 : Nat) "wrong") ∈ lw_tbl := lw_at lw_m8 22 rfl
theorem q1839 : (Jvm.Cond.stringRef "WatchStackModel" (276 : Nat) "sleep") ∈ lw_tbl := lw_at lw_m8 23 rfl
theorem q1840 : (Jvm.Cond.methodLink "WatchStackModel" (213 : Nat) ({ cls := "WatchStackModel", name := "is", desc := "(Ljava/lang/String;)Z" } : Jvm.MethodName)) ∈ lw_all := lw_g (lw_at lw_m8 24 rfl) rfl
theorem q1841 : (Jvm.Cond.privateMethod ({ cls := "WatchStackModel", name := "is", desc := "(Ljava/lang/String;)Z" } : Jvm.MethodName)) ∈ lw_tbl := lw_at lw_m8 25 rfl
theorem q1842 : (Jvm.Cond.instanceMethod ({ cls := "WatchStackModel", name := "is", desc := "(Ljava/lang/String;)Z" } : Jvm.MethodName)) ∈ lw_all := lw_g (lw_at lw_m8 26 rfl) rfl
theorem q1843 : (Jvm.Cond.code ({ cls := "WatchStackModel", name := "is", desc := "(Ljava/lang/String;)Z" } : Jvm.MethodName) prog_18_method_22_code (4 : Nat) (Option.some Jvm.ClassFile.FieldType.boolean)) ∈ lw_all := lw_g (lw_at lw_m8 27 rfl) rfl
theorem q1844 : (Jvm.Cond.methodLink "WatchStackModel" (203 : Nat) ({ cls := "java/lang/String", name := "length", desc := "()I" } : Jvm.MethodName)) ∈ lw_all := lw_g (lw_at lw_m8 28 rfl) rfl
theorem q1845 : (Jvm.Cond.methodLink "WatchStackModel" (209 : Nat) ({ cls := "java/lang/String", name := "charAt", desc := "(I)C" } : Jvm.MethodName)) ∈ lw_all := lw_g (lw_at lw_m8 29 rfl) rfl
theorem q1846 : (Jvm.Cond.methodLink "WatchStackModel" (295 : Nat) ({ cls := "WatchStackModel", name := "readBoard", desc := "()V" } : Jvm.MethodName)) ∈ lw_all := lw_g (lw_at lw_m8 30 rfl) rfl
theorem q1847 : (Jvm.Cond.privateMethod ({ cls := "WatchStackModel", name := "readBoard", desc := "()V" } : Jvm.MethodName)) ∈ lw_tbl := lw_at lw_m8 31 rfl
theorem q1848 : (Jvm.Cond.instanceMethod ({ cls := "WatchStackModel", name := "readBoard", desc := "()V" } : Jvm.MethodName)) ∈ lw_all := lw_g (lw_at lw_m8 32 rfl) rfl
theorem q1849 : (Jvm.Cond.code ({ cls := "WatchStackModel", name := "readBoard", desc := "()V" } : Jvm.MethodName) prog_18_method_27_code (1 : Nat) (Option.none : Option Jvm.ClassFile.FieldType)) ∈ lw_all := lw_g (lw_at lw_m8 33 rfl) rfl
theorem q1850 : (Jvm.Cond.stringRef "WatchStackModel" (231 : Nat) "board") ∈ lw_tbl := lw_at lw_m8 34 rfl
theorem q1851 : (Jvm.Cond.methodLink "WatchStackModel" (224 : Nat) ({ cls := "WatchStackModel", name := "expects", desc := "(Ljava/lang/String;)V" } : Jvm.MethodName)) ∈ lw_all := lw_g (lw_at lw_m8 35 rfl) rfl
theorem q1852 : (Jvm.Cond.privateMethod ({ cls := "WatchStackModel", name := "expects", desc := "(Ljava/lang/String;)V" } : Jvm.MethodName)) ∈ lw_tbl := lw_at lw_m8 36 rfl
theorem q1853 : (Jvm.Cond.instanceMethod ({ cls := "WatchStackModel", name := "expects", desc := "(Ljava/lang/String;)V" } : Jvm.MethodName)) ∈ lw_all := lw_g (lw_at lw_m8 37 rfl) rfl
theorem q1854 : (Jvm.Cond.code ({ cls := "WatchStackModel", name := "expects", desc := "(Ljava/lang/String;)V" } : Jvm.MethodName) prog_18_method_23_code (2 : Nat) (Option.none : Option Jvm.ClassFile.FieldType)) ∈ lw_all := lw_g (lw_at lw_m8 38 rfl) rfl
theorem q1855 : (Jvm.Cond.methodLink "WatchStackModel" (220 : Nat) ({ cls := "WatchStackModel", name := "errs", desc := "(I)V" } : Jvm.MethodName)) ∈ lw_all := lw_g (lw_at lw_m8 39 rfl) rfl
theorem q1856 : (Jvm.Cond.privateMethod ({ cls := "WatchStackModel", name := "errs", desc := "(I)V" } : Jvm.MethodName)) ∈ lw_tbl := lw_at lw_m8 40 rfl
theorem q1857 : (Jvm.Cond.instanceMethod ({ cls := "WatchStackModel", name := "errs", desc := "(I)V" } : Jvm.MethodName)) ∈ lw_all := lw_g (lw_at lw_m8 41 rfl) rfl
theorem q1858 : (Jvm.Cond.code ({ cls := "WatchStackModel", name := "errs", desc := "(I)V" } : Jvm.MethodName) prog_18_method_21_code (2 : Nat) (Option.none : Option Jvm.ClassFile.FieldType)) ∈ lw_all := lw_g (lw_at lw_m8 42 rfl) rfl
theorem q1859 : (Jvm.Cond.stringRef "WatchStackModel" (233 : Nat) "ticks") ∈ lw_tbl := lw_at lw_m8 43 rfl
theorem q1860 : (Jvm.Cond.methodLink "WatchStackModel" (235 : Nat) ({ cls := "WatchStackModel", name := "toldBy", desc := "(Ljava/lang/String;II)I" } : Jvm.MethodName)) ∈ lw_all := lw_g (lw_at lw_m8 44 rfl) rfl
theorem q1861 : (Jvm.Cond.privateMethod ({ cls := "WatchStackModel", name := "toldBy", desc := "(Ljava/lang/String;II)I" } : Jvm.MethodName)) ∈ lw_tbl := lw_at lw_m8 45 rfl
theorem q1862 : (Jvm.Cond.instanceMethod ({ cls := "WatchStackModel", name := "toldBy", desc := "(Ljava/lang/String;II)I" } : Jvm.MethodName)) ∈ lw_all := lw_g (lw_at lw_m8 46 rfl) rfl
theorem q1863 : (Jvm.Cond.code ({ cls := "WatchStackModel", name := "toldBy", desc := "(Ljava/lang/String;II)I" } : Jvm.MethodName) prog_18_method_25_code (4 : Nat) (Option.some Jvm.ClassFile.FieldType.int)) ∈ lw_all := lw_g (lw_at lw_m8 47 rfl) rfl
theorem q1864 : (Jvm.Cond.methodLink "WatchStackModel" (228 : Nat) ({ cls := "WatchStackModel", name := "takes", desc := "(II)I" } : Jvm.MethodName)) ∈ lw_all := lw_g (lw_at lw_m8 48 rfl) rfl
theorem q1865 : (Jvm.Cond.privateMethod ({ cls := "WatchStackModel", name := "takes", desc := "(II)I" } : Jvm.MethodName)) ∈ lw_tbl := lw_at lw_m8 49 rfl
theorem q1866 : (Jvm.Cond.instanceMethod ({ cls := "WatchStackModel", name := "takes", desc := "(II)I" } : Jvm.MethodName)) ∈ lw_all := lw_g (lw_at lw_m8 50 rfl) rfl
theorem q1867 : (Jvm.Cond.code ({ cls := "WatchStackModel", name := "takes", desc := "(II)I" } : Jvm.MethodName) prog_18_method_24_code (4 : Nat) (Option.some Jvm.ClassFile.FieldType.int)) ∈ lw_all := lw_g (lw_at lw_m8 51 rfl) rfl
theorem q1868 : (Jvm.Cond.stringRef "WatchStackModel" (239 : Nat) "cycle") ∈ lw_tbl := lw_at lw_m8 52 rfl
theorem q1869 : (Jvm.Cond.stringRef "WatchStackModel" (241 : Nat) "low") ∈ lw_tbl := lw_at lw_m8 53 rfl
theorem q1870 : (Jvm.Cond.stringRef "WatchStackModel" (298 : Nat) "watcher") ∈ lw_tbl := lw_at lw_m8 54 rfl
theorem q1871 : (Jvm.Cond.methodLink "WatchStackModel" (300 : Nat) ({ cls := "WatchStackModel", name := "readWatcher", desc := "()V" } : Jvm.MethodName)) ∈ lw_all := lw_g (lw_at lw_m8 55 rfl) rfl
theorem q1872 : (Jvm.Cond.privateMethod ({ cls := "WatchStackModel", name := "readWatcher", desc := "()V" } : Jvm.MethodName)) ∈ lw_tbl := lw_at lw_m8 56 rfl
theorem q1873 : (Jvm.Cond.instanceMethod ({ cls := "WatchStackModel", name := "readWatcher", desc := "()V" } : Jvm.MethodName)) ∈ lw_all := lw_g (lw_at lw_m8 57 rfl) rfl
theorem q1874 : (Jvm.Cond.code ({ cls := "WatchStackModel", name := "readWatcher", desc := "()V" } : Jvm.MethodName) prog_18_method_29_code (2 : Nat) (Option.none : Option Jvm.ClassFile.FieldType)) ∈ lw_all := lw_g (lw_at lw_m8 58 rfl) rfl
theorem q1875 : (Jvm.Cond.methodLink "WatchStackModel" (243 : Nat) ({ cls := "WatchStackModel", name := "canTake", desc := "(II)Z" } : Jvm.MethodName)) ∈ lw_all := lw_g (lw_at lw_m8 59 rfl) rfl
theorem q1876 : (Jvm.Cond.privateMethod ({ cls := "WatchStackModel", name := "canTake", desc := "(II)Z" } : Jvm.MethodName)) ∈ lw_tbl := lw_at lw_m8 60 rfl
theorem q1877 : (Jvm.Cond.instanceMethod ({ cls := "WatchStackModel", name := "canTake", desc := "(II)Z" } : Jvm.MethodName)) ∈ lw_all := lw_g (lw_at lw_m8 61 rfl) rfl
theorem q1878 : (Jvm.Cond.code ({ cls := "WatchStackModel", name := "canTake", desc := "(II)Z" } : Jvm.MethodName) prog_18_method_28_code (3 : Nat) (Option.some Jvm.ClassFile.FieldType.boolean)) ∈ lw_all := lw_g (lw_at lw_m8 62 rfl) rfl
theorem q1879 : (Jvm.Cond.stringRef "WatchStackModel" (247 : Nat) "root") ∈ lw_tbl := lw_at lw_m8 63 rfl
theorem q1880 : (Jvm.Cond.stringRef "WatchStackModel" (249 : Nat) "under") ∈ lw_tbl := lw_at lw_m8 64 rfl
theorem q1881 : (Jvm.Cond.stringRef "WatchStackModel" (303 : Nat) "task") ∈ lw_tbl := lw_at lw_m8 65 rfl
theorem q1882 : (Jvm.Cond.methodLink "WatchStackModel" (305 : Nat) ({ cls := "WatchStackModel", name := "readTask", desc := "()V" } : Jvm.MethodName)) ∈ lw_all := lw_g (lw_at lw_m8 66 rfl) rfl
theorem q1883 : (Jvm.Cond.privateMethod ({ cls := "WatchStackModel", name := "readTask", desc := "()V" } : Jvm.MethodName)) ∈ lw_tbl := lw_at lw_m8 67 rfl
theorem q1884 : (Jvm.Cond.instanceMethod ({ cls := "WatchStackModel", name := "readTask", desc := "()V" } : Jvm.MethodName)) ∈ lw_all := lw_g (lw_at lw_m8 68 rfl) rfl
theorem q1885 : (Jvm.Cond.code ({ cls := "WatchStackModel", name := "readTask", desc := "()V" } : Jvm.MethodName) prog_18_method_30_code (2 : Nat) (Option.none : Option Jvm.ClassFile.FieldType)) ∈ lw_all := lw_g (lw_at lw_m8 69 rfl) rfl
theorem q1886 : (Jvm.Cond.stringRef "WatchStackModel" (251 : Nat) "period") ∈ lw_tbl := lw_at lw_m8 70 rfl
theorem q1887 : (Jvm.Cond.stringRef "WatchStackModel" (253 : Nat) "open") ∈ lw_tbl := lw_at lw_m8 71 rfl
theorem q1888 : (Jvm.Cond.stringRef "WatchStackModel" (255 : Nat) "close") ∈ lw_tbl := lw_at lw_m8 72 rfl
theorem q1889 : (Jvm.Cond.stringRef "WatchStackModel" (257 : Nat) "least") ∈ lw_tbl := lw_at lw_m8 73 rfl
theorem q1890 : (Jvm.Cond.stringRef "WatchStackModel" (259 : Nat) "most") ∈ lw_tbl := lw_at lw_m8 74 rfl
theorem q1891 : (Jvm.Cond.stringRef "WatchStackModel" (284 : Nat) "node") ∈ lw_tbl := lw_at lw_m8 75 rfl
theorem q1892 : (Jvm.Cond.methodLink "WatchStackModel" (308 : Nat) ({ cls := "WatchStackModel", name := "readNode", desc := "()V" } : Jvm.MethodName)) ∈ lw_all := lw_g (lw_at lw_m8 76 rfl) rfl
theorem q1893 : (Jvm.Cond.privateMethod ({ cls := "WatchStackModel", name := "readNode", desc := "()V" } : Jvm.MethodName)) ∈ lw_tbl := lw_at lw_m8 77 rfl
theorem q1894 : (Jvm.Cond.instanceMethod ({ cls := "WatchStackModel", name := "readNode", desc := "()V" } : Jvm.MethodName)) ∈ lw_all := lw_g (lw_at lw_m8 78 rfl) rfl
theorem q1895 : (Jvm.Cond.code ({ cls := "WatchStackModel", name := "readNode", desc := "()V" } : Jvm.MethodName) prog_18_method_32_code (6 : Nat) (Option.none : Option Jvm.ClassFile.FieldType)) ∈ lw_all := lw_g (lw_at lw_m8 79 rfl) rfl
theorem q1896 : (Jvm.Cond.stringRef "WatchStackModel" (261 : Nat) "after") ∈ lw_tbl := lw_at lw_m8 80 rfl
theorem q1897 : (Jvm.Cond.methodLink "WatchStackModel" (263 : Nat) ({ cls := "WatchStackModel", name := "takesNew", desc := "(II)I" } : Jvm.MethodName)) ∈ lw_all := lw_g (lw_at lw_m8 81 rfl) rfl
theorem q1898 : (Jvm.Cond.privateMethod ({ cls := "WatchStackModel", name := "takesNew", desc := "(II)I" } : Jvm.MethodName)) ∈ lw_tbl := lw_at lw_m8 82 rfl
theorem q1899 : (Jvm.Cond.instanceMethod ({ cls := "WatchStackModel", name := "takesNew", desc := "(II)I" } : Jvm.MethodName)) ∈ lw_all := lw_g (lw_at lw_m8 83 rfl) rfl
theorem q1900 : (Jvm.Cond.code ({ cls := "WatchStackModel", name := "takesNew", desc := "(II)I" } : Jvm.MethodName) prog_18_method_31_code (3 : Nat) (Option.some Jvm.ClassFile.FieldType.int)) ∈ lw_all := lw_g (lw_at lw_m8 84 rfl) rfl
theorem q1901 : (Jvm.Cond.methodLink "WatchStackModel" (311 : Nat) ({ cls := "WatchStackModel", name := "readInjection", desc := "(I)V" } : Jvm.MethodName)) ∈ lw_all := lw_g (lw_at lw_m8 85 rfl) rfl
theorem q1902 : (Jvm.Cond.privateMethod ({ cls := "WatchStackModel", name := "readInjection", desc := "(I)V" } : Jvm.MethodName)) ∈ lw_tbl := lw_at lw_m8 86 rfl
theorem q1903 : (Jvm.Cond.instanceMethod ({ cls := "WatchStackModel", name := "readInjection", desc := "(I)V" } : Jvm.MethodName)) ∈ lw_all := lw_g (lw_at lw_m8 87 rfl) rfl
theorem q1904 : (Jvm.Cond.code ({ cls := "WatchStackModel", name := "readInjection", desc := "(I)V" } : Jvm.MethodName) prog_18_method_35_code (3 : Nat) (Option.none : Option Jvm.ClassFile.FieldType)) ∈ lw_all := lw_g (lw_at lw_m8 88 rfl) rfl
theorem q1905 : (Jvm.Cond.stringRef "WatchStackModel" (278 : Nat) "tick") ∈ lw_tbl := lw_at lw_m8 89 rfl
theorem q1906 : (Jvm.Cond.methodLink "WatchStackModel" (280 : Nat) ({ cls := "WatchStackModel", name := "taskRead", desc := "()I" } : Jvm.MethodName)) ∈ lw_all := lw_g (lw_at lw_m8 90 rfl) rfl
theorem q1907 : (Jvm.Cond.privateMethod ({ cls := "WatchStackModel", name := "taskRead", desc := "()I" } : Jvm.MethodName)) ∈ lw_tbl := lw_at lw_m8 91 rfl
theorem q1908 : (Jvm.Cond.instanceMethod ({ cls := "WatchStackModel", name := "taskRead", desc := "()I" } : Jvm.MethodName)) ∈ lw_all := lw_g (lw_at lw_m8 92 rfl) rfl
theorem q1909 : (Jvm.Cond.code ({ cls := "WatchStackModel", name := "taskRead", desc := "()I" } : Jvm.MethodName) prog_18_method_34_code (1 : Nat) (Option.some Jvm.ClassFile.FieldType.int)) ∈ lw_all := lw_g (lw_at lw_m8 93 rfl) rfl
theorem q1910 : (Jvm.Cond.stringRef "WatchStackModel" (283 : Nat) "job") ∈ lw_tbl := lw_at lw_m8 94 rfl
theorem q1911 : (Jvm.Cond.stringRef "WatchStackModel" (286 : Nat) "times") ∈ lw_tbl := lw_at lw_m8 95 rfl
theorem q1913 : (Jvm.Cond.instanceMethod ({ cls := "WatchStackModel", name := "task", desc := "(II)I" } : Jvm.MethodName)) ∈ lw_all := lw_g (lw_at lw_m8 97 rfl) rfl
theorem q1914 : (Jvm.Cond.selects "WatchStackModel" ({ cls := "WatchStackModel", name := "task", desc := "(II)I" } : Jvm.MethodName) ({ cls := "WatchStackModel", name := "task", desc := "(II)I" } : Jvm.MethodName)) ∈ lw_all := lw_g (lw_at lw_m8 98 rfl) rfl
theorem q1915 : (Jvm.Cond.code ({ cls := "WatchStackModel", name := "task", desc := "(II)I" } : Jvm.MethodName) prog_18_method_42_code (3 : Nat) (Option.some Jvm.ClassFile.FieldType.int)) ∈ lw_all := lw_g (lw_at lw_m8 99 rfl) rfl
theorem q1916 : (Jvm.Cond.methodLink "WatchStackModel" (333 : Nat) ({ cls := "WatchStackModel", name := "isTask", desc := "(I)Z" } : Jvm.MethodName)) ∈ lw_all := lw_g (lw_at lw_m8 100 rfl) rfl
theorem q1917 : (Jvm.Cond.privateMethod ({ cls := "WatchStackModel", name := "isTask", desc := "(I)Z" } : Jvm.MethodName)) ∈ lw_tbl := lw_at lw_m8 101 rfl
theorem q1918 : (Jvm.Cond.instanceMethod ({ cls := "WatchStackModel", name := "isTask", desc := "(I)Z" } : Jvm.MethodName)) ∈ lw_all := lw_g (lw_at lw_m8 102 rfl) rfl
theorem q1919 : (Jvm.Cond.code ({ cls := "WatchStackModel", name := "isTask", desc := "(I)Z" } : Jvm.MethodName) prog_18_method_7_code (2 : Nat) (Option.some Jvm.ClassFile.FieldType.boolean)) ∈ lw_all := lw_g (lw_at lw_m8 103 rfl) rfl
theorem q1920 : (Jvm.Cond.constantLong "WatchStackModel" (337 : Nat) (6 : Int64)) ∈ lw_all := lw_g (lw_at lw_m8 104 rfl) rfl
theorem q1921 : (Jvm.Cond.methodLink "WatchStackModel" (156 : Nat) ({ cls := "WatchStackModel", name := "toldOf", desc := "(II)I" } : Jvm.MethodName)) ∈ lw_all := lw_g (lw_at lw_m8 105 rfl) rfl
theorem q1922 : (Jvm.Cond.privateMethod ({ cls := "WatchStackModel", name := "toldOf", desc := "(II)I" } : Jvm.MethodName)) ∈ lw_tbl := lw_at lw_m8 106 rfl
theorem q1923 : (Jvm.Cond.instanceMethod ({ cls := "WatchStackModel", name := "toldOf", desc := "(II)I" } : Jvm.MethodName)) ∈ lw_all := lw_g (lw_at lw_m8 107 rfl) rfl
theorem q1924 : (Jvm.Cond.code ({ cls := "WatchStackModel", name := "toldOf", desc := "(II)I" } : Jvm.MethodName) prog_18_method_9_code (3 : Nat) (Option.some Jvm.ClassFile.FieldType.int)) ∈ lw_all := lw_g (lw_at lw_m8 108 rfl) rfl
theorem q1926 : (Jvm.Cond.instanceMethod ({ cls := "WatchStackModel", name := "node", desc := "(III)I" } : Jvm.MethodName)) ∈ lw_all := lw_g (lw_at lw_m8 110 rfl) rfl
theorem q1927 : (Jvm.Cond.selects "WatchStackModel" ({ cls := "WatchStackModel", name := "node", desc := "(III)I" } : Jvm.MethodName) ({ cls := "WatchStackModel", name := "node", desc := "(III)I" } : Jvm.MethodName)) ∈ lw_all := lw_g (lw_at lw_m8 111 rfl) rfl
theorem q1928 : (Jvm.Cond.code ({ cls := "WatchStackModel", name := "node", desc := "(III)I" } : Jvm.MethodName) prog_18_method_44_code (4 : Nat) (Option.some Jvm.ClassFile.FieldType.int)) ∈ lw_all := lw_g (lw_at lw_m8 112 rfl) rfl
theorem q1929 : (Jvm.Cond.methodLink "WatchStackModel" (317 : Nat) ({ cls := "WatchStackModel", name := "nodesOf", desc := "(I)I" } : Jvm.MethodName)) ∈ lw_all := lw_g (lw_at lw_m8 113 rfl) rfl
theorem q1930 : (Jvm.Cond.privateMethod ({ cls := "WatchStackModel", name := "nodesOf", desc := "(I)I" } : Jvm.MethodName)) ∈ lw_tbl := lw_at lw_m8 114 rfl
theorem q1931 : (Jvm.Cond.instanceMethod ({ cls := "WatchStackModel", name := "nodesOf", desc := "(I)I" } : Jvm.MethodName)) ∈ lw_all := lw_g (lw_at lw_m8 115 rfl) rfl
theorem q1932 : (Jvm.Cond.code ({ cls := "WatchStackModel", name := "nodesOf", desc := "(I)I" } : Jvm.MethodName) prog_18_method_11_code (2 : Nat) (Option.some Jvm.ClassFile.FieldType.int)) ∈ lw_all := lw_g (lw_at lw_m8 116 rfl) rfl
theorem q1933 : (Jvm.Cond.methodLink "WatchStackModel" (330 : Nat) ({ cls := "WatchStackModel", name := "unitsOf", desc := "(II)I" } : Jvm.MethodName)) ∈ lw_all := lw_g (lw_at lw_m8 117 rfl) rfl
theorem q1934 : (Jvm.Cond.privateMethod ({ cls := "WatchStackModel", name := "unitsOf", desc := "(II)I" } : Jvm.MethodName)) ∈ lw_tbl := lw_at lw_m8 118 rfl
theorem q1935 : (Jvm.Cond.instanceMethod ({ cls := "WatchStackModel", name := "unitsOf", desc := "(II)I" } : Jvm.MethodName)) ∈ lw_all := lw_g (lw_at lw_m8 119 rfl) rfl
theorem q1936 : (Jvm.Cond.code ({ cls := "WatchStackModel", name := "unitsOf", desc := "(II)I" } : Jvm.MethodName) prog_18_method_12_code (3 : Nat) (Option.some Jvm.ClassFile.FieldType.int)) ∈ lw_all := lw_g (lw_at lw_m8 120 rfl) rfl
theorem q1937 : (Jvm.Cond.methodLink "WatchStackModel" (339 : Nat) ({ cls := "WatchStackModel", name := "followersOf", desc := "(II)I" } : Jvm.MethodName)) ∈ lw_all := lw_g (lw_at lw_m8 121 rfl) rfl
theorem q1938 : (Jvm.Cond.privateMethod ({ cls := "WatchStackModel", name := "followersOf", desc := "(II)I" } : Jvm.MethodName)) ∈ lw_tbl := lw_at lw_m8 122 rfl
theorem q1939 : (Jvm.Cond.instanceMethod ({ cls := "WatchStackModel", name := "followersOf", desc := "(II)I" } : Jvm.MethodName)) ∈ lw_all := lw_g (lw_at lw_m8 123 rfl) rfl
theorem q1940 : (Jvm.Cond.code ({ cls := "WatchStackModel", name := "followersOf", desc := "(II)I" } : Jvm.MethodName) prog_18_method_43_code (5 : Nat) (Option.some Jvm.ClassFile.FieldType.int)) ∈ lw_all := lw_g (lw_at lw_m8 124 rfl) rfl
theorem q1941 : (Jvm.Cond.methodLink "WatchStackModel" (320 : Nat) ({ cls := "WatchStackModel", name := "isBehind", desc := "(III)Z" } : Jvm.MethodName)) ∈ lw_all := lw_g (lw_at lw_m8 125 rfl) rfl
theorem q1942 : (Jvm.Cond.privateMethod ({ cls := "WatchStackModel", name := "isBehind", desc := "(III)Z" } : Jvm.MethodName)) ∈ lw_tbl := lw_at lw_m8 126 rfl
theorem q1943 : (Jvm.Cond.instanceMethod ({ cls := "WatchStackModel", name := "isBehind", desc := "(III)Z" } : Jvm.MethodName)) ∈ lw_all := lw_g (lw_at lw_m8 127 rfl) rfl
theorem q1944 : (Jvm.Cond.code ({ cls := "WatchStackModel", name := "isBehind", desc := "(III)Z" } : Jvm.MethodName) prog_18_method_13_code (4 : Nat) (Option.some Jvm.ClassFile.FieldType.boolean)) ∈ lw_all := lw_g (lw_at lw_m8 128 rfl) rfl
theorem q1946 : (Jvm.Cond.instanceMethod ({ cls := "WatchStackModel", name := "watcher", desc := "(I)I" } : Jvm.MethodName)) ∈ lw_all := lw_g (lw_at lw_m8 130 rfl) rfl
theorem q1947 : (Jvm.Cond.selects "WatchStackModel" ({ cls := "WatchStackModel", name := "watcher", desc := "(I)I" } : Jvm.MethodName) ({ cls := "WatchStackModel", name := "watcher", desc := "(I)I" } : Jvm.MethodName)) ∈ lw_all := lw_g (lw_at lw_m8 131 rfl) rfl
theorem q1948 : (Jvm.Cond.code ({ cls := "WatchStackModel", name := "watcher", desc := "(I)I" } : Jvm.MethodName) prog_18_method_45_code (2 : Nat) (Option.some Jvm.ClassFile.FieldType.int)) ∈ lw_all := lw_g (lw_at lw_m8 132 rfl) rfl
theorem q1949 : (Jvm.Cond.methodLink "WatchStackModel" (342 : Nat) ({ cls := "WatchStackModel", name := "isWatcher", desc := "(I)Z" } : Jvm.MethodName)) ∈ lw_all := lw_g (lw_at lw_m8 133 rfl) rfl
theorem q1950 : (Jvm.Cond.privateMethod ({ cls := "WatchStackModel", name := "isWatcher", desc := "(I)Z" } : Jvm.MethodName)) ∈ lw_tbl := lw_at lw_m8 134 rfl
theorem q1951 : (Jvm.Cond.instanceMethod ({ cls := "WatchStackModel", name := "isWatcher", desc := "(I)Z" } : Jvm.MethodName)) ∈ lw_all := lw_g (lw_at lw_m8 135 rfl) rfl
theorem q1952 : (Jvm.Cond.code ({ cls := "WatchStackModel", name := "isWatcher", desc := "(I)Z" } : Jvm.MethodName) prog_18_method_8_code (2 : Nat) (Option.some Jvm.ClassFile.FieldType.boolean)) ∈ lw_all := lw_g (lw_at lw_m8 136 rfl) rfl
theorem q1954 : (Jvm.Cond.instanceMethod ({ cls := "WatchStackModel", name := "injection", desc := "(II)I" } : Jvm.MethodName)) ∈ lw_all := lw_g (lw_at lw_m8 138 rfl) rfl
theorem q1955 : (Jvm.Cond.selects "WatchStackModel" ({ cls := "WatchStackModel", name := "injection", desc := "(II)I" } : Jvm.MethodName) ({ cls := "WatchStackModel", name := "injection", desc := "(II)I" } : Jvm.MethodName)) ∈ lw_all := lw_g (lw_at lw_m8 139 rfl) rfl
theorem q1956 : (Jvm.Cond.code ({ cls := "WatchStackModel", name := "injection", desc := "(II)I" } : Jvm.MethodName) prog_18_method_46_code (3 : Nat) (Option.some Jvm.ClassFile.FieldType.int)) ∈ lw_all := lw_g (lw_at lw_m8 140 rfl) rfl
theorem q1957 : (Jvm.Cond.methodLink "WatchStackModel" (345 : Nat) ({ cls := "WatchStackModel", name := "many", desc := "()I" } : Jvm.MethodName)) ∈ lw_all := lw_g (lw_at lw_m8 141 rfl) rfl
theorem q1958 : (Jvm.Cond.privateMethod ({ cls := "WatchStackModel", name := "many", desc := "()I" } : Jvm.MethodName)) ∈ lw_tbl := lw_at lw_m8 142 rfl
theorem q1959 : (Jvm.Cond.instanceMethod ({ cls := "WatchStackModel", name := "many", desc := "()I" } : Jvm.MethodName)) ∈ lw_all := lw_g (lw_at lw_m8 143 rfl) rfl
theorem q1960 : (Jvm.Cond.code ({ cls := "WatchStackModel", name := "many", desc := "()I" } : Jvm.MethodName) prog_18_method_14_code (1 : Nat) (Option.some Jvm.ClassFile.FieldType.int)) ∈ lw_all := lw_g (lw_at lw_m8 144 rfl) rfl
theorem q1961 : (Jvm.Cond.constantLong "WatchStackModel" (348 : Nat) (4 : Int64)) ∈ lw_all := lw_g (lw_at lw_m8 145 rfl) rfl
theorem q1962 : (Jvm.Cond.methodLink "WatchStackModel" (350 : Nat) ({ cls := "WatchStackModel", name := "of", desc := "(II)I" } : Jvm.MethodName)) ∈ lw_all := lw_g (lw_at lw_m8 146 rfl) rfl
theorem q1963 : (Jvm.Cond.privateMethod ({ cls := "WatchStackModel", name := "of", desc := "(II)I" } : Jvm.MethodName)) ∈ lw_tbl := lw_at lw_m8 147 rfl
theorem q1964 : (Jvm.Cond.instanceMethod ({ cls := "WatchStackModel", name := "of", desc := "(II)I" } : Jvm.MethodName)) ∈ lw_all := lw_g (lw_at lw_m8 148 rfl) rfl
theorem q1965 : (Jvm.Cond.code ({ cls := "WatchStackModel", name := "of", desc := "(II)I" } : Jvm.MethodName) prog_18_method_15_code (3 : Nat) (Option.some Jvm.ClassFile.FieldType.int)) ∈ lw_all := lw_g (lw_at lw_m8 149 rfl) rfl
theorem q1967 : (Jvm.Cond.instanceMethod ({ cls := "WatchStackModel", name := "cost", desc := "(II)I" } : Jvm.MethodName)) ∈ lw_all := lw_g (lw_at lw_m8 151 rfl) rfl
theorem q1968 : (Jvm.Cond.selects "WatchStackModel" ({ cls := "WatchStackModel", name := "cost", desc := "(II)I" } : Jvm.MethodName) ({ cls := "WatchStackModel", name := "cost", desc := "(II)I" } : Jvm.MethodName)) ∈ lw_all := lw_g (lw_at lw_m8 152 rfl) rfl
theorem q1969 : (Jvm.Cond.code ({ cls := "WatchStackModel", name := "cost", desc := "(II)I" } : Jvm.MethodName) prog_18_method_47_code (3 : Nat) (Option.some Jvm.ClassFile.FieldType.int)) ∈ lw_all := lw_g (lw_at lw_m8 153 rfl) rfl
theorem q1970 : (Jvm.Cond.methodLink "WatchStackModel" (353 : Nat) ({ cls := "WatchStackModel", name := "goes", desc := "(II)I" } : Jvm.MethodName)) ∈ lw_all := lw_g (lw_at lw_m8 154 rfl) rfl
theorem q1971 : (Jvm.Cond.privateMethod ({ cls := "WatchStackModel", name := "goes", desc := "(II)I" } : Jvm.MethodName)) ∈ lw_tbl := lw_at lw_m8 155 rfl
theorem q1972 : (Jvm.Cond.instanceMethod ({ cls := "WatchStackModel", name := "goes", desc := "(II)I" } : Jvm.MethodName)) ∈ lw_all := lw_g (lw_at lw_m8 156 rfl) rfl
theorem q1973 : (Jvm.Cond.code ({ cls := "WatchStackModel", name := "goes", desc := "(II)I" } : Jvm.MethodName) prog_18_method_41_code (7 : Nat) (Option.some Jvm.ClassFile.FieldType.int)) ∈ lw_all := lw_g (lw_at lw_m8 157 rfl) rfl
theorem q1974 : (Jvm.Cond.methodLink "WatchStackModel" (324 : Nat) ({ cls := "WatchStackModel", name := "followers", desc := "(II)I" } : Jvm.MethodName)) ∈ lw_all := lw_g (lw_at lw_m8 158 rfl) rfl
theorem q1975 : (Jvm.Cond.privateMethod ({ cls := "WatchStackModel", name := "followers", desc := "(II)I" } : Jvm.MethodName)) ∈ lw_tbl := lw_at lw_m8 159 rfl
theorem q1976 : (Jvm.Cond.instanceMethod ({ cls := "WatchStackModel", name := "followers", desc := "(II)I" } : Jvm.MethodName)) ∈ lw_all := lw_g (lw_at lw_m8 160 rfl) rfl
theorem q1977 : (Jvm.Cond.code ({ cls := "WatchStackModel", name := "followers", desc := "(II)I" } : Jvm.MethodName) prog_18_method_39_code (5 : Nat) (Option.some Jvm.ClassFile.FieldType.int)) ∈ lw_all := lw_g (lw_at lw_m8 161 rfl) rfl
theorem q1978 : (Jvm.Cond.methodLink "WatchStackModel" (327 : Nat) ({ cls := "java/lang/Math", name := "max", desc := "(II)I" } : Jvm.MethodName)) ∈ lw_all := lw_g (lw_at lw_m8 162 rfl) rfl
theorem q1980 : (Jvm.Cond.instanceMethod ({ cls := "WatchStackModel", name := "ways", desc := "(I)I" } : Jvm.MethodName)) ∈ lw_all := lw_g (lw_at lw_m8 164 rfl) rfl
theorem q1981 : (Jvm.Cond.selects "WatchStackModel" ({ cls := "WatchStackModel", name := "ways", desc := "(I)I" } : Jvm.MethodName) ({ cls := "WatchStackModel", name := "ways", desc := "(I)I" } : Jvm.MethodName)) ∈ lw_all := lw_g (lw_at lw_m8 165 rfl) rfl
theorem q1982 : (Jvm.Cond.code ({ cls := "WatchStackModel", name := "ways", desc := "(I)I" } : Jvm.MethodName) prog_18_method_48_code (2 : Nat) (Option.some Jvm.ClassFile.FieldType.int)) ∈ lw_all := lw_g (lw_at lw_m8 166 rfl) rfl
theorem q1984 : (Jvm.Cond.instanceMethod ({ cls := "WatchStackModel", name := "response", desc := "(I)I" } : Jvm.MethodName)) ∈ lw_all := lw_g (lw_at lw_m8 168 rfl) rfl
theorem q1985 : (Jvm.Cond.selects "WatchStackModel" ({ cls := "WatchStackModel", name := "response", desc := "(I)I" } : Jvm.MethodName) ({ cls := "WatchStackModel", name := "response", desc := "(I)I" } : Jvm.MethodName)) ∈ lw_all := lw_g (lw_at lw_m8 169 rfl) rfl
theorem q1986 : (Jvm.Cond.code ({ cls := "WatchStackModel", name := "response", desc := "(I)I" } : Jvm.MethodName) prog_18_method_54_code (2 : Nat) (Option.some Jvm.ClassFile.FieldType.int)) ∈ lw_all := lw_g (lw_at lw_m8 170 rfl) rfl
theorem q1987 : (Jvm.Cond.methodLink "WatchStackModel" (367 : Nat) ({ cls := "WatchStackModel", name := "laysCosts", desc := "()V" } : Jvm.MethodName)) ∈ lw_all := lw_g (lw_at lw_m8 171 rfl) rfl
theorem q1988 : (Jvm.Cond.privateMethod ({ cls := "WatchStackModel", name := "laysCosts", desc := "()V" } : Jvm.MethodName)) ∈ lw_tbl := lw_at lw_m8 172 rfl
theorem q1989 : (Jvm.Cond.instanceMethod ({ cls := "WatchStackModel", name := "laysCosts", desc := "()V" } : Jvm.MethodName)) ∈ lw_all := lw_g (lw_at lw_m8 173 rfl) rfl
theorem q1990 : (Jvm.Cond.code ({ cls := "WatchStackModel", name := "laysCosts", desc := "()V" } : Jvm.MethodName) prog_18_method_49_code (2 : Nat) (Option.none : Option Jvm.ClassFile.FieldType)) ∈ lw_all := lw_g (lw_at lw_m8 174 rfl) rfl
theorem q1991 : (Jvm.Cond.methodLink "WatchStackModel" (358 : Nat) ({ cls := "WatchStackModel", name := "responseOf", desc := "(I)I" } : Jvm.MethodName)) ∈ lw_all := lw_g (lw_at lw_m8 175 rfl) rfl
theorem q1992 : (Jvm.Cond.privateMethod ({ cls := "WatchStackModel", name := "responseOf", desc := "(I)I" } : Jvm.MethodName)) ∈ lw_tbl := lw_at lw_m8 176 rfl
theorem q1993 : (Jvm.Cond.instanceMethod ({ cls := "WatchStackModel", name := "responseOf", desc := "(I)I" } : Jvm.MethodName)) ∈ lw_all := lw_g (lw_at lw_m8 177 rfl) rfl
theorem q1994 : (Jvm.Cond.code ({ cls := "WatchStackModel", name := "responseOf", desc := "(I)I" } : Jvm.MethodName) prog_18_method_50_code (5 : Nat) (Option.some Jvm.ClassFile.FieldType.int)) ∈ lw_all := lw_g (lw_at lw_m8 178 rfl) rfl
theorem q1995 : (Jvm.Cond.methodLink "WatchStackModel" (356 : Nat) ({ cls := "WatchStackModel", name := "period", desc := "(I)I" } : Jvm.MethodName)) ∈ lw_all := lw_g (lw_at lw_m8 179 rfl) rfl
theorem q1996 : (Jvm.Cond.privateMethod ({ cls := "WatchStackModel", name := "period", desc := "(I)I" } : Jvm.MethodName)) ∈ lw_tbl := lw_at lw_m8 180 rfl
theorem q1997 : (Jvm.Cond.instanceMethod ({ cls := "WatchStackModel", name := "period", desc := "(I)I" } : Jvm.MethodName)) ∈ lw_all := lw_g (lw_at lw_m8 181 rfl) rfl
theorem q1998 : (Jvm.Cond.code ({ cls := "WatchStackModel", name := "period", desc := "(I)I" } : Jvm.MethodName) prog_18_method_10_code (2 : Nat) (Option.some Jvm.ClassFile.FieldType.int)) ∈ lw_all := lw_g (lw_at lw_m8 182 rfl) rfl
theorem q2000 : (Jvm.Cond.instanceMethod ({ cls := "WatchStackModel", name := "least", desc := "(II)I" } : Jvm.MethodName)) ∈ lw_all := lw_g (lw_at lw_m8 184 rfl) rfl
theorem q2001 : (Jvm.Cond.selects "WatchStackModel" ({ cls := "WatchStackModel", name := "least", desc := "(II)I" } : Jvm.MethodName) ({ cls := "WatchStackModel", name := "least", desc := "(II)I" } : Jvm.MethodName)) ∈ lw_all := lw_g (lw_at lw_m8 185 rfl) rfl
theorem q2002 : (Jvm.Cond.code ({ cls := "WatchStackModel", name := "least", desc := "(II)I" } : Jvm.MethodName) prog_18_method_55_code (3 : Nat) (Option.some Jvm.ClassFile.FieldType.int)) ∈ lw_all := lw_g (lw_at lw_m8 186 rfl) rfl
theorem q2003 : (Jvm.Cond.constantLong "WatchStackModel" (370 : Nat) (3 : Int64)) ∈ lw_all := lw_g (lw_at lw_m8 187 rfl) rfl
theorem q2004 : (Jvm.Cond.methodLink "WatchStackModel" (361 : Nat) ({ cls := "WatchStackModel", name := "boundOf", desc := "(II)I" } : Jvm.MethodName)) ∈ lw_all := lw_g (lw_at lw_m8 188 rfl) rfl
theorem q2005 : (Jvm.Cond.privateMethod ({ cls := "WatchStackModel", name := "boundOf", desc := "(II)I" } : Jvm.MethodName)) ∈ lw_tbl := lw_at lw_m8 189 rfl
theorem q2006 : (Jvm.Cond.instanceMethod ({ cls := "WatchStackModel", name := "boundOf", desc := "(II)I" } : Jvm.MethodName)) ∈ lw_all := lw_g (lw_at lw_m8 190 rfl) rfl
theorem q2007 : (Jvm.Cond.code ({ cls := "WatchStackModel", name := "boundOf", desc := "(II)I" } : Jvm.MethodName) prog_18_method_51_code (4 : Nat) (Option.some Jvm.ClassFile.FieldType.int)) ∈ lw_all := lw_g (lw_at lw_m8 191 rfl) rfl
theorem q2009 : (Jvm.Cond.instanceMethod ({ cls := "WatchStackModel", name := "lawful", desc := "()I" } : Jvm.MethodName)) ∈ lw_all := lw_g (lw_at lw_m8 193 rfl) rfl
theorem q2010 : (Jvm.Cond.selects "WatchStackModel" ({ cls := "WatchStackModel", name := "lawful", desc := "()I" } : Jvm.MethodName) ({ cls := "WatchStackModel", name := "lawful", desc := "()I" } : Jvm.MethodName)) ∈ lw_all := lw_g (lw_at lw_m8 194 rfl) rfl
theorem q2011 : (Jvm.Cond.code ({ cls := "WatchStackModel", name := "lawful", desc := "()I" } : Jvm.MethodName) prog_18_method_56_code (1 : Nat) (Option.some Jvm.ClassFile.FieldType.int)) ∈ lw_all := lw_g (lw_at lw_m8 195 rfl) rfl
theorem q2012 : (Jvm.Cond.methodLink "WatchStackModel" (372 : Nat) ({ cls := "WatchStackModel", name := "isBoard", desc := "()Z" } : Jvm.MethodName)) ∈ lw_all := lw_g (lw_at lw_m8 196 rfl) rfl
theorem q2013 : (Jvm.Cond.privateMethod ({ cls := "WatchStackModel", name := "isBoard", desc := "()Z" } : Jvm.MethodName)) ∈ lw_tbl := lw_at lw_m8 197 rfl
theorem q2014 : (Jvm.Cond.instanceMethod ({ cls := "WatchStackModel", name := "isBoard", desc := "()Z" } : Jvm.MethodName)) ∈ lw_all := lw_g (lw_at lw_m8 198 rfl) rfl
theorem q2015 : (Jvm.Cond.code ({ cls := "WatchStackModel", name := "isBoard", desc := "()Z" } : Jvm.MethodName) prog_18_method_6_code (1 : Nat) (Option.some Jvm.ClassFile.FieldType.boolean)) ∈ lw_all := lw_g (lw_at lw_m8 199 rfl) rfl
theorem q2016 : (Jvm.Cond.methodLink "WatchStackModel" (375 : Nat) ({ cls := "WatchStackModel", name := "lawfulNow", desc := "()I" } : Jvm.MethodName)) ∈ lw_all := lw_g (lw_at lw_m8 200 rfl) rfl
theorem q2017 : (Jvm.Cond.privateMethod ({ cls := "WatchStackModel", name := "lawfulNow", desc := "()I" } : Jvm.MethodName)) ∈ lw_tbl := lw_at lw_m8 201 rfl
theorem q2018 : (Jvm.Cond.instanceMethod ({ cls := "WatchStackModel", name := "lawfulNow", desc := "()I" } : Jvm.MethodName)) ∈ lw_all := lw_g (lw_at lw_m8 202 rfl) rfl
theorem q2019 : (Jvm.Cond.code ({ cls := "WatchStackModel", name := "lawfulNow", desc := "()I" } : Jvm.MethodName) prog_18_method_53_code (3 : Nat) (Option.some Jvm.ClassFile.FieldType.int)) ∈ lw_all := lw_g (lw_at lw_m8 203 rfl) rfl
theorem q2020 : (Jvm.Cond.methodLink "WatchStackModel" (364 : Nat) ({ cls := "WatchStackModel", name := "isLawful", desc := "(I)Z" } : Jvm.MethodName)) ∈ lw_all := lw_g (lw_at lw_m8 204 rfl) rfl
theorem q2021 : (Jvm.Cond.privateMethod ({ cls := "WatchStackModel", name := "isLawful", desc := "(I)Z" } : Jvm.MethodName)) ∈ lw_tbl := lw_at lw_m8 205 rfl
theorem q2022 : (Jvm.Cond.instanceMethod ({ cls := "WatchStackModel", name := "isLawful", desc := "(I)Z" } : Jvm.MethodName)) ∈ lw_all := lw_g (lw_at lw_m8 206 rfl) rfl
theorem q2023 : (Jvm.Cond.code ({ cls := "WatchStackModel", name := "isLawful", desc := "(I)Z" } : Jvm.MethodName) prog_18_method_52_code (2 : Nat) (Option.some Jvm.ClassFile.FieldType.boolean)) ∈ lw_all := lw_g (lw_at lw_m8 207 rfl) rfl
theorem q2025 : (Jvm.Cond.instanceMethod ({ cls := "WatchStackModel", name := "room", desc := "(I)I" } : Jvm.MethodName)) ∈ lw_all := lw_g (lw_at lw_m8 209 rfl) rfl
theorem q2026 : (Jvm.Cond.selects "WatchStackModel" ({ cls := "WatchStackModel", name := "room", desc := "(I)I" } : Jvm.MethodName) ({ cls := "WatchStackModel", name := "room", desc := "(I)I" } : Jvm.MethodName)) ∈ lw_all := lw_g (lw_at lw_m8 210 rfl) rfl
theorem q2027 : (Jvm.Cond.code ({ cls := "WatchStackModel", name := "room", desc := "(I)I" } : Jvm.MethodName) prog_18_method_57_code (5 : Nat) (Option.some Jvm.ClassFile.FieldType.int)) ∈ lw_all := lw_g (lw_at lw_m8 211 rfl) rfl
theorem q2029 : (Jvm.Cond.instanceMethod ({ cls := "WatchStackModel", name := "orders", desc := "()I" } : Jvm.MethodName)) ∈ lw_all := lw_g (lw_at lw_m8 213 rfl) rfl
theorem q2030 : (Jvm.Cond.selects "WatchStackModel" ({ cls := "WatchStackModel", name := "orders", desc := "()I" } : Jvm.MethodName) ({ cls := "WatchStackModel", name := "orders", desc := "()I" } : Jvm.MethodName)) ∈ lw_all := lw_g (lw_at lw_m8 214 rfl) rfl
theorem q2031 : (Jvm.Cond.code ({ cls := "WatchStackModel", name := "orders", desc := "()I" } : Jvm.MethodName) prog_18_method_60_code (1 : Nat) (Option.some Jvm.ClassFile.FieldType.int)) ∈ lw_all := lw_g (lw_at lw_m8 215 rfl) rfl
theorem q2032 : (Jvm.Cond.methodLink "WatchStackModel" (385 : Nat) ({ cls := "WatchStackModel", name := "laysOrders", desc := "()V" } : Jvm.MethodName)) ∈ lw_all := lw_g (lw_at lw_m8 216 rfl) rfl
theorem q2033 : (Jvm.Cond.privateMethod ({ cls := "WatchStackModel", name := "laysOrders", desc := "()V" } : Jvm.MethodName)) ∈ lw_tbl := lw_at lw_m8 217 rfl
theorem q2034 : (Jvm.Cond.instanceMethod ({ cls := "WatchStackModel", name := "laysOrders", desc := "()V" } : Jvm.MethodName)) ∈ lw_all := lw_g (lw_at lw_m8 218 rfl) rfl
theorem q2035 : (Jvm.Cond.code ({ cls := "WatchStackModel", name := "laysOrders", desc := "()V" } : Jvm.MethodName) prog_18_method_59_code (1 : Nat) (Option.none : Option Jvm.ClassFile.FieldType)) ∈ lw_all := lw_g (lw_at lw_m8 219 rfl) rfl
theorem q2036 : (Jvm.Cond.methodLink "WatchStackModel" (381 : Nat) ({ cls := "WatchStackModel", name := "goesOrders", desc := "(II)V" } : Jvm.MethodName)) ∈ lw_all := lw_g (lw_at lw_m8 220 rfl) rfl
theorem q2037 : (Jvm.Cond.privateMethod ({ cls := "WatchStackModel", name := "goesOrders", desc := "(II)V" } : Jvm.MethodName)) ∈ lw_tbl := lw_at lw_m8 221 rfl
theorem q2038 : (Jvm.Cond.instanceMethod ({ cls := "WatchStackModel", name := "goesOrders", desc := "(II)V" } : Jvm.MethodName)) ∈ lw_all := lw_g (lw_at lw_m8 222 rfl) rfl
theorem q2039 : (Jvm.Cond.code ({ cls := "WatchStackModel", name := "goesOrders", desc := "(II)V" } : Jvm.MethodName) prog_18_method_58_code (4 : Nat) (Option.none : Option Jvm.ClassFile.FieldType)) ∈ lw_all := lw_g (lw_at lw_m8 223 rfl) rfl
theorem q2041 : (Jvm.Cond.instanceMethod ({ cls := "WatchStackModel", name := "order", desc := "(I)I" } : Jvm.MethodName)) ∈ lw_all := lw_g (lw_at lw_m8 225 rfl) rfl
theorem q2042 : (Jvm.Cond.selects "WatchStackModel" ({ cls := "WatchStackModel", name := "order", desc := "(I)I" } : Jvm.MethodName) ({ cls := "WatchStackModel", name := "order", desc := "(I)I" } : Jvm.MethodName)) ∈ lw_all := lw_g (lw_at lw_m8 226 rfl) rfl
theorem q2043 : (Jvm.Cond.code ({ cls := "WatchStackModel", name := "order", desc := "(I)I" } : Jvm.MethodName) prog_18_method_61_code (2 : Nat) (Option.some Jvm.ClassFile.FieldType.int)) ∈ lw_all := lw_g (lw_at lw_m8 227 rfl) rfl
theorem q2045 : (Jvm.Cond.instanceMethod ({ cls := "WatchStackModel", name := "load", desc := "()I" } : Jvm.MethodName)) ∈ lw_all := lw_g (lw_at lw_m8 229 rfl) rfl
theorem q2046 : (Jvm.Cond.selects "WatchStackModel" ({ cls := "WatchStackModel", name := "load", desc := "()I" } : Jvm.MethodName) ({ cls := "WatchStackModel", name := "load", desc := "()I" } : Jvm.MethodName)) ∈ lw_all := lw_g (lw_at lw_m8 230 rfl) rfl
theorem q2047 : (Jvm.Cond.code ({ cls := "WatchStackModel", name := "load", desc := "()I" } : Jvm.MethodName) prog_18_method_62_code (3 : Nat) (Option.some Jvm.ClassFile.FieldType.int)) ∈ lw_all := lw_g (lw_at lw_m8 231 rfl) rfl
theorem q2048 : (Jvm.Cond.methodLink "WatchStackModel" (388 : Nat) ({ cls := "java/lang/Float", name := "floatToIntBits", desc := "(F)I" } : Jvm.MethodName)) ∈ lw_all := lw_g (lw_at lw_m8 232 rfl) rfl
theorem q2050 : (Jvm.Cond.instanceMethod ({ cls := "WatchStackModel", name := "path", desc := "(III)I" } : Jvm.MethodName)) ∈ lw_all := lw_g (lw_at lw_m8 234 rfl) rfl
theorem q2051 : (Jvm.Cond.selects "WatchStackModel" ({ cls := "WatchStackModel", name := "path", desc := "(III)I" } : Jvm.MethodName) ({ cls := "WatchStackModel", name := "path", desc := "(III)I" } : Jvm.MethodName)) ∈ lw_all := lw_g (lw_at lw_m8 235 rfl) rfl
theorem q2052 : (Jvm.Cond.code ({ cls := "WatchStackModel", name := "path", desc := "(III)I" } : Jvm.MethodName) prog_18_method_64_code (6 : Nat) (Option.some Jvm.ClassFile.FieldType.int)) ∈ lw_all := lw_g (lw_at lw_m8 236 rfl) rfl
theorem q2053 : (Jvm.Cond.constantLong "WatchStackModel" (394 : Nat) (50 : Int64)) ∈ lw_all := lw_g (lw_at lw_m8 237 rfl) rfl
theorem q2054 : (Jvm.Cond.methodLink "WatchStackModel" (396 : Nat) ({ cls := "WatchStackModel", name := "follower", desc := "(III)I" } : Jvm.MethodName)) ∈ lw_all := lw_g (lw_at lw_m8 238 rfl) rfl
theorem q2055 : (Jvm.Cond.privateMethod ({ cls := "WatchStackModel", name := "follower", desc := "(III)I" } : Jvm.MethodName)) ∈ lw_tbl := lw_at lw_m8 239 rfl
theorem q2056 : (Jvm.Cond.instanceMethod ({ cls := "WatchStackModel", name := "follower", desc := "(III)I" } : Jvm.MethodName)) ∈ lw_all := lw_g (lw_at lw_m9 0 rfl) rfl
theorem q2057 : (Jvm.Cond.code ({ cls := "WatchStackModel", name := "follower", desc := "(III)I" } : Jvm.MethodName) prog_18_method_40_code (6 : Nat) (Option.some Jvm.ClassFile.FieldType.int)) ∈ lw_all := lw_g (lw_at lw_m9 1 rfl) rfl
theorem q2059 : (Jvm.Cond.instanceMethod ({ cls := "WatchStackModel", name := "answer", desc := "(III)I" } : Jvm.MethodName)) ∈ lw_all := lw_g (lw_at lw_m9 3 rfl) rfl
theorem q2060 : (Jvm.Cond.selects "WatchStackModel" ({ cls := "WatchStackModel", name := "answer", desc := "(III)I" } : Jvm.MethodName) ({ cls := "WatchStackModel", name := "answer", desc := "(III)I" } : Jvm.MethodName)) ∈ lw_all := lw_g (lw_at lw_m9 4 rfl) rfl
theorem q2061 : (Jvm.Cond.code ({ cls := "WatchStackModel", name := "answer", desc := "(III)I" } : Jvm.MethodName) prog_18_method_65_code (6 : Nat) (Option.some Jvm.ClassFile.FieldType.int)) ∈ lw_all := lw_g (lw_at lw_m9 5 rfl) rfl
theorem q2062 : (Jvm.Cond.constantLong "WatchStackModel" (400 : Nat) (63 : Int64)) ∈ lw_all := lw_g (lw_at lw_m9 6 rfl) rfl
theorem q2063 : (Jvm.Cond.methodLink "WatchStackModel" (402 : Nat) ({ cls := "WatchStackModel", name := "answered", desc := "(II)I" } : Jvm.MethodName)) ∈ lw_all := lw_g (lw_at lw_m9 7 rfl) rfl
theorem q2064 : (Jvm.Cond.static ({ cls := "WatchStackModel", name := "answered", desc := "(II)I" } : Jvm.MethodName)) ∈ lw_all := lw_g (lw_at lw_m9 8 rfl) rfl
theorem q2065 : (Jvm.Cond.code ({ cls := "WatchStackModel", name := "answered", desc := "(II)I" } : Jvm.MethodName) prog_18_method_63_code (2 : Nat) (Option.some Jvm.ClassFile.FieldType.int)) ∈ lw_all := lw_g (lw_at lw_m9 9 rfl) rfl
theorem q2067 : (Jvm.Cond.instanceMethod ({ cls := "WatchStackModel", name := "alike", desc := "(II)I" } : Jvm.MethodName)) ∈ lw_all := lw_g (lw_at lw_m9 11 rfl) rfl
theorem q2068 : (Jvm.Cond.selects "WatchStackModel" ({ cls := "WatchStackModel", name := "alike", desc := "(II)I" } : Jvm.MethodName) ({ cls := "WatchStackModel", name := "alike", desc := "(II)I" } : Jvm.MethodName)) ∈ lw_all := lw_g (lw_at lw_m9 12 rfl) rfl
theorem q2069 : (Jvm.Cond.code ({ cls := "WatchStackModel", name := "alike", desc := "(II)I" } : Jvm.MethodName) prog_18_method_67_code (5 : Nat) (Option.some Jvm.ClassFile.FieldType.int)) ∈ lw_all := lw_g (lw_at lw_m9 13 rfl) rfl
theorem q2070 : (Jvm.Cond.methodLink "WatchStackModel" (405 : Nat) ({ cls := "WatchStackModel", name := "goesWays", desc := "(III)V" } : Jvm.MethodName)) ∈ lw_all := lw_g (lw_at lw_m9 14 rfl) rfl
theorem q2071 : (Jvm.Cond.privateMethod ({ cls := "WatchStackModel", name := "goesWays", desc := "(III)V" } : Jvm.MethodName)) ∈ lw_tbl := lw_at lw_m9 15 rfl
theorem q2072 : (Jvm.Cond.instanceMethod ({ cls := "WatchStackModel", name := "goesWays", desc := "(III)V" } : Jvm.MethodName)) ∈ lw_all := lw_g (lw_at lw_m9 16 rfl) rfl
theorem q2073 : (Jvm.Cond.code ({ cls := "WatchStackModel", name := "goesWays", desc := "(III)V" } : Jvm.MethodName) prog_18_method_66_code (6 : Nat) (Option.none : Option Jvm.ClassFile.FieldType)) ∈ lw_all := lw_g (lw_at lw_m9 17 rfl) rfl
theorem q2075 : (Jvm.Cond.instanceMethod ({ cls := "WatchStackModel", name := "had", desc := "(I)I" } : Jvm.MethodName)) ∈ lw_all := lw_g (lw_at lw_m9 19 rfl) rfl
theorem q2076 : (Jvm.Cond.selects "WatchStackModel" ({ cls := "WatchStackModel", name := "had", desc := "(I)I" } : Jvm.MethodName) ({ cls := "WatchStackModel", name := "had", desc := "(I)I" } : Jvm.MethodName)) ∈ lw_all := lw_g (lw_at lw_m9 20 rfl) rfl
theorem q2077 : (Jvm.Cond.code ({ cls := "WatchStackModel", name := "had", desc := "(I)I" } : Jvm.MethodName) prog_18_method_97_code (2 : Nat) (Option.some Jvm.ClassFile.FieldType.int)) ∈ lw_all := lw_g (lw_at lw_m9 21 rfl) rfl
theorem q2078 : (Jvm.Cond.methodLink "WatchStackModel" (513 : Nat) ({ cls := "WatchStackModel", name := "asks", desc := "()Z" } : Jvm.MethodName)) ∈ lw_all := lw_g (lw_at lw_m9 22 rfl) rfl
theorem q2079 : (Jvm.Cond.privateMethod ({ cls := "WatchStackModel", name := "asks", desc := "()Z" } : Jvm.MethodName)) ∈ lw_tbl := lw_at lw_m9 23 rfl
theorem q2080 : (Jvm.Cond.instanceMethod ({ cls := "WatchStackModel", name := "asks", desc := "()Z" } : Jvm.MethodName)) ∈ lw_all := lw_g (lw_at lw_m9 24 rfl) rfl
theorem q2081 : (Jvm.Cond.code ({ cls := "WatchStackModel", name := "asks", desc := "()Z" } : Jvm.MethodName) prog_18_method_93_code (1 : Nat) (Option.some Jvm.ClassFile.FieldType.boolean)) ∈ lw_all := lw_g (lw_at lw_m9 25 rfl) rfl
theorem q2082 : (Jvm.Cond.methodLink "WatchStackModel" (501 : Nat) ({ cls := "WatchStackModel", name := "asTold", desc := "()V" } : Jvm.MethodName)) ∈ lw_all := lw_g (lw_at lw_m9 26 rfl) rfl
theorem q2083 : (Jvm.Cond.privateMethod ({ cls := "WatchStackModel", name := "asTold", desc := "()V" } : Jvm.MethodName)) ∈ lw_tbl := lw_at lw_m9 27 rfl
theorem q2084 : (Jvm.Cond.instanceMethod ({ cls := "WatchStackModel", name := "asTold", desc := "()V" } : Jvm.MethodName)) ∈ lw_all := lw_g (lw_at lw_m9 28 rfl) rfl
theorem q2085 : (Jvm.Cond.code ({ cls := "WatchStackModel", name := "asTold", desc := "()V" } : Jvm.MethodName) prog_18_method_70_code (1 : Nat) (Option.none : Option Jvm.ClassFile.FieldType)) ∈ lw_all := lw_g (lw_at lw_m9 29 rfl) rfl
theorem q2086 : (Jvm.Cond.methodLink "WatchStackModel" (504 : Nat) ({ cls := "WatchStackModel", name := "runs", desc := "(I)V" } : Jvm.MethodName)) ∈ lw_all := lw_g (lw_at lw_m9 30 rfl) rfl
theorem q2087 : (Jvm.Cond.privateMethod ({ cls := "WatchStackModel", name := "runs", desc := "(I)V" } : Jvm.MethodName)) ∈ lw_tbl := lw_at lw_m9 31 rfl
theorem q2088 : (Jvm.Cond.instanceMethod ({ cls := "WatchStackModel", name := "runs", desc := "(I)V" } : Jvm.MethodName)) ∈ lw_all := lw_g (lw_at lw_m9 32 rfl) rfl
theorem q2089 : (Jvm.Cond.code ({ cls := "WatchStackModel", name := "runs", desc := "(I)V" } : Jvm.MethodName) prog_18_method_92_code (3 : Nat) (Option.none : Option Jvm.ClassFile.FieldType)) ∈ lw_all := lw_g (lw_at lw_m9 33 rfl) rfl
theorem q2090 : (Jvm.Cond.methodLink "WatchStackModel" (496 : Nat) ({ cls := "WatchStackModel", name := "beginRun", desc := "()V" } : Jvm.MethodName)) ∈ lw_all := lw_g (lw_at lw_m9 34 rfl) rfl
theorem q2091 : (Jvm.Cond.privateMethod ({ cls := "WatchStackModel", name := "beginRun", desc := "()V" } : Jvm.MethodName)) ∈ lw_tbl := lw_at lw_m9 35 rfl
theorem q2092 : (Jvm.Cond.instanceMethod ({ cls := "WatchStackModel", name := "beginRun", desc := "()V" } : Jvm.MethodName)) ∈ lw_all := lw_g (lw_at lw_m9 36 rfl) rfl
theorem q2093 : (Jvm.Cond.code ({ cls := "WatchStackModel", name := "beginRun", desc := "()V" } : Jvm.MethodName) prog_18_method_71_code (2 : Nat) (Option.none : Option Jvm.ClassFile.FieldType)) ∈ lw_all := lw_g (lw_at lw_m9 37 rfl) rfl
theorem q2094 : (Jvm.Cond.methodLink "WatchStackModel" (499 : Nat) ({ cls := "WatchStackModel", name := "tick", desc := "(I)V" } : Jvm.MethodName)) ∈ lw_all := lw_g (lw_at lw_m9 38 rfl) rfl
theorem q2095 : (Jvm.Cond.privateMethod ({ cls := "WatchStackModel", name := "tick", desc := "(I)V" } : Jvm.MethodName)) ∈ lw_tbl := lw_at lw_m9 39 rfl
theorem q2096 : (Jvm.Cond.instanceMethod ({ cls := "WatchStackModel", name := "tick", desc := "(I)V" } : Jvm.MethodName)) ∈ lw_all := lw_g (lw_at lw_m9 40 rfl) rfl
theorem q2097 : (Jvm.Cond.code ({ cls := "WatchStackModel", name := "tick", desc := "(I)V" } : Jvm.MethodName) prog_18_method_91_code (3 : Nat) (Option.none : Option Jvm.ClassFile.FieldType)) ∈ lw_all := lw_g (lw_at lw_m9 41 rfl) rfl
theorem q2098 : (Jvm.Cond.methodLink "WatchStackModel" (478 : Nat) ({ cls := "WatchStackModel", name := "begins", desc := "(I)V" } : Jvm.MethodName)) ∈ lw_all := lw_g (lw_at lw_m9 42 rfl) rfl
theorem q2099 : (Jvm.Cond.privateMethod ({ cls := "WatchStackModel", name := "begins", desc := "(I)V" } : Jvm.MethodName)) ∈ lw_tbl := lw_at lw_m9 43 rfl
theorem q2100 : (Jvm.Cond.instanceMethod ({ cls := "WatchStackModel", name := "begins", desc := "(I)V" } : Jvm.MethodName)) ∈ lw_all := lw_g (lw_at lw_m9 44 rfl) rfl
theorem q2101 : (Jvm.Cond.code ({ cls := "WatchStackModel", name := "begins", desc := "(I)V" } : Jvm.MethodName) prog_18_method_83_code (3 : Nat) (Option.none : Option Jvm.ClassFile.FieldType)) ∈ lw_all := lw_g (lw_at lw_m9 45 rfl) rfl
theorem q2102 : (Jvm.Cond.methodLink "WatchStackModel" (481 : Nat) ({ cls := "WatchStackModel", name := "whoHas", desc := "()I" } : Jvm.MethodName)) ∈ lw_all := lw_g (lw_at lw_m9 46 rfl) rfl
theorem q2103 : (Jvm.Cond.privateMethod ({ cls := "WatchStackModel", name := "whoHas", desc := "()I" } : Jvm.MethodName)) ∈ lw_tbl := lw_at lw_m9 47 rfl
theorem q2104 : (Jvm.Cond.instanceMethod ({ cls := "WatchStackModel", name := "whoHas", desc := "()I" } : Jvm.MethodName)) ∈ lw_all := lw_g (lw_at lw_m9 48 rfl) rfl
theorem q2105 : (Jvm.Cond.code ({ cls := "WatchStackModel", name := "whoHas", desc := "()I" } : Jvm.MethodName) prog_18_method_84_code (2 : Nat) (Option.some Jvm.ClassFile.FieldType.int)) ∈ lw_all := lw_g (lw_at lw_m9 49 rfl) rfl
theorem q2106 : (Jvm.Cond.methodLink "WatchStackModel" (453 : Nat) ({ cls := "WatchStackModel", name := "changeAt", desc := "(II)I" } : Jvm.MethodName)) ∈ lw_all := lw_g (lw_at lw_m9 50 rfl) rfl
theorem q2107 : (Jvm.Cond.privateMethod ({ cls := "WatchStackModel", name := "changeAt", desc := "(II)I" } : Jvm.MethodName)) ∈ lw_tbl := lw_at lw_m9 51 rfl
theorem q2108 : (Jvm.Cond.instanceMethod ({ cls := "WatchStackModel", name := "changeAt", desc := "(II)I" } : Jvm.MethodName)) ∈ lw_all := lw_g (lw_at lw_m9 52 rfl) rfl
theorem q2109 : (Jvm.Cond.code ({ cls := "WatchStackModel", name := "changeAt", desc := "(II)I" } : Jvm.MethodName) prog_18_method_73_code (4 : Nat) (Option.some Jvm.ClassFile.FieldType.int)) ∈ lw_all := lw_g (lw_at lw_m9 53 rfl) rfl
theorem q2110 : (Jvm.Cond.methodLink "WatchStackModel" (427 : Nat) ({ cls := "WatchStackModel", name := "injections", desc := "()I" } : Jvm.MethodName)) ∈ lw_all := lw_g (lw_at lw_m9 54 rfl) rfl
theorem q2111 : (Jvm.Cond.privateMethod ({ cls := "WatchStackModel", name := "injections", desc := "()I" } : Jvm.MethodName)) ∈ lw_tbl := lw_at lw_m9 55 rfl
theorem q2112 : (Jvm.Cond.instanceMethod ({ cls := "WatchStackModel", name := "injections", desc := "()I" } : Jvm.MethodName)) ∈ lw_all := lw_g (lw_at lw_m9 56 rfl) rfl
theorem q2113 : (Jvm.Cond.code ({ cls := "WatchStackModel", name := "injections", desc := "()I" } : Jvm.MethodName) prog_18_method_72_code (1 : Nat) (Option.some Jvm.ClassFile.FieldType.int)) ∈ lw_all := lw_g (lw_at lw_m9 57 rfl) rfl
theorem q2114 : (Jvm.Cond.methodLink "WatchStackModel" (484 : Nat) ({ cls := "WatchStackModel", name := "works", desc := "(II)V" } : Jvm.MethodName)) ∈ lw_all := lw_g (lw_at lw_m9 58 rfl) rfl
theorem q2115 : (Jvm.Cond.privateMethod ({ cls := "WatchStackModel", name := "works", desc := "(II)V" } : Jvm.MethodName)) ∈ lw_tbl := lw_at lw_m9 59 rfl
theorem q2116 : (Jvm.Cond.instanceMethod ({ cls := "WatchStackModel", name := "works", desc := "(II)V" } : Jvm.MethodName)) ∈ lw_all := lw_g (lw_at lw_m9 60 rfl) rfl
theorem q2117 : (Jvm.Cond.code ({ cls := "WatchStackModel", name := "works", desc := "(II)V" } : Jvm.MethodName) prog_18_method_86_code (6 : Nat) (Option.none : Option Jvm.ClassFile.FieldType)) ∈ lw_all := lw_g (lw_at lw_m9 61 rfl) rfl
theorem q2118 : (Jvm.Cond.methodLink "WatchStackModel" (469 : Nat) ({ cls := "WatchStackModel", name := "kickNow", desc := "(II)V" } : Jvm.MethodName)) ∈ lw_all := lw_g (lw_at lw_m9 62 rfl) rfl
theorem q2119 : (Jvm.Cond.privateMethod ({ cls := "WatchStackModel", name := "kickNow", desc := "(II)V" } : Jvm.MethodName)) ∈ lw_tbl := lw_at lw_m9 63 rfl
theorem q2120 : (Jvm.Cond.instanceMethod ({ cls := "WatchStackModel", name := "kickNow", desc := "(II)V" } : Jvm.MethodName)) ∈ lw_all := lw_g (lw_at lw_m9 64 rfl) rfl
theorem q2121 : (Jvm.Cond.code ({ cls := "WatchStackModel", name := "kickNow", desc := "(II)V" } : Jvm.MethodName) prog_18_method_85_code (6 : Nat) (Option.none : Option Jvm.ClassFile.FieldType)) ∈ lw_all := lw_g (lw_at lw_m9 65 rfl) rfl
theorem q2122 : (Jvm.Cond.methodLink "WatchStackModel" (456 : Nat) ({ cls := "WatchStackModel", name := "isWrong", desc := "(I)Z" } : Jvm.MethodName)) ∈ lw_all := lw_g (lw_at lw_m9 66 rfl) rfl
theorem q2123 : (Jvm.Cond.privateMethod ({ cls := "WatchStackModel", name := "isWrong", desc := "(I)Z" } : Jvm.MethodName)) ∈ lw_tbl := lw_at lw_m9 67 rfl
theorem q2124 : (Jvm.Cond.instanceMethod ({ cls := "WatchStackModel", name := "isWrong", desc := "(I)Z" } : Jvm.MethodName)) ∈ lw_all := lw_g (lw_at lw_m9 68 rfl) rfl
theorem q2125 : (Jvm.Cond.code ({ cls := "WatchStackModel", name := "isWrong", desc := "(I)Z" } : Jvm.MethodName) prog_18_method_74_code (3 : Nat) (Option.some Jvm.ClassFile.FieldType.boolean)) ∈ lw_all := lw_g (lw_at lw_m9 69 rfl) rfl
theorem q2126 : (Jvm.Cond.methodLink "WatchStackModel" (459 : Nat) ({ cls := "WatchStackModel", name := "openOf", desc := "(I)I" } : Jvm.MethodName)) ∈ lw_all := lw_g (lw_at lw_m9 70 rfl) rfl
theorem q2127 : (Jvm.Cond.privateMethod ({ cls := "WatchStackModel", name := "openOf", desc := "(I)I" } : Jvm.MethodName)) ∈ lw_tbl := lw_at lw_m9 71 rfl
theorem q2128 : (Jvm.Cond.instanceMethod ({ cls := "WatchStackModel", name := "openOf", desc := "(I)I" } : Jvm.MethodName)) ∈ lw_all := lw_g (lw_at lw_m9 72 rfl) rfl
theorem q2129 : (Jvm.Cond.code ({ cls := "WatchStackModel", name := "openOf", desc := "(I)I" } : Jvm.MethodName) prog_18_method_68_code (2 : Nat) (Option.some Jvm.ClassFile.FieldType.int)) ∈ lw_all := lw_g (lw_at lw_m9 73 rfl) rfl
theorem q2130 : (Jvm.Cond.methodLink "WatchStackModel" (462 : Nat) ({ cls := "WatchStackModel", name := "faultOf", desc := "(III)V" } : Jvm.MethodName)) ∈ lw_all := lw_g (lw_at lw_m9 74 rfl) rfl
theorem q2131 : (Jvm.Cond.privateMethod ({ cls := "WatchStackModel", name := "faultOf", desc := "(III)V" } : Jvm.MethodName)) ∈ lw_tbl := lw_at lw_m9 75 rfl
theorem q2132 : (Jvm.Cond.instanceMethod ({ cls := "WatchStackModel", name := "faultOf", desc := "(III)V" } : Jvm.MethodName)) ∈ lw_all := lw_g (lw_at lw_m9 76 rfl) rfl
theorem q2133 : (Jvm.Cond.code ({ cls := "WatchStackModel", name := "faultOf", desc := "(III)V" } : Jvm.MethodName) prog_18_method_82_code (5 : Nat) (Option.none : Option Jvm.ClassFile.FieldType)) ∈ lw_all := lw_g (lw_at lw_m9 77 rfl) rfl
theorem q2134 : (Jvm.Cond.constantFloat "WatchStackModel" (446 : Nat) (1092616192 : UInt32)) ∈ lw_all := lw_g (lw_at lw_m9 78 rfl) rfl
theorem q2135 : (Jvm.Cond.methodLink "WatchStackModel" (447 : Nat) ({ cls := "WatchStackModel", name := "records", desc := "(IIII)V" } : Jvm.MethodName)) ∈ lw_all := lw_g (lw_at lw_m9 79 rfl) rfl
theorem q2136 : (Jvm.Cond.privateMethod ({ cls := "WatchStackModel", name := "records", desc := "(IIII)V" } : Jvm.MethodName)) ∈ lw_tbl := lw_at lw_m9 80 rfl
theorem q2137 : (Jvm.Cond.instanceMethod ({ cls := "WatchStackModel", name := "records", desc := "(IIII)V" } : Jvm.MethodName)) ∈ lw_all := lw_g (lw_at lw_m9 81 rfl) rfl
theorem q2138 : (Jvm.Cond.code ({ cls := "WatchStackModel", name := "records", desc := "(IIII)V" } : Jvm.MethodName) prog_18_method_81_code (5 : Nat) (Option.none : Option Jvm.ClassFile.FieldType)) ∈ lw_all := lw_g (lw_at lw_m9 82 rfl) rfl
theorem q2139 : (Jvm.Cond.methodLink "WatchStackModel" (450 : Nat) ({ cls := "WatchStackModel", name := "climbs", desc := "(IIII)V" } : Jvm.MethodName)) ∈ lw_all := lw_g (lw_at lw_m9 83 rfl) rfl
theorem q2140 : (Jvm.Cond.privateMethod ({ cls := "WatchStackModel", name := "climbs", desc := "(IIII)V" } : Jvm.MethodName)) ∈ lw_tbl := lw_at lw_m9 84 rfl
theorem q2141 : (Jvm.Cond.instanceMethod ({ cls := "WatchStackModel", name := "climbs", desc := "(IIII)V" } : Jvm.MethodName)) ∈ lw_all := lw_g (lw_at lw_m9 85 rfl) rfl
theorem q2142 : (Jvm.Cond.code ({ cls := "WatchStackModel", name := "climbs", desc := "(IIII)V" } : Jvm.MethodName) prog_18_method_80_code (6 : Nat) (Option.none : Option Jvm.ClassFile.FieldType)) ∈ lw_all := lw_g (lw_at lw_m9 86 rfl) rfl
theorem q2143 : (Jvm.Cond.methodLink "WatchStackModel" (433 : Nat) ({ cls := "WatchStackModel", name := "restarts", desc := "(II)V" } : Jvm.MethodName)) ∈ lw_all := lw_g (lw_at lw_m9 87 rfl) rfl
theorem q2144 : (Jvm.Cond.privateMethod ({ cls := "WatchStackModel", name := "restarts", desc := "(II)V" } : Jvm.MethodName)) ∈ lw_tbl := lw_at lw_m9 88 rfl
theorem q2145 : (Jvm.Cond.instanceMethod ({ cls := "WatchStackModel", name := "restarts", desc := "(II)V" } : Jvm.MethodName)) ∈ lw_all := lw_g (lw_at lw_m9 89 rfl) rfl
theorem q2146 : (Jvm.Cond.code ({ cls := "WatchStackModel", name := "restarts", desc := "(II)V" } : Jvm.MethodName) prog_18_method_77_code (3 : Nat) (Option.none : Option Jvm.ClassFile.FieldType)) ∈ lw_all := lw_g (lw_at lw_m9 90 rfl) rfl
theorem q2147 : (Jvm.Cond.methodLink "WatchStackModel" (439 : Nat) ({ cls := "WatchStackModel", name := "resets", desc := "(II)V" } : Jvm.MethodName)) ∈ lw_all := lw_g (lw_at lw_m9 91 rfl) rfl
theorem q2148 : (Jvm.Cond.privateMethod ({ cls := "WatchStackModel", name := "resets", desc := "(II)V" } : Jvm.MethodName)) ∈ lw_tbl := lw_at lw_m9 92 rfl
theorem q2149 : (Jvm.Cond.instanceMethod ({ cls := "WatchStackModel", name := "resets", desc := "(II)V" } : Jvm.MethodName)) ∈ lw_all := lw_g (lw_at lw_m9 93 rfl) rfl
theorem q2150 : (Jvm.Cond.code ({ cls := "WatchStackModel", name := "resets", desc := "(II)V" } : Jvm.MethodName) prog_18_method_79_code (4 : Nat) (Option.none : Option Jvm.ClassFile.FieldType)) ∈ lw_all := lw_g (lw_at lw_m9 94 rfl) rfl
theorem q2151 : (Jvm.Cond.methodLink "WatchStackModel" (430 : Nat) ({ cls := "WatchStackModel", name := "isUnder", desc := "(II)Z" } : Jvm.MethodName)) ∈ lw_all := lw_g (lw_at lw_m9 95 rfl) rfl
theorem q2152 : (Jvm.Cond.privateMethod ({ cls := "WatchStackModel", name := "isUnder", desc := "(II)Z" } : Jvm.MethodName)) ∈ lw_tbl := lw_at lw_m9 96 rfl
theorem q2153 : (Jvm.Cond.instanceMethod ({ cls := "WatchStackModel", name := "isUnder", desc := "(II)Z" } : Jvm.MethodName)) ∈ lw_all := lw_g (lw_at lw_m9 97 rfl) rfl
theorem q2154 : (Jvm.Cond.code ({ cls := "WatchStackModel", name := "isUnder", desc := "(II)Z" } : Jvm.MethodName) prog_18_method_78_code (4 : Nat) (Option.some Jvm.ClassFile.FieldType.boolean)) ∈ lw_all := lw_g (lw_at lw_m9 98 rfl) rfl
theorem q2155 : (Jvm.Cond.methodLink "WatchStackModel" (436 : Nat) ({ cls := "WatchStackModel", name := "wakes", desc := "(II)V" } : Jvm.MethodName)) ∈ lw_all := lw_g (lw_at lw_m9 99 rfl) rfl
theorem q2156 : (Jvm.Cond.privateMethod ({ cls := "WatchStackModel", name := "wakes", desc := "(II)V" } : Jvm.MethodName)) ∈ lw_tbl := lw_at lw_m9 100 rfl
theorem q2157 : (Jvm.Cond.instanceMethod ({ cls := "WatchStackModel", name := "wakes", desc := "(II)V" } : Jvm.MethodName)) ∈ lw_all := lw_g (lw_at lw_m9 101 rfl) rfl
theorem q2158 : (Jvm.Cond.code ({ cls := "WatchStackModel", name := "wakes", desc := "(II)V" } : Jvm.MethodName) prog_18_method_76_code (4 : Nat) (Option.none : Option Jvm.ClassFile.FieldType)) ∈ lw_all := lw_g (lw_at lw_m9 102 rfl) rfl
theorem q2159 : (Jvm.Cond.methodLink "WatchStackModel" (465 : Nat) ({ cls := "WatchStackModel", name := "closeOf", desc := "(I)I" } : Jvm.MethodName)) ∈ lw_all := lw_g (lw_at lw_m9 103 rfl) rfl
theorem q2160 : (Jvm.Cond.privateMethod ({ cls := "WatchStackModel", name := "closeOf", desc := "(I)I" } : Jvm.MethodName)) ∈ lw_tbl := lw_at lw_m9 104 rfl
theorem q2161 : (Jvm.Cond.instanceMethod ({ cls := "WatchStackModel", name := "closeOf", desc := "(I)I" } : Jvm.MethodName)) ∈ lw_all := lw_g (lw_at lw_m9 105 rfl) rfl
theorem q2162 : (Jvm.Cond.code ({ cls := "WatchStackModel", name := "closeOf", desc := "(I)I" } : Jvm.MethodName) prog_18_method_69_code (2 : Nat) (Option.some Jvm.ClassFile.FieldType.int)) ∈ lw_all := lw_g (lw_at lw_m9 106 rfl) rfl
theorem q2163 : (Jvm.Cond.constantFloat "WatchStackModel" (468 : Nat) (1048576000 : UInt32)) ∈ lw_all := lw_g (lw_at lw_m9 107 rfl) rfl
theorem q2164 : (Jvm.Cond.methodLink "WatchStackModel" (487 : Nat) ({ cls := "WatchStackModel", name := "asksLate", desc := "(I)V" } : Jvm.MethodName)) ∈ lw_all := lw_g (lw_at lw_m9 108 rfl) rfl
theorem q2165 : (Jvm.Cond.privateMethod ({ cls := "WatchStackModel", name := "asksLate", desc := "(I)V" } : Jvm.MethodName)) ∈ lw_tbl := lw_at lw_m9 109 rfl
theorem q2166 : (Jvm.Cond.instanceMethod ({ cls := "WatchStackModel", name := "asksLate", desc := "(I)V" } : Jvm.MethodName)) ∈ lw_all := lw_g (lw_at lw_m9 110 rfl) rfl
theorem q2167 : (Jvm.Cond.code ({ cls := "WatchStackModel", name := "asksLate", desc := "(I)V" } : Jvm.MethodName) prog_18_method_87_code (3 : Nat) (Option.none : Option Jvm.ClassFile.FieldType)) ∈ lw_all := lw_g (lw_at lw_m9 111 rfl) rfl
theorem q2168 : (Jvm.Cond.methodLink "WatchStackModel" (490 : Nat) ({ cls := "WatchStackModel", name := "endsCycle", desc := "(I)V" } : Jvm.MethodName)) ∈ lw_all := lw_g (lw_at lw_m9 112 rfl) rfl
theorem q2169 : (Jvm.Cond.privateMethod ({ cls := "WatchStackModel", name := "endsCycle", desc := "(I)V" } : Jvm.MethodName)) ∈ lw_tbl := lw_at lw_m9 113 rfl
theorem q2170 : (Jvm.Cond.instanceMethod ({ cls := "WatchStackModel", name := "endsCycle", desc := "(I)V" } : Jvm.MethodName)) ∈ lw_all := lw_g (lw_at lw_m9 114 rfl) rfl
theorem q2171 : (Jvm.Cond.code ({ cls := "WatchStackModel", name := "endsCycle", desc := "(I)V" } : Jvm.MethodName) prog_18_method_89_code (3 : Nat) (Option.none : Option Jvm.ClassFile.FieldType)) ∈ lw_all := lw_g (lw_at lw_m9 115 rfl) rfl
theorem q2172 : (Jvm.Cond.methodLink "WatchStackModel" (472 : Nat) ({ cls := "WatchStackModel", name := "isAsleep", desc := "(II)Z" } : Jvm.MethodName)) ∈ lw_all := lw_g (lw_at lw_m9 116 rfl) rfl
theorem q2173 : (Jvm.Cond.privateMethod ({ cls := "WatchStackModel", name := "isAsleep", desc := "(II)Z" } : Jvm.MethodName)) ∈ lw_tbl := lw_at lw_m9 117 rfl
theorem q2174 : (Jvm.Cond.instanceMethod ({ cls := "WatchStackModel", name := "isAsleep", desc := "(II)Z" } : Jvm.MethodName)) ∈ lw_all := lw_g (lw_at lw_m9 118 rfl) rfl
theorem q2175 : (Jvm.Cond.code ({ cls := "WatchStackModel", name := "isAsleep", desc := "(II)Z" } : Jvm.MethodName) prog_18_method_75_code (4 : Nat) (Option.some Jvm.ClassFile.FieldType.boolean)) ∈ lw_all := lw_g (lw_at lw_m9 119 rfl) rfl
theorem q2176 : (Jvm.Cond.methodLink "WatchStackModel" (475 : Nat) ({ cls := "WatchStackModel", name := "looks", desc := "(II)V" } : Jvm.MethodName)) ∈ lw_all := lw_g (lw_at lw_m9 120 rfl) rfl
theorem q2177 : (Jvm.Cond.privateMethod ({ cls := "WatchStackModel", name := "looks", desc := "(II)V" } : Jvm.MethodName)) ∈ lw_tbl := lw_at lw_m9 121 rfl
theorem q2178 : (Jvm.Cond.instanceMethod ({ cls := "WatchStackModel", name := "looks", desc := "(II)V" } : Jvm.MethodName)) ∈ lw_all := lw_g (lw_at lw_m9 122 rfl) rfl
theorem q2179 : (Jvm.Cond.code ({ cls := "WatchStackModel", name := "looks", desc := "(II)V" } : Jvm.MethodName) prog_18_method_88_code (6 : Nat) (Option.none : Option Jvm.ClassFile.FieldType)) ∈ lw_all := lw_g (lw_at lw_m9 123 rfl) rfl
theorem q2180 : (Jvm.Cond.methodLink "WatchStackModel" (493 : Nat) ({ cls := "WatchStackModel", name := "newCycle", desc := "()V" } : Jvm.MethodName)) ∈ lw_all := lw_g (lw_at lw_m9 124 rfl) rfl
theorem q2181 : (Jvm.Cond.privateMethod ({ cls := "WatchStackModel", name := "newCycle", desc := "()V" } : Jvm.MethodName)) ∈ lw_tbl := lw_at lw_m9 125 rfl
theorem q2182 : (Jvm.Cond.instanceMethod ({ cls := "WatchStackModel", name := "newCycle", desc := "()V" } : Jvm.MethodName)) ∈ lw_all := lw_g (lw_at lw_m9 126 rfl) rfl
theorem q2183 : (Jvm.Cond.code ({ cls := "WatchStackModel", name := "newCycle", desc := "()V" } : Jvm.MethodName) prog_18_method_90_code (2 : Nat) (Option.none : Option Jvm.ClassFile.FieldType)) ∈ lw_all := lw_g (lw_at lw_m9 127 rfl) rfl
theorem q2185 : (Jvm.Cond.instanceMethod ({ cls := "WatchStackModel", name := "idle", desc := "(I)I" } : Jvm.MethodName)) ∈ lw_all := lw_g (lw_at lw_m9 129 rfl) rfl
theorem q2186 : (Jvm.Cond.selects "WatchStackModel" ({ cls := "WatchStackModel", name := "idle", desc := "(I)I" } : Jvm.MethodName) ({ cls := "WatchStackModel", name := "idle", desc := "(I)I" } : Jvm.MethodName)) ∈ lw_all := lw_g (lw_at lw_m9 130 rfl) rfl
theorem q2187 : (Jvm.Cond.code ({ cls := "WatchStackModel", name := "idle", desc := "(I)I" } : Jvm.MethodName) prog_18_method_98_code (4 : Nat) (Option.some Jvm.ClassFile.FieldType.int)) ∈ lw_all := lw_g (lw_at lw_m9 131 rfl) rfl
theorem q2188 : (Jvm.Cond.methodLink "WatchStackModel" (510 : Nat) ({ cls := "WatchStackModel", name := "asksAt", desc := "(I)Z" } : Jvm.MethodName)) ∈ lw_all := lw_g (lw_at lw_m9 132 rfl) rfl
theorem q2189 : (Jvm.Cond.privateMethod ({ cls := "WatchStackModel", name := "asksAt", desc := "(I)Z" } : Jvm.MethodName)) ∈ lw_tbl := lw_at lw_m9 133 rfl
theorem q2190 : (Jvm.Cond.instanceMethod ({ cls := "WatchStackModel", name := "asksAt", desc := "(I)Z" } : Jvm.MethodName)) ∈ lw_all := lw_g (lw_at lw_m9 134 rfl) rfl
theorem q2191 : (Jvm.Cond.code ({ cls := "WatchStackModel", name := "asksAt", desc := "(I)Z" } : Jvm.MethodName) prog_18_method_95_code (2 : Nat) (Option.some Jvm.ClassFile.FieldType.boolean)) ∈ lw_all := lw_g (lw_at lw_m9 135 rfl) rfl
theorem q2192 : (Jvm.Cond.methodLink "WatchStackModel" (507 : Nat) ({ cls := "WatchStackModel", name := "isTick", desc := "(I)Z" } : Jvm.MethodName)) ∈ lw_all := lw_g (lw_at lw_m9 136 rfl) rfl
theorem q2193 : (Jvm.Cond.privateMethod ({ cls := "WatchStackModel", name := "isTick", desc := "(I)Z" } : Jvm.MethodName)) ∈ lw_tbl := lw_at lw_m9 137 rfl
theorem q2194 : (Jvm.Cond.instanceMethod ({ cls := "WatchStackModel", name := "isTick", desc := "(I)Z" } : Jvm.MethodName)) ∈ lw_all := lw_g (lw_at lw_m9 138 rfl) rfl
theorem q2195 : (Jvm.Cond.code ({ cls := "WatchStackModel", name := "isTick", desc := "(I)Z" } : Jvm.MethodName) prog_18_method_94_code (2 : Nat) (Option.some Jvm.ClassFile.FieldType.boolean)) ∈ lw_all := lw_g (lw_at lw_m9 139 rfl) rfl
theorem q2197 : (Jvm.Cond.instanceMethod ({ cls := "WatchStackModel", name := "kicks", desc := "(II)I" } : Jvm.MethodName)) ∈ lw_all := lw_g (lw_at lw_m9 141 rfl) rfl
theorem q2198 : (Jvm.Cond.selects "WatchStackModel" ({ cls := "WatchStackModel", name := "kicks", desc := "(II)I" } : Jvm.MethodName) ({ cls := "WatchStackModel", name := "kicks", desc := "(II)I" } : Jvm.MethodName)) ∈ lw_all := lw_g (lw_at lw_m9 142 rfl) rfl
theorem q2199 : (Jvm.Cond.code ({ cls := "WatchStackModel", name := "kicks", desc := "(II)I" } : Jvm.MethodName) prog_18_method_99_code (3 : Nat) (Option.some Jvm.ClassFile.FieldType.int)) ∈ lw_all := lw_g (lw_at lw_m9 143 rfl) rfl
theorem q2200 : (Jvm.Cond.methodLink "WatchStackModel" (516 : Nat) ({ cls := "WatchStackModel", name := "asksOf", desc := "(II)Z" } : Jvm.MethodName)) ∈ lw_all := lw_g (lw_at lw_m9 144 rfl) rfl
theorem q2201 : (Jvm.Cond.privateMethod ({ cls := "WatchStackModel", name := "asksOf", desc := "(II)Z" } : Jvm.MethodName)) ∈ lw_tbl := lw_at lw_m9 145 rfl
theorem q2202 : (Jvm.Cond.instanceMethod ({ cls := "WatchStackModel", name := "asksOf", desc := "(II)Z" } : Jvm.MethodName)) ∈ lw_all := lw_g (lw_at lw_m9 146 rfl) rfl
theorem q2203 : (Jvm.Cond.code ({ cls := "WatchStackModel", name := "asksOf", desc := "(II)Z" } : Jvm.MethodName) prog_18_method_96_code (3 : Nat) (Option.some Jvm.ClassFile.FieldType.boolean)) ∈ lw_all := lw_g (lw_at lw_m9 147 rfl) rfl
theorem q2205 : (Jvm.Cond.instanceMethod ({ cls := "WatchStackModel", name := "kicked", desc := "(II)I" } : Jvm.MethodName)) ∈ lw_all := lw_g (lw_at lw_m9 149 rfl) rfl
theorem q2206 : (Jvm.Cond.selects "WatchStackModel" ({ cls := "WatchStackModel", name := "kicked", desc := "(II)I" } : Jvm.MethodName) ({ cls := "WatchStackModel", name := "kicked", desc := "(II)I" } : Jvm.MethodName)) ∈ lw_all := lw_g (lw_at lw_m9 150 rfl) rfl
theorem q2207 : (Jvm.Cond.code ({ cls := "WatchStackModel", name := "kicked", desc := "(II)I" } : Jvm.MethodName) prog_18_method_100_code (3 : Nat) (Option.some Jvm.ClassFile.FieldType.int)) ∈ lw_all := lw_g (lw_at lw_m9 151 rfl) rfl
theorem q2209 : (Jvm.Cond.instanceMethod ({ cls := "WatchStackModel", name := "gap", desc := "(II)I" } : Jvm.MethodName)) ∈ lw_all := lw_g (lw_at lw_m9 153 rfl) rfl
theorem q2210 : (Jvm.Cond.selects "WatchStackModel" ({ cls := "WatchStackModel", name := "gap", desc := "(II)I" } : Jvm.MethodName) ({ cls := "WatchStackModel", name := "gap", desc := "(II)I" } : Jvm.MethodName)) ∈ lw_all := lw_g (lw_at lw_m9 154 rfl) rfl
theorem q2211 : (Jvm.Cond.code ({ cls := "WatchStackModel", name := "gap", desc := "(II)I" } : Jvm.MethodName) prog_18_method_101_code (3 : Nat) (Option.some Jvm.ClassFile.FieldType.int)) ∈ lw_all := lw_g (lw_at lw_m9 155 rfl) rfl
theorem q2213 : (Jvm.Cond.instanceMethod ({ cls := "WatchStackModel", name := "jobs", desc := "(II)I" } : Jvm.MethodName)) ∈ lw_all := lw_g (lw_at lw_m9 157 rfl) rfl
theorem q2214 : (Jvm.Cond.selects "WatchStackModel" ({ cls := "WatchStackModel", name := "jobs", desc := "(II)I" } : Jvm.MethodName) ({ cls := "WatchStackModel", name := "jobs", desc := "(II)I" } : Jvm.MethodName)) ∈ lw_all := lw_g (lw_at lw_m9 158 rfl) rfl
theorem q2215 : (Jvm.Cond.code ({ cls := "WatchStackModel", name := "jobs", desc := "(II)I" } : Jvm.MethodName) prog_18_method_102_code (3 : Nat) (Option.some Jvm.ClassFile.FieldType.int)) ∈ lw_all := lw_g (lw_at lw_m9 159 rfl) rfl
theorem q2217 : (Jvm.Cond.instanceMethod ({ cls := "WatchStackModel", name := "at", desc := "(II)I" } : Jvm.MethodName)) ∈ lw_all := lw_g (lw_at lw_m9 161 rfl) rfl
theorem q2218 : (Jvm.Cond.selects "WatchStackModel" ({ cls := "WatchStackModel", name := "at", desc := "(II)I" } : Jvm.MethodName) ({ cls := "WatchStackModel", name := "at", desc := "(II)I" } : Jvm.MethodName)) ∈ lw_all := lw_g (lw_at lw_m9 162 rfl) rfl
theorem q2219 : (Jvm.Cond.code ({ cls := "WatchStackModel", name := "at", desc := "(II)I" } : Jvm.MethodName) prog_18_method_103_code (3 : Nat) (Option.some Jvm.ClassFile.FieldType.int)) ∈ lw_all := lw_g (lw_at lw_m9 163 rfl) rfl
theorem q2221 : (Jvm.Cond.instanceMethod ({ cls := "WatchStackModel", name := "question", desc := "(II)I" } : Jvm.MethodName)) ∈ lw_all := lw_g (lw_at lw_m9 165 rfl) rfl
theorem q2222 : (Jvm.Cond.selects "WatchStackModel" ({ cls := "WatchStackModel", name := "question", desc := "(II)I" } : Jvm.MethodName) ({ cls := "WatchStackModel", name := "question", desc := "(II)I" } : Jvm.MethodName)) ∈ lw_all := lw_g (lw_at lw_m9 166 rfl) rfl
theorem q2223 : (Jvm.Cond.code ({ cls := "WatchStackModel", name := "question", desc := "(II)I" } : Jvm.MethodName) prog_18_method_104_code (3 : Nat) (Option.some Jvm.ClassFile.FieldType.int)) ∈ lw_all := lw_g (lw_at lw_m9 167 rfl) rfl
theorem q2225 : (Jvm.Cond.instanceMethod ({ cls := "WatchStackModel", name := "start", desc := "(II)I" } : Jvm.MethodName)) ∈ lw_all := lw_g (lw_at lw_m9 169 rfl) rfl
theorem q2226 : (Jvm.Cond.selects "WatchStackModel" ({ cls := "WatchStackModel", name := "start", desc := "(II)I" } : Jvm.MethodName) ({ cls := "WatchStackModel", name := "start", desc := "(II)I" } : Jvm.MethodName)) ∈ lw_all := lw_g (lw_at lw_m9 170 rfl) rfl
theorem q2227 : (Jvm.Cond.code ({ cls := "WatchStackModel", name := "start", desc := "(II)I" } : Jvm.MethodName) prog_18_method_105_code (3 : Nat) (Option.some Jvm.ClassFile.FieldType.int)) ∈ lw_all := lw_g (lw_at lw_m9 171 rfl) rfl
theorem q2229 : (Jvm.Cond.instanceMethod ({ cls := "WatchStackModel", name := "memory", desc := "(II)I" } : Jvm.MethodName)) ∈ lw_all := lw_g (lw_at lw_m9 173 rfl) rfl
theorem q2230 : (Jvm.Cond.selects "WatchStackModel" ({ cls := "WatchStackModel", name := "memory", desc := "(II)I" } : Jvm.MethodName) ({ cls := "WatchStackModel", name := "memory", desc := "(II)I" } : Jvm.MethodName)) ∈ lw_all := lw_g (lw_at lw_m9 174 rfl) rfl
theorem q2231 : (Jvm.Cond.code ({ cls := "WatchStackModel", name := "memory", desc := "(II)I" } : Jvm.MethodName) prog_18_method_106_code (3 : Nat) (Option.some Jvm.ClassFile.FieldType.int)) ∈ lw_all := lw_g (lw_at lw_m9 175 rfl) rfl
theorem q2233 : (Jvm.Cond.instanceMethod ({ cls := "WatchStackModel", name := "health", desc := "(II)I" } : Jvm.MethodName)) ∈ lw_all := lw_g (lw_at lw_m9 177 rfl) rfl
theorem q2234 : (Jvm.Cond.selects "WatchStackModel" ({ cls := "WatchStackModel", name := "health", desc := "(II)I" } : Jvm.MethodName) ({ cls := "WatchStackModel", name := "health", desc := "(II)I" } : Jvm.MethodName)) ∈ lw_all := lw_g (lw_at lw_m9 178 rfl) rfl
theorem q2235 : (Jvm.Cond.code ({ cls := "WatchStackModel", name := "health", desc := "(II)I" } : Jvm.MethodName) prog_18_method_107_code (3 : Nat) (Option.some Jvm.ClassFile.FieldType.int)) ∈ lw_all := lw_g (lw_at lw_m9 179 rfl) rfl
theorem q2237 : (Jvm.Cond.instanceMethod ({ cls := "WatchStackModel", name := "tenths", desc := "(II)I" } : Jvm.MethodName)) ∈ lw_all := lw_g (lw_at lw_m9 181 rfl) rfl
theorem q2238 : (Jvm.Cond.selects "WatchStackModel" ({ cls := "WatchStackModel", name := "tenths", desc := "(II)I" } : Jvm.MethodName) ({ cls := "WatchStackModel", name := "tenths", desc := "(II)I" } : Jvm.MethodName)) ∈ lw_all := lw_g (lw_at lw_m9 182 rfl) rfl
theorem q2239 : (Jvm.Cond.code ({ cls := "WatchStackModel", name := "tenths", desc := "(II)I" } : Jvm.MethodName) prog_18_method_108_code (3 : Nat) (Option.some Jvm.ClassFile.FieldType.int)) ∈ lw_all := lw_g (lw_at lw_m9 183 rfl) rfl
theorem q2241 : (Jvm.Cond.instanceMethod ({ cls := "WatchStackModel", name := "margin", desc := "(II)I" } : Jvm.MethodName)) ∈ lw_all := lw_g (lw_at lw_m9 185 rfl) rfl
theorem q2242 : (Jvm.Cond.selects "WatchStackModel" ({ cls := "WatchStackModel", name := "margin", desc := "(II)I" } : Jvm.MethodName) ({ cls := "WatchStackModel", name := "margin", desc := "(II)I" } : Jvm.MethodName)) ∈ lw_all := lw_g (lw_at lw_m9 186 rfl) rfl
theorem q2243 : (Jvm.Cond.code ({ cls := "WatchStackModel", name := "margin", desc := "(II)I" } : Jvm.MethodName) prog_18_method_109_code (3 : Nat) (Option.some Jvm.ClassFile.FieldType.int)) ∈ lw_all := lw_g (lw_at lw_m9 187 rfl) rfl
theorem q2245 : (Jvm.Cond.instanceMethod ({ cls := "WatchStackModel", name := "mean", desc := "(II)J" } : Jvm.MethodName)) ∈ lw_all := lw_g (lw_at lw_m9 189 rfl) rfl
theorem q2246 : (Jvm.Cond.selects "WatchStackModel" ({ cls := "WatchStackModel", name := "mean", desc := "(II)J" } : Jvm.MethodName) ({ cls := "WatchStackModel", name := "mean", desc := "(II)J" } : Jvm.MethodName)) ∈ lw_all := lw_g (lw_at lw_m9 190 rfl) rfl
theorem q2247 : (Jvm.Cond.code ({ cls := "WatchStackModel", name := "mean", desc := "(II)J" } : Jvm.MethodName) prog_18_method_110_code (3 : Nat) (Option.some Jvm.ClassFile.FieldType.long)) ∈ lw_all := lw_g (lw_at lw_m9 191 rfl) rfl
theorem q2248 : (Jvm.Cond.constantLong "WatchStackModel" (519 : Nat) (-2 : Int64)) ∈ lw_all := lw_g (lw_at lw_m9 192 rfl) rfl
theorem q2249 : (Jvm.Cond.constantLong "WatchStackModel" (521 : Nat) (-1 : Int64)) ∈ lw_all := lw_g (lw_at lw_m9 193 rfl) rfl
theorem q2250 : (Jvm.Cond.methodLink "WatchStackModel" (523 : Nat) ({ cls := "java/lang/Double", name := "doubleToLongBits", desc := "(D)J" } : Jvm.MethodName)) ∈ lw_all := lw_g (lw_at lw_m9 194 rfl) rfl
theorem q2252 : (Jvm.Cond.instanceMethod ({ cls := "WatchStackModel", name := "faults", desc := "(I)I" } : Jvm.MethodName)) ∈ lw_all := lw_g (lw_at lw_m9 196 rfl) rfl
theorem q2253 : (Jvm.Cond.selects "WatchStackModel" ({ cls := "WatchStackModel", name := "faults", desc := "(I)I" } : Jvm.MethodName) ({ cls := "WatchStackModel", name := "faults", desc := "(I)I" } : Jvm.MethodName)) ∈ lw_all := lw_g (lw_at lw_m9 197 rfl) rfl
theorem q2254 : (Jvm.Cond.code ({ cls := "WatchStackModel", name := "faults", desc := "(I)I" } : Jvm.MethodName) prog_18_method_111_code (2 : Nat) (Option.some Jvm.ClassFile.FieldType.int)) ∈ lw_all := lw_g (lw_at lw_m9 198 rfl) rfl
theorem q2256 : (Jvm.Cond.instanceMethod ({ cls := "WatchStackModel", name := "record", desc := "(II)I" } : Jvm.MethodName)) ∈ lw_all := lw_g (lw_at lw_m9 200 rfl) rfl
theorem q2257 : (Jvm.Cond.selects "WatchStackModel" ({ cls := "WatchStackModel", name := "record", desc := "(II)I" } : Jvm.MethodName) ({ cls := "WatchStackModel", name := "record", desc := "(II)I" } : Jvm.MethodName)) ∈ lw_all := lw_g (lw_at lw_m9 201 rfl) rfl
theorem q2258 : (Jvm.Cond.code ({ cls := "WatchStackModel", name := "record", desc := "(II)I" } : Jvm.MethodName) prog_18_method_112_code (3 : Nat) (Option.some Jvm.ClassFile.FieldType.int)) ∈ lw_all := lw_g (lw_at lw_m9 202 rfl) rfl
theorem q2260 : (Jvm.Cond.instanceMethod ({ cls := "WatchStackModel", name := "ledger", desc := "(I)I" } : Jvm.MethodName)) ∈ lw_all := lw_g (lw_at lw_m9 204 rfl) rfl
theorem q2261 : (Jvm.Cond.selects "WatchStackModel" ({ cls := "WatchStackModel", name := "ledger", desc := "(I)I" } : Jvm.MethodName) ({ cls := "WatchStackModel", name := "ledger", desc := "(I)I" } : Jvm.MethodName)) ∈ lw_all := lw_g (lw_at lw_m9 205 rfl) rfl
theorem q2262 : (Jvm.Cond.code ({ cls := "WatchStackModel", name := "ledger", desc := "(I)I" } : Jvm.MethodName) prog_18_method_113_code (4 : Nat) (Option.some Jvm.ClassFile.FieldType.int)) ∈ lw_all := lw_g (lw_at lw_m9 206 rfl) rfl
theorem q2264 : (Jvm.Cond.instanceMethod ({ cls := "WatchStackModel", name := "kinds", desc := "(I)I" } : Jvm.MethodName)) ∈ lw_all := lw_g (lw_at lw_m9 208 rfl) rfl
theorem q2265 : (Jvm.Cond.selects "WatchStackModel" ({ cls := "WatchStackModel", name := "kinds", desc := "(I)I" } : Jvm.MethodName) ({ cls := "WatchStackModel", name := "kinds", desc := "(I)I" } : Jvm.MethodName)) ∈ lw_all := lw_g (lw_at lw_m9 209 rfl) rfl
theorem q2266 : (Jvm.Cond.code ({ cls := "WatchStackModel", name := "kinds", desc := "(I)I" } : Jvm.MethodName) prog_18_method_114_code (4 : Nat) (Option.some Jvm.ClassFile.FieldType.int)) ∈ lw_all := lw_g (lw_at lw_m9 210 rfl) rfl
theorem q2267 : (Jvm.Cond.constantLong "WatchStackModel" (529 : Nat) (7 : Int64)) ∈ lw_all := lw_g (lw_at lw_m9 211 rfl) rfl
theorem q2269 : (Jvm.Cond.instanceMethod ({ cls := "WatchStackModel", name := "levels", desc := "(II)I" } : Jvm.MethodName)) ∈ lw_all := lw_g (lw_at lw_m9 213 rfl) rfl
theorem q2270 : (Jvm.Cond.selects "WatchStackModel" ({ cls := "WatchStackModel", name := "levels", desc := "(II)I" } : Jvm.MethodName) ({ cls := "WatchStackModel", name := "levels", desc := "(II)I" } : Jvm.MethodName)) ∈ lw_all := lw_g (lw_at lw_m9 214 rfl) rfl
theorem q2271 : (Jvm.Cond.code ({ cls := "WatchStackModel", name := "levels", desc := "(II)I" } : Jvm.MethodName) prog_18_method_115_code (5 : Nat) (Option.some Jvm.ClassFile.FieldType.int)) ∈ lw_all := lw_g (lw_at lw_m9 215 rfl) rfl
theorem q2273 : (Jvm.Cond.instanceMethod ({ cls := "WatchStackModel", name := "halts", desc := "()I" } : Jvm.MethodName)) ∈ lw_all := lw_g (lw_at lw_m9 217 rfl) rfl
theorem q2274 : (Jvm.Cond.selects "WatchStackModel" ({ cls := "WatchStackModel", name := "halts", desc := "()I" } : Jvm.MethodName) ({ cls := "WatchStackModel", name := "halts", desc := "()I" } : Jvm.MethodName)) ∈ lw_all := lw_g (lw_at lw_m9 218 rfl) rfl
theorem q2275 : (Jvm.Cond.code ({ cls := "WatchStackModel", name := "halts", desc := "()I" } : Jvm.MethodName) prog_18_method_116_code (1 : Nat) (Option.some Jvm.ClassFile.FieldType.int)) ∈ lw_all := lw_g (lw_at lw_m9 219 rfl) rfl
theorem q2277 : (Jvm.Cond.instanceMethod ({ cls := "WatchStackModel", name := "sleeps", desc := "(II)I" } : Jvm.MethodName)) ∈ lw_all := lw_g (lw_at lw_m9 221 rfl) rfl
theorem q2278 : (Jvm.Cond.selects "WatchStackModel" ({ cls := "WatchStackModel", name := "sleeps", desc := "(II)I" } : Jvm.MethodName) ({ cls := "WatchStackModel", name := "sleeps", desc := "(II)I" } : Jvm.MethodName)) ∈ lw_all := lw_g (lw_at lw_m9 222 rfl) rfl
theorem q2279 : (Jvm.Cond.code ({ cls := "WatchStackModel", name := "sleeps", desc := "(II)I" } : Jvm.MethodName) prog_18_method_117_code (3 : Nat) (Option.some Jvm.ClassFile.FieldType.int)) ∈ lw_all := lw_g (lw_at lw_m9 223 rfl) rfl
theorem q2281 : (Jvm.Cond.instanceMethod ({ cls := "WatchStackModel", name := "caught", desc := "(I)I" } : Jvm.MethodName)) ∈ lw_all := lw_g (lw_at lw_m9 225 rfl) rfl
theorem q2282 : (Jvm.Cond.selects "WatchStackModel" ({ cls := "WatchStackModel", name := "caught", desc := "(I)I" } : Jvm.MethodName) ({ cls := "WatchStackModel", name := "caught", desc := "(I)I" } : Jvm.MethodName)) ∈ lw_all := lw_g (lw_at lw_m9 226 rfl) rfl
theorem q2283 : (Jvm.Cond.code ({ cls := "WatchStackModel", name := "caught", desc := "(I)I" } : Jvm.MethodName) prog_18_method_120_code (2 : Nat) (Option.some Jvm.ClassFile.FieldType.int)) ∈ lw_all := lw_g (lw_at lw_m9 227 rfl) rfl
theorem q2284 : (Jvm.Cond.methodLink "WatchStackModel" (531 : Nat) ({ cls := "WatchStackModel", name := "isInjection", desc := "(I)Z" } : Jvm.MethodName)) ∈ lw_all := lw_g (lw_at lw_m9 228 rfl) rfl
theorem q2285 : (Jvm.Cond.privateMethod ({ cls := "WatchStackModel", name := "isInjection", desc := "(I)Z" } : Jvm.MethodName)) ∈ lw_tbl := lw_at lw_m9 229 rfl
theorem q2286 : (Jvm.Cond.instanceMethod ({ cls := "WatchStackModel", name := "isInjection", desc := "(I)Z" } : Jvm.MethodName)) ∈ lw_all := lw_g (lw_at lw_m9 230 rfl) rfl
theorem q2287 : (Jvm.Cond.code ({ cls := "WatchStackModel", name := "isInjection", desc := "(I)Z" } : Jvm.MethodName) prog_18_method_119_code (2 : Nat) (Option.some Jvm.ClassFile.FieldType.boolean)) ∈ lw_all := lw_g (lw_at lw_m9 231 rfl) rfl
theorem q2288 : (Jvm.Cond.methodLink "WatchStackModel" (534 : Nat) ({ cls := "WatchStackModel", name := "caughtIn", desc := "(I)I" } : Jvm.MethodName)) ∈ lw_all := lw_g (lw_at lw_m9 232 rfl) rfl
theorem q2289 : (Jvm.Cond.privateMethod ({ cls := "WatchStackModel", name := "caughtIn", desc := "(I)I" } : Jvm.MethodName)) ∈ lw_tbl := lw_at lw_m9 233 rfl
theorem q2290 : (Jvm.Cond.instanceMethod ({ cls := "WatchStackModel", name := "caughtIn", desc := "(I)I" } : Jvm.MethodName)) ∈ lw_all := lw_g (lw_at lw_m9 234 rfl) rfl
theorem q2291 : (Jvm.Cond.code ({ cls := "WatchStackModel", name := "caughtIn", desc := "(I)I" } : Jvm.MethodName) prog_18_method_118_code (7 : Nat) (Option.some Jvm.ClassFile.FieldType.int)) ∈ lw_all := lw_g (lw_at lw_m9 235 rfl) rfl
theorem q2293 : (Jvm.Cond.instanceMethod ({ cls := "WatchStackModel", name := "without", desc := "(I)I" } : Jvm.MethodName)) ∈ lw_all := lw_g (lw_at lw_m9 237 rfl) rfl
theorem q2294 : (Jvm.Cond.selects "WatchStackModel" ({ cls := "WatchStackModel", name := "without", desc := "(I)I" } : Jvm.MethodName) ({ cls := "WatchStackModel", name := "without", desc := "(I)I" } : Jvm.MethodName)) ∈ lw_all := lw_g (lw_at lw_m9 238 rfl) rfl
theorem q2295 : (Jvm.Cond.code ({ cls := "WatchStackModel", name := "without", desc := "(I)I" } : Jvm.MethodName) prog_18_method_122_code (2 : Nat) (Option.some Jvm.ClassFile.FieldType.int)) ∈ lw_all := lw_g (lw_at lw_m9 239 rfl) rfl
theorem q2296 : (Jvm.Cond.methodLink "WatchStackModel" (537 : Nat) ({ cls := "WatchStackModel", name := "recordsWithout", desc := "(I)I" } : Jvm.MethodName)) ∈ lw_all := lw_g (lw_at lw_m10 0 rfl) rfl
theorem q2297 : (Jvm.Cond.privateMethod ({ cls := "WatchStackModel", name := "recordsWithout", desc := "(I)I" } : Jvm.MethodName)) ∈ lw_tbl := lw_at lw_m10 1 rfl
theorem q2298 : (Jvm.Cond.instanceMethod ({ cls := "WatchStackModel", name := "recordsWithout", desc := "(I)I" } : Jvm.MethodName)) ∈ lw_all := lw_g (lw_at lw_m10 2 rfl) rfl
theorem q2299 : (Jvm.Cond.code ({ cls := "WatchStackModel", name := "recordsWithout", desc := "(I)I" } : Jvm.MethodName) prog_18_method_121_code (2 : Nat) (Option.some Jvm.ClassFile.FieldType.int)) ∈ lw_all := lw_g (lw_at lw_m10 3 rfl) rfl
theorem q2301 : (Jvm.Cond.instanceMethod ({ cls := "WatchStackModel", name := "blame", desc := "()I" } : Jvm.MethodName)) ∈ lw_all := lw_g (lw_at lw_m10 5 rfl) rfl
theorem q2302 : (Jvm.Cond.selects "WatchStackModel" ({ cls := "WatchStackModel", name := "blame", desc := "()I" } : Jvm.MethodName) ({ cls := "WatchStackModel", name := "blame", desc := "()I" } : Jvm.MethodName)) ∈ lw_all := lw_g (lw_at lw_m10 6 rfl) rfl
theorem q2303 : (Jvm.Cond.code ({ cls := "WatchStackModel", name := "blame", desc := "()I" } : Jvm.MethodName) prog_18_method_123_code (5 : Nat) (Option.some Jvm.ClassFile.FieldType.int)) ∈ lw_all := lw_g (lw_at lw_m10 7 rfl) rfl
theorem q2305 : (Jvm.Cond.instanceMethod ({ cls := "WatchStackModel", name := "with", desc := "(III)I" } : Jvm.MethodName)) ∈ lw_all := lw_g (lw_at lw_m10 9 rfl) rfl
theorem q2306 : (Jvm.Cond.selects "WatchStackModel" ({ cls := "WatchStackModel", name := "with", desc := "(III)I" } : Jvm.MethodName) ({ cls := "WatchStackModel", name := "with", desc := "(III)I" } : Jvm.MethodName)) ∈ lw_all := lw_g (lw_at lw_m10 10 rfl) rfl
theorem q2307 : (Jvm.Cond.code ({ cls := "WatchStackModel", name := "with", desc := "(III)I" } : Jvm.MethodName) prog_18_method_125_code (4 : Nat) (Option.some Jvm.ClassFile.FieldType.int)) ∈ lw_all := lw_g (lw_at lw_m10 11 rfl) rfl
theorem q2308 : (Jvm.Cond.constantLong "WatchStackModel" (540 : Nat) (99 : Int64)) ∈ lw_all := lw_g (lw_at lw_m10 12 rfl) rfl
theorem q2309 : (Jvm.Cond.constantLong "WatchStackModel" (542 : Nat) (120 : Int64)) ∈ lw_all := lw_g (lw_at lw_m10 13 rfl) rfl
theorem q2310 : (Jvm.Cond.methodLink "WatchStackModel" (544 : Nat) ({ cls := "WatchStackModel", name := "recordsWith", desc := "(III)I" } : Jvm.MethodName)) ∈ lw_all := lw_g (lw_at lw_m10 14 rfl) rfl
theorem q2311 : (Jvm.Cond.privateMethod ({ cls := "WatchStackModel", name := "recordsWith", desc := "(III)I" } : Jvm.MethodName)) ∈ lw_tbl := lw_at lw_m10 15 rfl
theorem q2312 : (Jvm.Cond.instanceMethod ({ cls := "WatchStackModel", name := "recordsWith", desc := "(III)I" } : Jvm.MethodName)) ∈ lw_all := lw_g (lw_at lw_m10 16 rfl) rfl
theorem q2313 : (Jvm.Cond.code ({ cls := "WatchStackModel", name := "recordsWith", desc := "(III)I" } : Jvm.MethodName) prog_18_method_124_code (4 : Nat) (Option.some Jvm.ClassFile.FieldType.int)) ∈ lw_all := lw_g (lw_at lw_m10 17 rfl) rfl
theorem q2315 : (Jvm.Cond.instanceMethod ({ cls := "WatchStackModel", name := "tight", desc := "(I)I" } : Jvm.MethodName)) ∈ lw_all := lw_g (lw_at lw_m10 19 rfl) rfl
theorem q2316 : (Jvm.Cond.selects "WatchStackModel" ({ cls := "WatchStackModel", name := "tight", desc := "(I)I" } : Jvm.MethodName) ({ cls := "WatchStackModel", name := "tight", desc := "(I)I" } : Jvm.MethodName)) ∈ lw_all := lw_g (lw_at lw_m10 20 rfl) rfl
theorem q2317 : (Jvm.Cond.code ({ cls := "WatchStackModel", name := "tight", desc := "(I)I" } : Jvm.MethodName) prog_18_method_126_code (4 : Nat) (Option.some Jvm.ClassFile.FieldType.int)) ∈ lw_all := lw_g (lw_at lw_m10 21 rfl) rfl
theorem q2319 : (Jvm.Cond.instanceMethod ({ cls := "WatchStackModel", name := "loose", desc := "(I)I" } : Jvm.MethodName)) ∈ lw_all := lw_g (lw_at lw_m10 23 rfl) rfl
theorem q2320 : (Jvm.Cond.selects "WatchStackModel" ({ cls := "WatchStackModel", name := "loose", desc := "(I)I" } : Jvm.MethodName) ({ cls := "WatchStackModel", name := "loose", desc := "(I)I" } : Jvm.MethodName)) ∈ lw_all := lw_g (lw_at lw_m10 24 rfl) rfl
theorem q2321 : (Jvm.Cond.code ({ cls := "WatchStackModel", name := "loose", desc := "(I)I" } : Jvm.MethodName) prog_18_method_127_code (4 : Nat) (Option.some Jvm.ClassFile.FieldType.int)) ∈ lw_all := lw_g (lw_at lw_m10 25 rfl) rfl
theorem q2323 : (Jvm.Cond.instanceMethod ({ cls := "WatchStackModel", name := "longest", desc := "(II)I" } : Jvm.MethodName)) ∈ lw_all := lw_g (lw_at lw_m10 27 rfl) rfl
theorem q2324 : (Jvm.Cond.selects "WatchStackModel" ({ cls := "WatchStackModel", name := "longest", desc := "(II)I" } : Jvm.MethodName) ({ cls := "WatchStackModel", name := "longest", desc := "(II)I" } : Jvm.MethodName)) ∈ lw_all := lw_g (lw_at lw_m10 28 rfl) rfl
theorem q2325 : (Jvm.Cond.code ({ cls := "WatchStackModel", name := "longest", desc := "(II)I" } : Jvm.MethodName) prog_18_method_130_code (3 : Nat) (Option.some Jvm.ClassFile.FieldType.int)) ∈ lw_all := lw_g (lw_at lw_m10 29 rfl) rfl
theorem q2326 : (Jvm.Cond.methodLink "WatchStackModel" (556 : Nat) ({ cls := "WatchStackModel", name := "asksExtras", desc := "(II)Z" } : Jvm.MethodName)) ∈ lw_all := lw_g (lw_at lw_m10 30 rfl) rfl
theorem q2327 : (Jvm.Cond.privateMethod ({ cls := "WatchStackModel", name := "asksExtras", desc := "(II)Z" } : Jvm.MethodName)) ∈ lw_tbl := lw_at lw_m10 31 rfl
theorem q2328 : (Jvm.Cond.instanceMethod ({ cls := "WatchStackModel", name := "asksExtras", desc := "(II)Z" } : Jvm.MethodName)) ∈ lw_all := lw_g (lw_at lw_m10 32 rfl) rfl
theorem q2329 : (Jvm.Cond.code ({ cls := "WatchStackModel", name := "asksExtras", desc := "(II)Z" } : Jvm.MethodName) prog_18_method_129_code (6 : Nat) (Option.some Jvm.ClassFile.FieldType.boolean)) ∈ lw_all := lw_g (lw_at lw_m10 33 rfl) rfl
theorem q2330 : (Jvm.Cond.methodLink "WatchStackModel" (553 : Nat) ({ cls := "WatchStackModel", name := "extra", desc := "(IIII)V" } : Jvm.MethodName)) ∈ lw_all := lw_g (lw_at lw_m10 34 rfl) rfl
theorem q2331 : (Jvm.Cond.privateMethod ({ cls := "WatchStackModel", name := "extra", desc := "(IIII)V" } : Jvm.MethodName)) ∈ lw_tbl := lw_at lw_m10 35 rfl
theorem q2332 : (Jvm.Cond.instanceMethod ({ cls := "WatchStackModel", name := "extra", desc := "(IIII)V" } : Jvm.MethodName)) ∈ lw_all := lw_g (lw_at lw_m10 36 rfl) rfl
theorem q2333 : (Jvm.Cond.code ({ cls := "WatchStackModel", name := "extra", desc := "(IIII)V" } : Jvm.MethodName) prog_18_method_128_code (7 : Nat) (Option.none : Option Jvm.ClassFile.FieldType)) ∈ lw_all := lw_g (lw_at lw_m10 37 rfl) rfl
theorem q2335 : (Jvm.Cond.instanceMethod ({ cls := "WatchStackModel", name := "silent", desc := "(II)I" } : Jvm.MethodName)) ∈ lw_all := lw_g (lw_at lw_m10 39 rfl) rfl
theorem q2336 : (Jvm.Cond.selects "WatchStackModel" ({ cls := "WatchStackModel", name := "silent", desc := "(II)I" } : Jvm.MethodName) ({ cls := "WatchStackModel", name := "silent", desc := "(II)I" } : Jvm.MethodName)) ∈ lw_all := lw_g (lw_at lw_m10 40 rfl) rfl
theorem q2337 : (Jvm.Cond.code ({ cls := "WatchStackModel", name := "silent", desc := "(II)I" } : Jvm.MethodName) prog_18_method_131_code (3 : Nat) (Option.some Jvm.ClassFile.FieldType.int)) ∈ lw_all := lw_g (lw_at lw_m10 41 rfl) rfl
theorem q2339 : (Jvm.Cond.instanceMethod ({ cls := "WatchStackModel", name := "inject", desc := "(IIIII)I" } : Jvm.MethodName)) ∈ lw_all := lw_g (lw_at lw_m10 43 rfl) rfl
theorem q2340 : (Jvm.Cond.selects "WatchStackModel" ({ cls := "WatchStackModel", name := "inject", desc := "(IIIII)I" } : Jvm.MethodName) ({ cls := "WatchStackModel", name := "inject", desc := "(IIIII)I" } : Jvm.MethodName)) ∈ lw_all := lw_g (lw_at lw_m10 44 rfl) rfl
theorem q2341 : (Jvm.Cond.code ({ cls := "WatchStackModel", name := "inject", desc := "(IIIII)I" } : Jvm.MethodName) prog_18_method_133_code (7 : Nat) (Option.some Jvm.ClassFile.FieldType.int)) ∈ lw_all := lw_g (lw_at lw_m10 45 rfl) rfl
theorem q2342 : (Jvm.Cond.methodLink "WatchStackModel" (563 : Nat) ({ cls := "WatchStackModel", name := "canInject", desc := "(IIIII)Z" } : Jvm.MethodName)) ∈ lw_all := lw_g (lw_at lw_m10 46 rfl) rfl
theorem q2343 : (Jvm.Cond.privateMethod ({ cls := "WatchStackModel", name := "canInject", desc := "(IIIII)Z" } : Jvm.MethodName)) ∈ lw_tbl := lw_at lw_m10 47 rfl
theorem q2344 : (Jvm.Cond.instanceMethod ({ cls := "WatchStackModel", name := "canInject", desc := "(IIIII)Z" } : Jvm.MethodName)) ∈ lw_all := lw_g (lw_at lw_m10 48 rfl) rfl
theorem q2345 : (Jvm.Cond.code ({ cls := "WatchStackModel", name := "canInject", desc := "(IIIII)Z" } : Jvm.MethodName) prog_18_method_132_code (6 : Nat) (Option.some Jvm.ClassFile.FieldType.boolean)) ∈ lw_all := lw_g (lw_at lw_m10 49 rfl) rfl
theorem q2346 : (Jvm.Cond.constantLong "WatchStackModel" (559 : Nat) (199 : Int64)) ∈ lw_all := lw_g (lw_at lw_m10 50 rfl) rfl
theorem q2347 : (Jvm.Cond.constantLong "WatchStackModel" (561 : Nat) (9 : Int64)) ∈ lw_all := lw_g (lw_at lw_m10 51 rfl) rfl
theorem q2349 : (Jvm.Cond.instanceMethod ({ cls := "WatchStackModel", name := "undo", desc := "()I" } : Jvm.MethodName)) ∈ lw_all := lw_g (lw_at lw_m10 53 rfl) rfl
theorem q2350 : (Jvm.Cond.selects "WatchStackModel" ({ cls := "WatchStackModel", name := "undo", desc := "()I" } : Jvm.MethodName) ({ cls := "WatchStackModel", name := "undo", desc := "()I" } : Jvm.MethodName)) ∈ lw_all := lw_g (lw_at lw_m10 54 rfl) rfl
theorem q2351 : (Jvm.Cond.code ({ cls := "WatchStackModel", name := "undo", desc := "()I" } : Jvm.MethodName) prog_18_method_134_code (1 : Nat) (Option.some Jvm.ClassFile.FieldType.int)) ∈ lw_all := lw_g (lw_at lw_m10 55 rfl) rfl
theorem q2353 : (Jvm.Cond.instanceMethod ({ cls := "WatchStackModel", name := "anew", desc := "()I" } : Jvm.MethodName)) ∈ lw_all := lw_g (lw_at lw_m10 57 rfl) rfl
theorem q2354 : (Jvm.Cond.selects "WatchStackModel" ({ cls := "WatchStackModel", name := "anew", desc := "()I" } : Jvm.MethodName) ({ cls := "WatchStackModel", name := "anew", desc := "()I" } : Jvm.MethodName)) ∈ lw_all := lw_g (lw_at lw_m10 58 rfl) rfl
theorem q2355 : (Jvm.Cond.code ({ cls := "WatchStackModel", name := "anew", desc := "()I" } : Jvm.MethodName) prog_18_method_135_code (2 : Nat) (Option.some Jvm.ClassFile.FieldType.int)) ∈ lw_all := lw_g (lw_at lw_m10 59 rfl) rfl
theorem q2357 : (Jvm.Cond.instanceMethod ({ cls := "WatchStackModel", name := "count", desc := "(I)I" } : Jvm.MethodName)) ∈ lw_all := lw_g (lw_at lw_m10 61 rfl) rfl
theorem q2358 : (Jvm.Cond.selects "WatchStackModel" ({ cls := "WatchStackModel", name := "count", desc := "(I)I" } : Jvm.MethodName) ({ cls := "WatchStackModel", name := "count", desc := "(I)I" } : Jvm.MethodName)) ∈ lw_all := lw_g (lw_at lw_m10 62 rfl) rfl
theorem q2359 : (Jvm.Cond.code ({ cls := "WatchStackModel", name := "count", desc := "(I)I" } : Jvm.MethodName) prog_18_method_136_code (2 : Nat) (Option.some Jvm.ClassFile.FieldType.int)) ∈ lw_all := lw_g (lw_at lw_m10 63 rfl) rfl
theorem q2375 : (Jvm.Cond.castable "WatchStackModel" "java/lang/Object") ∈ lw_tbl := lw_at lw_m10 79 rfl
theorem in_X10 : ∀ w ∈ wsX100, w ∈ lw_all := lw_in wsX100 [1650, 1652, 1654, 1656, 1658, 1660, 1662, 1664, 1666, 1668, 1670, 1672, 1674, 1676, 1678, 1680, 1682, 1684, 1686, 1688, 1690, 1692, 1694, 1696, 1698, 1700, 1702, 1704, 1706, 1708, 1710, 1712, 1714, 1716, 1718, 1720, 1722, 1724, 1726, 1728, 1730, 1732, 1734, 1736, 1738, 1740, 1742, 1744, 1746, 1748, 1750, 1752, 1754, 1756, 1758, 1760, 1762, 1764, 1766, 1768, 1770, 1772] (by decide +kernel) (by decide +kernel)

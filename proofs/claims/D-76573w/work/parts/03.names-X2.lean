/-! ShieldLineModel -/
set_option maxRecDepth 100000
def RX2 : String := "ShieldLineModel"
def TX2 : u_T := fun k => match k with
  | 0 => ("ShieldLineModel", "now", "[I", true)
  | 1 => ("ShieldLineModel", "minds", "[I", true)
  | 2 => ("ShieldLineModel", "many", "I", false)
  | 3 => ("ShieldLineModel", "changed", "[I", true)
  | 4 => ("ShieldLineModel", "old", "[I", true)
  | 5 => ("ShieldLineModel", "young", "[I", true)
  | 6 => ("ShieldLineModel", "done", "I", false)
  | 7 => ("ShieldLineModel", "known", "I", false)
  | 8 => ("ShieldLineModel", "tape", "[I", true)
  | 9 => ("ShieldLineModel", "taped", "I", false)
  | 10 => ("ShieldLineModel", "text", "[I", true)
  | 11 => ("ShieldLineModel", "texted", "I", false)
  | 12 => ("ShieldLineModel", "isLaw", "Z", false)
  | 13 => ("ShieldLineModel", "read", "[I", true)
  | 14 => ("ShieldLineModel", "size", "I", false)
  | 15 => ("ShieldLineModel", "at", "I", false)
  | 16 => ("ShieldLineModel", "well", "Z", false)
  | 17 => ("ShieldLineModel", "open", "I", false)
  | 18 => ("ShieldLineModel", "names", "[I", true)
  | 19 => ("ShieldLineModel", "letters", "[C", true)
  | 20 => ("ShieldLineModel", "gone", "I", false)
  | 21 => ("ShieldLineModel", "more", "[I", true)
  | 22 => ("ShieldLineModel", "came", "I", false)
  | 23 => ("ShieldLineModel", "whom", "[I", true)
  | 24 => ("ShieldLineModel", "best", "[I", true)
  | 25 => ("ShieldLineModel", "fewest", "I", false)
  | 26 => ("ShieldLineModel", "most", "I", false)
  | 27 => ("ShieldLineModel", "days", "I", false)
  | 28 => ("ShieldLineModel", "holds", "[I", true)
  | 29 => ("ShieldLineModel", "sizes", "[I", true)
  | 30 => ("ShieldLineModel", "elements", "[J", true)
  | 31 => ("ShieldLineModel", "moved", "[J", true)
  | 32 => ("ShieldLineModel", "begun", "I", false)
  | 33 => ("ShieldLineModel", "led", "[I", true)
  | 34 => ("ShieldLineModel", "kept", "[I", true)
  | 35 => ("ShieldLineModel", "keptLed", "[I", true)
  | 36 => ("ShieldLineModel", "keptMany", "I", false)
  | 37 => ("ShieldLineModel", "isKept", "Z", false)
  | 38 => ("ShieldLineModel", "above", "[I", true)
  | 39 => ("ShieldLineModel", "acts", "[I", true)
  | 40 => ("ShieldLineModel", "kinds", "[I", true)
  | 41 => ("ShieldLineModel", "bodies", "I", false)
  | 42 => ("ShieldLineModel", "trace", "[I", true)
  | _ => ("ShieldLineModel", "ran", "I", false)
def tyX2 : Nat → FieldType := fun k => match k with
  | 0 => .array .int
  | 1 => .array .int
  | 2 => .int
  | 3 => .array .int
  | 4 => .array .int
  | 5 => .array .int
  | 6 => .int
  | 7 => .int
  | 8 => .array .int
  | 9 => .int
  | 10 => .array .int
  | 11 => .int
  | 12 => .boolean
  | 13 => .array .int
  | 14 => .int
  | 15 => .int
  | 16 => .boolean
  | 17 => .int
  | 18 => .array .int
  | 19 => .array .char
  | 20 => .int
  | 21 => .array .int
  | 22 => .int
  | 23 => .array .int
  | 24 => .array .int
  | 25 => .int
  | 26 => .int
  | 27 => .int
  | 28 => .array .int
  | 29 => .array .int
  | 30 => .array .long
  | 31 => .array .long
  | 32 => .int
  | 33 => .array .int
  | 34 => .array .int
  | 35 => .array .int
  | 36 => .int
  | 37 => .boolean
  | 38 => .array .int
  | 39 => .array .int
  | 40 => .array .int
  | 41 => .int
  | 42 => .array .int
  | _ => .int
abbrev wsX20 : List Cond := u_ws RX2 TX2 44
set_option maxRecDepth 100000 in
theorem nmX2 : ∀ a, a < 44 → ∀ b, b < 44 → a ≠ b → (TX2 a).2.1 ≠ (TX2 b).2.1 := by decide +kernel
set_option maxRecDepth 100000 in
theorem tyX2_ok : ∀ k, k < 44 → parseFieldDescriptor (TX2 k).2.2.1 = some (tyX2 k) := by decide +kernel
abbrev cX2_init : ByteArray := prog_31_method_1_code
def yX2_init : MethodName := ⟨RX2, "<init>", "()V"⟩
def dkwX2_init_19 : List UInt8 := [181, 0, 89, 177]
abbrev dktX2_init_19 : List UInt8 := dkwX2_init_19 ++ []
def dkwX2_init_18 : List UInt8 := [79, 89, 16, 31, 16, 81, 79, 181, 0, 83, 42, 16, 50, 188, 10, 181, 0, 86, 42, 16, 24, 188, 10]
abbrev dktX2_init_18 : List UInt8 := dkwX2_init_18 ++ dktX2_init_19
def dkwX2_init_17 : List UInt8 := [16, 26, 3, 79, 89, 16, 27, 3, 79, 89, 16, 28, 3, 79, 89, 16, 29, 16, 80, 79, 89, 16, 30, 3]
abbrev dktX2_init_17 : List UInt8 := dkwX2_init_17 ++ dktX2_init_18
def dkwX2_init_16 : List UInt8 := [79, 89, 16, 22, 3, 79, 89, 16, 23, 16, 60, 79, 89, 16, 24, 16, 70, 79, 89, 16, 25, 3, 79, 89]
abbrev dktX2_init_16 : List UInt8 := dkwX2_init_16 ++ dktX2_init_17
def dkwX2_init_15 : List UInt8 := [16, 17, 3, 79, 89, 16, 18, 16, 50, 79, 89, 16, 19, 3, 79, 89, 16, 20, 3, 79, 89, 16, 21, 3]
abbrev dktX2_init_15 : List UInt8 := dkwX2_init_15 ++ dktX2_init_16
def dkwX2_init_14 : List UInt8 := [79, 89, 16, 13, 16, 41, 79, 89, 16, 14, 16, 40, 79, 89, 16, 15, 3, 79, 89, 16, 16, 3, 79, 89]
abbrev dktX2_init_14 : List UInt8 := dkwX2_init_14 ++ dktX2_init_15
def dkwX2_init_13 : List UInt8 := [16, 8, 3, 79, 89, 16, 9, 16, 30, 79, 89, 16, 10, 3, 79, 89, 16, 11, 3, 79, 89, 16, 12, 3]
abbrev dktX2_init_13 : List UInt8 := dkwX2_init_13 ++ dktX2_init_14
def dkwX2_init_12 : List UInt8 := [6, 5, 79, 89, 7, 16, 20, 79, 89, 8, 3, 79, 89, 16, 6, 3, 79, 89, 16, 7, 3, 79, 89]
abbrev dktX2_init_12 : List UInt8 := dkwX2_init_12 ++ dktX2_init_13
def dkwX2_init_11 : List UInt8 := [79, 181, 0, 80, 42, 16, 32, 188, 10, 89, 3, 4, 79, 89, 4, 16, 10, 79, 89, 5, 16, 11, 79, 89]
abbrev dktX2_init_11 : List UInt8 := dkwX2_init_11 ++ dktX2_init_12
def dkwX2_init_10 : List UInt8 := [5, 3, 79, 89, 6, 5, 79, 89, 7, 4, 79, 89, 8, 6, 79, 89, 16, 6, 3, 79, 89, 16, 7, 7]
abbrev dktX2_init_10 : List UInt8 := dkwX2_init_10 ++ dktX2_init_11
def dkwX2_init_9 : List UInt8 := [181, 0, 74, 42, 8, 188, 10, 181, 0, 77, 42, 16, 8, 188, 10, 89, 3, 2, 79, 89, 4, 3, 79, 89]
abbrev dktX2_init_9 : List UInt8 := dkwX2_init_9 ++ dktX2_init_10
def dkwX2_init_8 : List UInt8 := [181, 0, 64, 42, 16, 60, 188, 11, 181, 0, 68, 42, 8, 188, 10, 181, 0, 71, 42, 16, 42, 188, 10]
abbrev dktX2_init_8 : List UInt8 := dkwX2_init_8 ++ dktX2_init_9
def dkwX2_init_7 : List UInt8 := [79, 89, 8, 2, 79, 181, 0, 58, 42, 16, 6, 188, 10, 181, 0, 61, 42, 17, 1, 104, 188, 11]
abbrev dktX2_init_7 : List UInt8 := dkwX2_init_7 ++ dktX2_init_8
def dkwX2_init_6 : List UInt8 := [42, 16, 6, 188, 10, 89, 3, 2, 79, 89, 4, 2, 79, 89, 5, 2, 79, 89, 6, 2, 79, 89, 7, 2]
abbrev dktX2_init_6 : List UInt8 := dkwX2_init_6 ++ dktX2_init_7
def dkwX2_init_5 : List UInt8 := [42, 16, 8, 188, 10, 181, 0, 49, 42, 16, 8, 188, 10, 181, 0, 52, 42, 16, 8, 188, 10, 181, 0, 55]
abbrev dktX2_init_5 : List UInt8 := dkwX2_init_5 ++ dktX2_init_6
def dkwX2_init_4 : List UInt8 := [85, 89, 6, 16, 107, 85, 89, 7, 16, 115, 85, 89, 8, 16, 116, 85, 181, 0, 41, 42, 2, 181, 0, 45]
abbrev dktX2_init_4 : List UInt8 := dkwX2_init_4 ++ dktX2_init_5
def dkwX2_init_3 : List UInt8 := [188, 10, 181, 0, 38, 42, 16, 6, 188, 5, 89, 3, 16, 103, 85, 89, 4, 16, 100, 85, 89, 5, 16, 110]
abbrev dktX2_init_3 : List UInt8 := dkwX2_init_3 ++ dktX2_init_4
def dkwX2_init_2 : List UInt8 := [188, 10, 181, 0, 29, 42, 16, 120, 188, 10, 181, 0, 32, 42, 16, 120, 188, 10, 181, 0, 35, 42, 16, 6]
abbrev dktX2_init_2 : List UInt8 := dkwX2_init_2 ++ dktX2_init_3
def dkwX2_init_1 : List UInt8 := [188, 10, 181, 0, 20, 42, 16, 40, 188, 10, 181, 0, 23, 42, 16, 40, 188, 10, 181, 0, 26, 42, 16, 120]
abbrev dktX2_init_1 : List UInt8 := dkwX2_init_1 ++ dktX2_init_2
def dkwX2_init_0 : List UInt8 := [42, 183, 0, 1, 42, 184, 0, 7, 181, 0, 13, 42, 17, 1, 38, 188, 10, 181, 0, 17, 42, 16, 40]
abbrev dktX2_init_0 : List UInt8 := dkwX2_init_0 ++ dktX2_init_1
theorem dksX2_init_0 : cX2_init.data.toList.drop 0 = dktX2_init_0 := by decide +kernel
theorem dksX2_init_1 : cX2_init.data.toList.drop 23 = dktX2_init_1 := dk_seg dksX2_init_0 23 rfl rfl
theorem dksX2_init_2 : cX2_init.data.toList.drop 47 = dktX2_init_2 := dk_seg dksX2_init_1 24 rfl rfl
theorem dksX2_init_3 : cX2_init.data.toList.drop 71 = dktX2_init_3 := dk_seg dksX2_init_2 24 rfl rfl
theorem dksX2_init_4 : cX2_init.data.toList.drop 95 = dktX2_init_4 := dk_seg dksX2_init_3 24 rfl rfl
theorem dksX2_init_5 : cX2_init.data.toList.drop 119 = dktX2_init_5 := dk_seg dksX2_init_4 24 rfl rfl
theorem dksX2_init_6 : cX2_init.data.toList.drop 143 = dktX2_init_6 := dk_seg dksX2_init_5 24 rfl rfl
theorem dksX2_init_7 : cX2_init.data.toList.drop 167 = dktX2_init_7 := dk_seg dksX2_init_6 24 rfl rfl
theorem dksX2_init_8 : cX2_init.data.toList.drop 189 = dktX2_init_8 := dk_seg dksX2_init_7 22 rfl rfl
theorem dksX2_init_9 : cX2_init.data.toList.drop 212 = dktX2_init_9 := dk_seg dksX2_init_8 23 rfl rfl
theorem dksX2_init_10 : cX2_init.data.toList.drop 236 = dktX2_init_10 := dk_seg dksX2_init_9 24 rfl rfl
theorem dksX2_init_11 : cX2_init.data.toList.drop 260 = dktX2_init_11 := dk_seg dksX2_init_10 24 rfl rfl
theorem dksX2_init_12 : cX2_init.data.toList.drop 284 = dktX2_init_12 := dk_seg dksX2_init_11 24 rfl rfl
theorem dksX2_init_13 : cX2_init.data.toList.drop 307 = dktX2_init_13 := dk_seg dksX2_init_12 23 rfl rfl
theorem dksX2_init_14 : cX2_init.data.toList.drop 331 = dktX2_init_14 := dk_seg dksX2_init_13 24 rfl rfl
theorem dksX2_init_15 : cX2_init.data.toList.drop 355 = dktX2_init_15 := dk_seg dksX2_init_14 24 rfl rfl
theorem dksX2_init_16 : cX2_init.data.toList.drop 379 = dktX2_init_16 := dk_seg dksX2_init_15 24 rfl rfl
theorem dksX2_init_17 : cX2_init.data.toList.drop 403 = dktX2_init_17 := dk_seg dksX2_init_16 24 rfl rfl
theorem dksX2_init_18 : cX2_init.data.toList.drop 427 = dktX2_init_18 := dk_seg dksX2_init_17 24 rfl rfl
theorem dksX2_init_19 : cX2_init.data.toList.drop 450 = dktX2_init_19 := dk_seg dksX2_init_18 23 rfl rfl
theorem dX2_init_0 : decode cX2_init 0 = .ok (.aload_n 0, 1) := dk_42 (dk_at dksX2_init_0 0 rfl rfl)
theorem dX2_init_1 : decode cX2_init 1 = .ok (.invokespecial 1, 3) := dk_183 0 1 (dk_at dksX2_init_0 1 rfl rfl)
theorem dX2_init_4 : decode cX2_init 4 = .ok (.aload_n 0, 1) := dk_42 (dk_at dksX2_init_0 4 rfl rfl)
theorem dX2_init_5 : decode cX2_init 5 = .ok (.invokestatic 7, 3) := dk_184 0 7 (dk_at dksX2_init_0 5 rfl rfl)
theorem dX2_init_8 : decode cX2_init 8 = .ok (.putfield 13, 3) := dk_181 0 13 (dk_at dksX2_init_0 8 rfl rfl)
theorem dX2_init_11 : decode cX2_init 11 = .ok (.aload_n 0, 1) := dk_42 (dk_at dksX2_init_0 11 rfl rfl)
theorem dX2_init_12 : decode cX2_init 12 = .ok (.sipush 294, 3) := dk_17 1 38 (dk_at dksX2_init_0 12 rfl rfl)
theorem dX2_init_15 : decode cX2_init 15 = .ok (.newarray .int, 2) := dk_188_10 (dk_at dksX2_init_0 15 rfl rfl)
theorem dX2_init_17 : decode cX2_init 17 = .ok (.putfield 17, 3) := dk_181 0 17 (dk_at dksX2_init_0 17 rfl rfl)
theorem dX2_init_20 : decode cX2_init 20 = .ok (.aload_n 0, 1) := dk_42 (dk_at dksX2_init_0 20 rfl rfl)
theorem dX2_init_21 : decode cX2_init 21 = .ok (.bipush 40, 2) := dk_16 40 (dk_at dksX2_init_0 21 rfl rfl)
theorem dX2_init_23 : decode cX2_init 23 = .ok (.newarray .int, 2) := dk_188_10 (dk_at dksX2_init_1 0 rfl rfl)
theorem dX2_init_25 : decode cX2_init 25 = .ok (.putfield 20, 3) := dk_181 0 20 (dk_at dksX2_init_1 2 rfl rfl)
theorem dX2_init_28 : decode cX2_init 28 = .ok (.aload_n 0, 1) := dk_42 (dk_at dksX2_init_1 5 rfl rfl)
theorem dX2_init_29 : decode cX2_init 29 = .ok (.bipush 40, 2) := dk_16 40 (dk_at dksX2_init_1 6 rfl rfl)
theorem dX2_init_31 : decode cX2_init 31 = .ok (.newarray .int, 2) := dk_188_10 (dk_at dksX2_init_1 8 rfl rfl)
theorem dX2_init_33 : decode cX2_init 33 = .ok (.putfield 23, 3) := dk_181 0 23 (dk_at dksX2_init_1 10 rfl rfl)
theorem dX2_init_36 : decode cX2_init 36 = .ok (.aload_n 0, 1) := dk_42 (dk_at dksX2_init_1 13 rfl rfl)
theorem dX2_init_37 : decode cX2_init 37 = .ok (.bipush 40, 2) := dk_16 40 (dk_at dksX2_init_1 14 rfl rfl)
theorem dX2_init_39 : decode cX2_init 39 = .ok (.newarray .int, 2) := dk_188_10 (dk_at dksX2_init_1 16 rfl rfl)
theorem dX2_init_41 : decode cX2_init 41 = .ok (.putfield 26, 3) := dk_181 0 26 (dk_at dksX2_init_1 18 rfl rfl)
theorem dX2_init_44 : decode cX2_init 44 = .ok (.aload_n 0, 1) := dk_42 (dk_at dksX2_init_1 21 rfl rfl)
theorem dX2_init_45 : decode cX2_init 45 = .ok (.bipush 120, 2) := dk_16 120 (dk_at dksX2_init_1 22 rfl rfl)
theorem dX2_init_47 : decode cX2_init 47 = .ok (.newarray .int, 2) := dk_188_10 (dk_at dksX2_init_2 0 rfl rfl)
theorem dX2_init_49 : decode cX2_init 49 = .ok (.putfield 29, 3) := dk_181 0 29 (dk_at dksX2_init_2 2 rfl rfl)
theorem dX2_init_52 : decode cX2_init 52 = .ok (.aload_n 0, 1) := dk_42 (dk_at dksX2_init_2 5 rfl rfl)
theorem dX2_init_53 : decode cX2_init 53 = .ok (.bipush 120, 2) := dk_16 120 (dk_at dksX2_init_2 6 rfl rfl)
theorem dX2_init_55 : decode cX2_init 55 = .ok (.newarray .int, 2) := dk_188_10 (dk_at dksX2_init_2 8 rfl rfl)
theorem dX2_init_57 : decode cX2_init 57 = .ok (.putfield 32, 3) := dk_181 0 32 (dk_at dksX2_init_2 10 rfl rfl)
theorem dX2_init_60 : decode cX2_init 60 = .ok (.aload_n 0, 1) := dk_42 (dk_at dksX2_init_2 13 rfl rfl)
theorem dX2_init_61 : decode cX2_init 61 = .ok (.bipush 120, 2) := dk_16 120 (dk_at dksX2_init_2 14 rfl rfl)
theorem dX2_init_63 : decode cX2_init 63 = .ok (.newarray .int, 2) := dk_188_10 (dk_at dksX2_init_2 16 rfl rfl)
theorem dX2_init_65 : decode cX2_init 65 = .ok (.putfield 35, 3) := dk_181 0 35 (dk_at dksX2_init_2 18 rfl rfl)
theorem dX2_init_68 : decode cX2_init 68 = .ok (.aload_n 0, 1) := dk_42 (dk_at dksX2_init_2 21 rfl rfl)
theorem dX2_init_69 : decode cX2_init 69 = .ok (.bipush 6, 2) := dk_16 6 (dk_at dksX2_init_2 22 rfl rfl)
theorem dX2_init_71 : decode cX2_init 71 = .ok (.newarray .int, 2) := dk_188_10 (dk_at dksX2_init_3 0 rfl rfl)
theorem dX2_init_73 : decode cX2_init 73 = .ok (.putfield 38, 3) := dk_181 0 38 (dk_at dksX2_init_3 2 rfl rfl)
theorem dX2_init_76 : decode cX2_init 76 = .ok (.aload_n 0, 1) := dk_42 (dk_at dksX2_init_3 5 rfl rfl)
theorem dX2_init_77 : decode cX2_init 77 = .ok (.bipush 6, 2) := dk_16 6 (dk_at dksX2_init_3 6 rfl rfl)
theorem dX2_init_79 : decode cX2_init 79 = .ok (.newarray .char, 2) := dk_188_5 (dk_at dksX2_init_3 8 rfl rfl)
theorem dX2_init_81 : decode cX2_init 81 = .ok (.dup, 1) := dk_89 (dk_at dksX2_init_3 10 rfl rfl)
theorem dX2_init_82 : decode cX2_init 82 = .ok (.iconst 0, 1) := dk_3 (dk_at dksX2_init_3 11 rfl rfl)
theorem dX2_init_83 : decode cX2_init 83 = .ok (.bipush 103, 2) := dk_16 103 (dk_at dksX2_init_3 12 rfl rfl)
theorem dX2_init_85 : decode cX2_init 85 = .ok (.castore, 1) := dk_85 (dk_at dksX2_init_3 14 rfl rfl)
theorem dX2_init_86 : decode cX2_init 86 = .ok (.dup, 1) := dk_89 (dk_at dksX2_init_3 15 rfl rfl)
theorem dX2_init_87 : decode cX2_init 87 = .ok (.iconst 1, 1) := dk_4 (dk_at dksX2_init_3 16 rfl rfl)
theorem dX2_init_88 : decode cX2_init 88 = .ok (.bipush 100, 2) := dk_16 100 (dk_at dksX2_init_3 17 rfl rfl)
theorem dX2_init_90 : decode cX2_init 90 = .ok (.castore, 1) := dk_85 (dk_at dksX2_init_3 19 rfl rfl)
theorem dX2_init_91 : decode cX2_init 91 = .ok (.dup, 1) := dk_89 (dk_at dksX2_init_3 20 rfl rfl)
theorem dX2_init_92 : decode cX2_init 92 = .ok (.iconst 2, 1) := dk_5 (dk_at dksX2_init_3 21 rfl rfl)
theorem dX2_init_93 : decode cX2_init 93 = .ok (.bipush 110, 2) := dk_16 110 (dk_at dksX2_init_3 22 rfl rfl)
theorem dX2_init_95 : decode cX2_init 95 = .ok (.castore, 1) := dk_85 (dk_at dksX2_init_4 0 rfl rfl)
theorem dX2_init_96 : decode cX2_init 96 = .ok (.dup, 1) := dk_89 (dk_at dksX2_init_4 1 rfl rfl)
theorem dX2_init_97 : decode cX2_init 97 = .ok (.iconst 3, 1) := dk_6 (dk_at dksX2_init_4 2 rfl rfl)
theorem dX2_init_98 : decode cX2_init 98 = .ok (.bipush 107, 2) := dk_16 107 (dk_at dksX2_init_4 3 rfl rfl)
theorem dX2_init_100 : decode cX2_init 100 = .ok (.castore, 1) := dk_85 (dk_at dksX2_init_4 5 rfl rfl)
theorem dX2_init_101 : decode cX2_init 101 = .ok (.dup, 1) := dk_89 (dk_at dksX2_init_4 6 rfl rfl)
theorem dX2_init_102 : decode cX2_init 102 = .ok (.iconst 4, 1) := dk_7 (dk_at dksX2_init_4 7 rfl rfl)
theorem dX2_init_103 : decode cX2_init 103 = .ok (.bipush 115, 2) := dk_16 115 (dk_at dksX2_init_4 8 rfl rfl)
theorem dX2_init_105 : decode cX2_init 105 = .ok (.castore, 1) := dk_85 (dk_at dksX2_init_4 10 rfl rfl)
theorem dX2_init_106 : decode cX2_init 106 = .ok (.dup, 1) := dk_89 (dk_at dksX2_init_4 11 rfl rfl)
theorem dX2_init_107 : decode cX2_init 107 = .ok (.iconst 5, 1) := dk_8 (dk_at dksX2_init_4 12 rfl rfl)
theorem dX2_init_108 : decode cX2_init 108 = .ok (.bipush 116, 2) := dk_16 116 (dk_at dksX2_init_4 13 rfl rfl)
theorem dX2_init_110 : decode cX2_init 110 = .ok (.castore, 1) := dk_85 (dk_at dksX2_init_4 15 rfl rfl)
theorem dX2_init_111 : decode cX2_init 111 = .ok (.putfield 41, 3) := dk_181 0 41 (dk_at dksX2_init_4 16 rfl rfl)
theorem dX2_init_114 : decode cX2_init 114 = .ok (.aload_n 0, 1) := dk_42 (dk_at dksX2_init_4 19 rfl rfl)
theorem dX2_init_115 : decode cX2_init 115 = .ok (.iconst (-1), 1) := dk_2 (dk_at dksX2_init_4 20 rfl rfl)
theorem dX2_init_116 : decode cX2_init 116 = .ok (.putfield 45, 3) := dk_181 0 45 (dk_at dksX2_init_4 21 rfl rfl)
theorem dX2_init_119 : decode cX2_init 119 = .ok (.aload_n 0, 1) := dk_42 (dk_at dksX2_init_5 0 rfl rfl)
theorem dX2_init_120 : decode cX2_init 120 = .ok (.bipush 8, 2) := dk_16 8 (dk_at dksX2_init_5 1 rfl rfl)
theorem dX2_init_122 : decode cX2_init 122 = .ok (.newarray .int, 2) := dk_188_10 (dk_at dksX2_init_5 3 rfl rfl)
theorem dX2_init_124 : decode cX2_init 124 = .ok (.putfield 49, 3) := dk_181 0 49 (dk_at dksX2_init_5 5 rfl rfl)
theorem dX2_init_127 : decode cX2_init 127 = .ok (.aload_n 0, 1) := dk_42 (dk_at dksX2_init_5 8 rfl rfl)
theorem dX2_init_128 : decode cX2_init 128 = .ok (.bipush 8, 2) := dk_16 8 (dk_at dksX2_init_5 9 rfl rfl)
theorem dX2_init_130 : decode cX2_init 130 = .ok (.newarray .int, 2) := dk_188_10 (dk_at dksX2_init_5 11 rfl rfl)
theorem dX2_init_132 : decode cX2_init 132 = .ok (.putfield 52, 3) := dk_181 0 52 (dk_at dksX2_init_5 13 rfl rfl)
theorem dX2_init_135 : decode cX2_init 135 = .ok (.aload_n 0, 1) := dk_42 (dk_at dksX2_init_5 16 rfl rfl)
theorem dX2_init_136 : decode cX2_init 136 = .ok (.bipush 8, 2) := dk_16 8 (dk_at dksX2_init_5 17 rfl rfl)
theorem dX2_init_138 : decode cX2_init 138 = .ok (.newarray .int, 2) := dk_188_10 (dk_at dksX2_init_5 19 rfl rfl)
theorem dX2_init_140 : decode cX2_init 140 = .ok (.putfield 55, 3) := dk_181 0 55 (dk_at dksX2_init_5 21 rfl rfl)
theorem dX2_init_143 : decode cX2_init 143 = .ok (.aload_n 0, 1) := dk_42 (dk_at dksX2_init_6 0 rfl rfl)
theorem dX2_init_144 : decode cX2_init 144 = .ok (.bipush 6, 2) := dk_16 6 (dk_at dksX2_init_6 1 rfl rfl)
theorem dX2_init_146 : decode cX2_init 146 = .ok (.newarray .int, 2) := dk_188_10 (dk_at dksX2_init_6 3 rfl rfl)
theorem dX2_init_148 : decode cX2_init 148 = .ok (.dup, 1) := dk_89 (dk_at dksX2_init_6 5 rfl rfl)
theorem dX2_init_149 : decode cX2_init 149 = .ok (.iconst 0, 1) := dk_3 (dk_at dksX2_init_6 6 rfl rfl)
theorem dX2_init_150 : decode cX2_init 150 = .ok (.iconst (-1), 1) := dk_2 (dk_at dksX2_init_6 7 rfl rfl)
theorem dX2_init_151 : decode cX2_init 151 = .ok (.iastore, 1) := dk_79 (dk_at dksX2_init_6 8 rfl rfl)
theorem dX2_init_152 : decode cX2_init 152 = .ok (.dup, 1) := dk_89 (dk_at dksX2_init_6 9 rfl rfl)
theorem dX2_init_153 : decode cX2_init 153 = .ok (.iconst 1, 1) := dk_4 (dk_at dksX2_init_6 10 rfl rfl)
theorem dX2_init_154 : decode cX2_init 154 = .ok (.iconst (-1), 1) := dk_2 (dk_at dksX2_init_6 11 rfl rfl)
theorem dX2_init_155 : decode cX2_init 155 = .ok (.iastore, 1) := dk_79 (dk_at dksX2_init_6 12 rfl rfl)
theorem dX2_init_156 : decode cX2_init 156 = .ok (.dup, 1) := dk_89 (dk_at dksX2_init_6 13 rfl rfl)
theorem dX2_init_157 : decode cX2_init 157 = .ok (.iconst 2, 1) := dk_5 (dk_at dksX2_init_6 14 rfl rfl)
theorem dX2_init_158 : decode cX2_init 158 = .ok (.iconst (-1), 1) := dk_2 (dk_at dksX2_init_6 15 rfl rfl)
theorem dX2_init_159 : decode cX2_init 159 = .ok (.iastore, 1) := dk_79 (dk_at dksX2_init_6 16 rfl rfl)
theorem dX2_init_160 : decode cX2_init 160 = .ok (.dup, 1) := dk_89 (dk_at dksX2_init_6 17 rfl rfl)
theorem dX2_init_161 : decode cX2_init 161 = .ok (.iconst 3, 1) := dk_6 (dk_at dksX2_init_6 18 rfl rfl)
theorem dX2_init_162 : decode cX2_init 162 = .ok (.iconst (-1), 1) := dk_2 (dk_at dksX2_init_6 19 rfl rfl)
theorem dX2_init_163 : decode cX2_init 163 = .ok (.iastore, 1) := dk_79 (dk_at dksX2_init_6 20 rfl rfl)
theorem dX2_init_164 : decode cX2_init 164 = .ok (.dup, 1) := dk_89 (dk_at dksX2_init_6 21 rfl rfl)
theorem dX2_init_165 : decode cX2_init 165 = .ok (.iconst 4, 1) := dk_7 (dk_at dksX2_init_6 22 rfl rfl)
theorem dX2_init_166 : decode cX2_init 166 = .ok (.iconst (-1), 1) := dk_2 (dk_at dksX2_init_6 23 rfl rfl)
theorem dX2_init_167 : decode cX2_init 167 = .ok (.iastore, 1) := dk_79 (dk_at dksX2_init_7 0 rfl rfl)
theorem dX2_init_168 : decode cX2_init 168 = .ok (.dup, 1) := dk_89 (dk_at dksX2_init_7 1 rfl rfl)
theorem dX2_init_169 : decode cX2_init 169 = .ok (.iconst 5, 1) := dk_8 (dk_at dksX2_init_7 2 rfl rfl)
theorem dX2_init_170 : decode cX2_init 170 = .ok (.iconst (-1), 1) := dk_2 (dk_at dksX2_init_7 3 rfl rfl)
theorem dX2_init_171 : decode cX2_init 171 = .ok (.iastore, 1) := dk_79 (dk_at dksX2_init_7 4 rfl rfl)
theorem dX2_init_172 : decode cX2_init 172 = .ok (.putfield 58, 3) := dk_181 0 58 (dk_at dksX2_init_7 5 rfl rfl)
theorem dX2_init_175 : decode cX2_init 175 = .ok (.aload_n 0, 1) := dk_42 (dk_at dksX2_init_7 8 rfl rfl)
theorem dX2_init_176 : decode cX2_init 176 = .ok (.bipush 6, 2) := dk_16 6 (dk_at dksX2_init_7 9 rfl rfl)
theorem dX2_init_178 : decode cX2_init 178 = .ok (.newarray .int, 2) := dk_188_10 (dk_at dksX2_init_7 11 rfl rfl)
theorem dX2_init_180 : decode cX2_init 180 = .ok (.putfield 61, 3) := dk_181 0 61 (dk_at dksX2_init_7 13 rfl rfl)
theorem dX2_init_183 : decode cX2_init 183 = .ok (.aload_n 0, 1) := dk_42 (dk_at dksX2_init_7 16 rfl rfl)
theorem dX2_init_184 : decode cX2_init 184 = .ok (.sipush 360, 3) := dk_17 1 104 (dk_at dksX2_init_7 17 rfl rfl)
theorem dX2_init_187 : decode cX2_init 187 = .ok (.newarray .long, 2) := dk_188_11 (dk_at dksX2_init_7 20 rfl rfl)
theorem dX2_init_189 : decode cX2_init 189 = .ok (.putfield 64, 3) := dk_181 0 64 (dk_at dksX2_init_8 0 rfl rfl)
theorem dX2_init_192 : decode cX2_init 192 = .ok (.aload_n 0, 1) := dk_42 (dk_at dksX2_init_8 3 rfl rfl)
theorem dX2_init_193 : decode cX2_init 193 = .ok (.bipush 60, 2) := dk_16 60 (dk_at dksX2_init_8 4 rfl rfl)
theorem dX2_init_195 : decode cX2_init 195 = .ok (.newarray .long, 2) := dk_188_11 (dk_at dksX2_init_8 6 rfl rfl)
theorem dX2_init_197 : decode cX2_init 197 = .ok (.putfield 68, 3) := dk_181 0 68 (dk_at dksX2_init_8 8 rfl rfl)
theorem dX2_init_200 : decode cX2_init 200 = .ok (.aload_n 0, 1) := dk_42 (dk_at dksX2_init_8 11 rfl rfl)
theorem dX2_init_201 : decode cX2_init 201 = .ok (.iconst 5, 1) := dk_8 (dk_at dksX2_init_8 12 rfl rfl)
theorem dX2_init_202 : decode cX2_init 202 = .ok (.newarray .int, 2) := dk_188_10 (dk_at dksX2_init_8 13 rfl rfl)
theorem dX2_init_204 : decode cX2_init 204 = .ok (.putfield 71, 3) := dk_181 0 71 (dk_at dksX2_init_8 15 rfl rfl)
theorem dX2_init_207 : decode cX2_init 207 = .ok (.aload_n 0, 1) := dk_42 (dk_at dksX2_init_8 18 rfl rfl)
theorem dX2_init_208 : decode cX2_init 208 = .ok (.bipush 42, 2) := dk_16 42 (dk_at dksX2_init_8 19 rfl rfl)
theorem dX2_init_210 : decode cX2_init 210 = .ok (.newarray .int, 2) := dk_188_10 (dk_at dksX2_init_8 21 rfl rfl)
theorem dX2_init_212 : decode cX2_init 212 = .ok (.putfield 74, 3) := dk_181 0 74 (dk_at dksX2_init_9 0 rfl rfl)
theorem dX2_init_215 : decode cX2_init 215 = .ok (.aload_n 0, 1) := dk_42 (dk_at dksX2_init_9 3 rfl rfl)
theorem dX2_init_216 : decode cX2_init 216 = .ok (.iconst 5, 1) := dk_8 (dk_at dksX2_init_9 4 rfl rfl)
theorem dX2_init_217 : decode cX2_init 217 = .ok (.newarray .int, 2) := dk_188_10 (dk_at dksX2_init_9 5 rfl rfl)
theorem dX2_init_219 : decode cX2_init 219 = .ok (.putfield 77, 3) := dk_181 0 77 (dk_at dksX2_init_9 7 rfl rfl)
theorem dX2_init_222 : decode cX2_init 222 = .ok (.aload_n 0, 1) := dk_42 (dk_at dksX2_init_9 10 rfl rfl)
theorem dX2_init_223 : decode cX2_init 223 = .ok (.bipush 8, 2) := dk_16 8 (dk_at dksX2_init_9 11 rfl rfl)
theorem dX2_init_225 : decode cX2_init 225 = .ok (.newarray .int, 2) := dk_188_10 (dk_at dksX2_init_9 13 rfl rfl)
theorem dX2_init_227 : decode cX2_init 227 = .ok (.dup, 1) := dk_89 (dk_at dksX2_init_9 15 rfl rfl)
theorem dX2_init_228 : decode cX2_init 228 = .ok (.iconst 0, 1) := dk_3 (dk_at dksX2_init_9 16 rfl rfl)
theorem dX2_init_229 : decode cX2_init 229 = .ok (.iconst (-1), 1) := dk_2 (dk_at dksX2_init_9 17 rfl rfl)
theorem dX2_init_230 : decode cX2_init 230 = .ok (.iastore, 1) := dk_79 (dk_at dksX2_init_9 18 rfl rfl)
theorem dX2_init_231 : decode cX2_init 231 = .ok (.dup, 1) := dk_89 (dk_at dksX2_init_9 19 rfl rfl)
theorem dX2_init_232 : decode cX2_init 232 = .ok (.iconst 1, 1) := dk_4 (dk_at dksX2_init_9 20 rfl rfl)
theorem dX2_init_233 : decode cX2_init 233 = .ok (.iconst 0, 1) := dk_3 (dk_at dksX2_init_9 21 rfl rfl)
theorem dX2_init_234 : decode cX2_init 234 = .ok (.iastore, 1) := dk_79 (dk_at dksX2_init_9 22 rfl rfl)
theorem dX2_init_235 : decode cX2_init 235 = .ok (.dup, 1) := dk_89 (dk_at dksX2_init_9 23 rfl rfl)
theorem dX2_init_236 : decode cX2_init 236 = .ok (.iconst 2, 1) := dk_5 (dk_at dksX2_init_10 0 rfl rfl)
theorem dX2_init_237 : decode cX2_init 237 = .ok (.iconst 0, 1) := dk_3 (dk_at dksX2_init_10 1 rfl rfl)
theorem dX2_init_238 : decode cX2_init 238 = .ok (.iastore, 1) := dk_79 (dk_at dksX2_init_10 2 rfl rfl)
theorem dX2_init_239 : decode cX2_init 239 = .ok (.dup, 1) := dk_89 (dk_at dksX2_init_10 3 rfl rfl)
theorem dX2_init_240 : decode cX2_init 240 = .ok (.iconst 3, 1) := dk_6 (dk_at dksX2_init_10 4 rfl rfl)
theorem dX2_init_241 : decode cX2_init 241 = .ok (.iconst 2, 1) := dk_5 (dk_at dksX2_init_10 5 rfl rfl)
theorem dX2_init_242 : decode cX2_init 242 = .ok (.iastore, 1) := dk_79 (dk_at dksX2_init_10 6 rfl rfl)
theorem dX2_init_243 : decode cX2_init 243 = .ok (.dup, 1) := dk_89 (dk_at dksX2_init_10 7 rfl rfl)
theorem dX2_init_244 : decode cX2_init 244 = .ok (.iconst 4, 1) := dk_7 (dk_at dksX2_init_10 8 rfl rfl)
theorem dX2_init_245 : decode cX2_init 245 = .ok (.iconst 1, 1) := dk_4 (dk_at dksX2_init_10 9 rfl rfl)
theorem dX2_init_246 : decode cX2_init 246 = .ok (.iastore, 1) := dk_79 (dk_at dksX2_init_10 10 rfl rfl)
theorem dX2_init_247 : decode cX2_init 247 = .ok (.dup, 1) := dk_89 (dk_at dksX2_init_10 11 rfl rfl)
theorem dX2_init_248 : decode cX2_init 248 = .ok (.iconst 5, 1) := dk_8 (dk_at dksX2_init_10 12 rfl rfl)
theorem dX2_init_249 : decode cX2_init 249 = .ok (.iconst 3, 1) := dk_6 (dk_at dksX2_init_10 13 rfl rfl)
theorem dX2_init_250 : decode cX2_init 250 = .ok (.iastore, 1) := dk_79 (dk_at dksX2_init_10 14 rfl rfl)
theorem dX2_init_251 : decode cX2_init 251 = .ok (.dup, 1) := dk_89 (dk_at dksX2_init_10 15 rfl rfl)
theorem dX2_init_252 : decode cX2_init 252 = .ok (.bipush 6, 2) := dk_16 6 (dk_at dksX2_init_10 16 rfl rfl)
theorem dX2_init_254 : decode cX2_init 254 = .ok (.iconst 0, 1) := dk_3 (dk_at dksX2_init_10 18 rfl rfl)
theorem dX2_init_255 : decode cX2_init 255 = .ok (.iastore, 1) := dk_79 (dk_at dksX2_init_10 19 rfl rfl)
theorem dX2_init_256 : decode cX2_init 256 = .ok (.dup, 1) := dk_89 (dk_at dksX2_init_10 20 rfl rfl)
theorem dX2_init_257 : decode cX2_init 257 = .ok (.bipush 7, 2) := dk_16 7 (dk_at dksX2_init_10 21 rfl rfl)
theorem dX2_init_259 : decode cX2_init 259 = .ok (.iconst 4, 1) := dk_7 (dk_at dksX2_init_10 23 rfl rfl)
theorem dX2_init_260 : decode cX2_init 260 = .ok (.iastore, 1) := dk_79 (dk_at dksX2_init_11 0 rfl rfl)
theorem dX2_init_261 : decode cX2_init 261 = .ok (.putfield 80, 3) := dk_181 0 80 (dk_at dksX2_init_11 1 rfl rfl)
theorem dX2_init_264 : decode cX2_init 264 = .ok (.aload_n 0, 1) := dk_42 (dk_at dksX2_init_11 4 rfl rfl)
theorem dX2_init_265 : decode cX2_init 265 = .ok (.bipush 32, 2) := dk_16 32 (dk_at dksX2_init_11 5 rfl rfl)
theorem dX2_init_267 : decode cX2_init 267 = .ok (.newarray .int, 2) := dk_188_10 (dk_at dksX2_init_11 7 rfl rfl)
theorem dX2_init_269 : decode cX2_init 269 = .ok (.dup, 1) := dk_89 (dk_at dksX2_init_11 9 rfl rfl)
theorem dX2_init_270 : decode cX2_init 270 = .ok (.iconst 0, 1) := dk_3 (dk_at dksX2_init_11 10 rfl rfl)
theorem dX2_init_271 : decode cX2_init 271 = .ok (.iconst 1, 1) := dk_4 (dk_at dksX2_init_11 11 rfl rfl)
theorem dX2_init_272 : decode cX2_init 272 = .ok (.iastore, 1) := dk_79 (dk_at dksX2_init_11 12 rfl rfl)
theorem dX2_init_273 : decode cX2_init 273 = .ok (.dup, 1) := dk_89 (dk_at dksX2_init_11 13 rfl rfl)
theorem dX2_init_274 : decode cX2_init 274 = .ok (.iconst 1, 1) := dk_4 (dk_at dksX2_init_11 14 rfl rfl)
theorem dX2_init_275 : decode cX2_init 275 = .ok (.bipush 10, 2) := dk_16 10 (dk_at dksX2_init_11 15 rfl rfl)
theorem dX2_init_277 : decode cX2_init 277 = .ok (.iastore, 1) := dk_79 (dk_at dksX2_init_11 17 rfl rfl)
theorem dX2_init_278 : decode cX2_init 278 = .ok (.dup, 1) := dk_89 (dk_at dksX2_init_11 18 rfl rfl)
theorem dX2_init_279 : decode cX2_init 279 = .ok (.iconst 2, 1) := dk_5 (dk_at dksX2_init_11 19 rfl rfl)
theorem dX2_init_280 : decode cX2_init 280 = .ok (.bipush 11, 2) := dk_16 11 (dk_at dksX2_init_11 20 rfl rfl)
theorem dX2_init_282 : decode cX2_init 282 = .ok (.iastore, 1) := dk_79 (dk_at dksX2_init_11 22 rfl rfl)
theorem dX2_init_283 : decode cX2_init 283 = .ok (.dup, 1) := dk_89 (dk_at dksX2_init_11 23 rfl rfl)
theorem dX2_init_284 : decode cX2_init 284 = .ok (.iconst 3, 1) := dk_6 (dk_at dksX2_init_12 0 rfl rfl)
theorem dX2_init_285 : decode cX2_init 285 = .ok (.iconst 2, 1) := dk_5 (dk_at dksX2_init_12 1 rfl rfl)
theorem dX2_init_286 : decode cX2_init 286 = .ok (.iastore, 1) := dk_79 (dk_at dksX2_init_12 2 rfl rfl)
theorem dX2_init_287 : decode cX2_init 287 = .ok (.dup, 1) := dk_89 (dk_at dksX2_init_12 3 rfl rfl)
theorem dX2_init_288 : decode cX2_init 288 = .ok (.iconst 4, 1) := dk_7 (dk_at dksX2_init_12 4 rfl rfl)
theorem dX2_init_289 : decode cX2_init 289 = .ok (.bipush 20, 2) := dk_16 20 (dk_at dksX2_init_12 5 rfl rfl)
theorem dX2_init_291 : decode cX2_init 291 = .ok (.iastore, 1) := dk_79 (dk_at dksX2_init_12 7 rfl rfl)
theorem dX2_init_292 : decode cX2_init 292 = .ok (.dup, 1) := dk_89 (dk_at dksX2_init_12 8 rfl rfl)
theorem dX2_init_293 : decode cX2_init 293 = .ok (.iconst 5, 1) := dk_8 (dk_at dksX2_init_12 9 rfl rfl)
theorem dX2_init_294 : decode cX2_init 294 = .ok (.iconst 0, 1) := dk_3 (dk_at dksX2_init_12 10 rfl rfl)
theorem dX2_init_295 : decode cX2_init 295 = .ok (.iastore, 1) := dk_79 (dk_at dksX2_init_12 11 rfl rfl)
theorem dX2_init_296 : decode cX2_init 296 = .ok (.dup, 1) := dk_89 (dk_at dksX2_init_12 12 rfl rfl)
theorem dX2_init_297 : decode cX2_init 297 = .ok (.bipush 6, 2) := dk_16 6 (dk_at dksX2_init_12 13 rfl rfl)
theorem dX2_init_299 : decode cX2_init 299 = .ok (.iconst 0, 1) := dk_3 (dk_at dksX2_init_12 15 rfl rfl)
theorem dX2_init_300 : decode cX2_init 300 = .ok (.iastore, 1) := dk_79 (dk_at dksX2_init_12 16 rfl rfl)
theorem dX2_init_301 : decode cX2_init 301 = .ok (.dup, 1) := dk_89 (dk_at dksX2_init_12 17 rfl rfl)
theorem dX2_init_302 : decode cX2_init 302 = .ok (.bipush 7, 2) := dk_16 7 (dk_at dksX2_init_12 18 rfl rfl)
theorem dX2_init_304 : decode cX2_init 304 = .ok (.iconst 0, 1) := dk_3 (dk_at dksX2_init_12 20 rfl rfl)
theorem dX2_init_305 : decode cX2_init 305 = .ok (.iastore, 1) := dk_79 (dk_at dksX2_init_12 21 rfl rfl)
theorem dX2_init_306 : decode cX2_init 306 = .ok (.dup, 1) := dk_89 (dk_at dksX2_init_12 22 rfl rfl)
theorem dX2_init_307 : decode cX2_init 307 = .ok (.bipush 8, 2) := dk_16 8 (dk_at dksX2_init_13 0 rfl rfl)
theorem dX2_init_309 : decode cX2_init 309 = .ok (.iconst 0, 1) := dk_3 (dk_at dksX2_init_13 2 rfl rfl)
theorem dX2_init_310 : decode cX2_init 310 = .ok (.iastore, 1) := dk_79 (dk_at dksX2_init_13 3 rfl rfl)
theorem dX2_init_311 : decode cX2_init 311 = .ok (.dup, 1) := dk_89 (dk_at dksX2_init_13 4 rfl rfl)
theorem dX2_init_312 : decode cX2_init 312 = .ok (.bipush 9, 2) := dk_16 9 (dk_at dksX2_init_13 5 rfl rfl)
theorem dX2_init_314 : decode cX2_init 314 = .ok (.bipush 30, 2) := dk_16 30 (dk_at dksX2_init_13 7 rfl rfl)
theorem dX2_init_316 : decode cX2_init 316 = .ok (.iastore, 1) := dk_79 (dk_at dksX2_init_13 9 rfl rfl)
theorem dX2_init_317 : decode cX2_init 317 = .ok (.dup, 1) := dk_89 (dk_at dksX2_init_13 10 rfl rfl)
theorem dX2_init_318 : decode cX2_init 318 = .ok (.bipush 10, 2) := dk_16 10 (dk_at dksX2_init_13 11 rfl rfl)
theorem dX2_init_320 : decode cX2_init 320 = .ok (.iconst 0, 1) := dk_3 (dk_at dksX2_init_13 13 rfl rfl)
theorem dX2_init_321 : decode cX2_init 321 = .ok (.iastore, 1) := dk_79 (dk_at dksX2_init_13 14 rfl rfl)
theorem dX2_init_322 : decode cX2_init 322 = .ok (.dup, 1) := dk_89 (dk_at dksX2_init_13 15 rfl rfl)
theorem dX2_init_323 : decode cX2_init 323 = .ok (.bipush 11, 2) := dk_16 11 (dk_at dksX2_init_13 16 rfl rfl)
theorem dX2_init_325 : decode cX2_init 325 = .ok (.iconst 0, 1) := dk_3 (dk_at dksX2_init_13 18 rfl rfl)
theorem dX2_init_326 : decode cX2_init 326 = .ok (.iastore, 1) := dk_79 (dk_at dksX2_init_13 19 rfl rfl)
theorem dX2_init_327 : decode cX2_init 327 = .ok (.dup, 1) := dk_89 (dk_at dksX2_init_13 20 rfl rfl)
theorem dX2_init_328 : decode cX2_init 328 = .ok (.bipush 12, 2) := dk_16 12 (dk_at dksX2_init_13 21 rfl rfl)
theorem dX2_init_330 : decode cX2_init 330 = .ok (.iconst 0, 1) := dk_3 (dk_at dksX2_init_13 23 rfl rfl)
theorem dX2_init_331 : decode cX2_init 331 = .ok (.iastore, 1) := dk_79 (dk_at dksX2_init_14 0 rfl rfl)
theorem dX2_init_332 : decode cX2_init 332 = .ok (.dup, 1) := dk_89 (dk_at dksX2_init_14 1 rfl rfl)
theorem dX2_init_333 : decode cX2_init 333 = .ok (.bipush 13, 2) := dk_16 13 (dk_at dksX2_init_14 2 rfl rfl)
theorem dX2_init_335 : decode cX2_init 335 = .ok (.bipush 41, 2) := dk_16 41 (dk_at dksX2_init_14 4 rfl rfl)
theorem dX2_init_337 : decode cX2_init 337 = .ok (.iastore, 1) := dk_79 (dk_at dksX2_init_14 6 rfl rfl)
theorem dX2_init_338 : decode cX2_init 338 = .ok (.dup, 1) := dk_89 (dk_at dksX2_init_14 7 rfl rfl)
theorem dX2_init_339 : decode cX2_init 339 = .ok (.bipush 14, 2) := dk_16 14 (dk_at dksX2_init_14 8 rfl rfl)
theorem dX2_init_341 : decode cX2_init 341 = .ok (.bipush 40, 2) := dk_16 40 (dk_at dksX2_init_14 10 rfl rfl)
theorem dX2_init_343 : decode cX2_init 343 = .ok (.iastore, 1) := dk_79 (dk_at dksX2_init_14 12 rfl rfl)
theorem dX2_init_344 : decode cX2_init 344 = .ok (.dup, 1) := dk_89 (dk_at dksX2_init_14 13 rfl rfl)
theorem dX2_init_345 : decode cX2_init 345 = .ok (.bipush 15, 2) := dk_16 15 (dk_at dksX2_init_14 14 rfl rfl)
theorem dX2_init_347 : decode cX2_init 347 = .ok (.iconst 0, 1) := dk_3 (dk_at dksX2_init_14 16 rfl rfl)
theorem dX2_init_348 : decode cX2_init 348 = .ok (.iastore, 1) := dk_79 (dk_at dksX2_init_14 17 rfl rfl)
theorem dX2_init_349 : decode cX2_init 349 = .ok (.dup, 1) := dk_89 (dk_at dksX2_init_14 18 rfl rfl)
theorem dX2_init_350 : decode cX2_init 350 = .ok (.bipush 16, 2) := dk_16 16 (dk_at dksX2_init_14 19 rfl rfl)
theorem dX2_init_352 : decode cX2_init 352 = .ok (.iconst 0, 1) := dk_3 (dk_at dksX2_init_14 21 rfl rfl)
theorem dX2_init_353 : decode cX2_init 353 = .ok (.iastore, 1) := dk_79 (dk_at dksX2_init_14 22 rfl rfl)
theorem dX2_init_354 : decode cX2_init 354 = .ok (.dup, 1) := dk_89 (dk_at dksX2_init_14 23 rfl rfl)
theorem dX2_init_355 : decode cX2_init 355 = .ok (.bipush 17, 2) := dk_16 17 (dk_at dksX2_init_15 0 rfl rfl)
theorem dX2_init_357 : decode cX2_init 357 = .ok (.iconst 0, 1) := dk_3 (dk_at dksX2_init_15 2 rfl rfl)
theorem dX2_init_358 : decode cX2_init 358 = .ok (.iastore, 1) := dk_79 (dk_at dksX2_init_15 3 rfl rfl)
theorem dX2_init_359 : decode cX2_init 359 = .ok (.dup, 1) := dk_89 (dk_at dksX2_init_15 4 rfl rfl)
theorem dX2_init_360 : decode cX2_init 360 = .ok (.bipush 18, 2) := dk_16 18 (dk_at dksX2_init_15 5 rfl rfl)
theorem dX2_init_362 : decode cX2_init 362 = .ok (.bipush 50, 2) := dk_16 50 (dk_at dksX2_init_15 7 rfl rfl)
theorem dX2_init_364 : decode cX2_init 364 = .ok (.iastore, 1) := dk_79 (dk_at dksX2_init_15 9 rfl rfl)
theorem dX2_init_365 : decode cX2_init 365 = .ok (.dup, 1) := dk_89 (dk_at dksX2_init_15 10 rfl rfl)
theorem dX2_init_366 : decode cX2_init 366 = .ok (.bipush 19, 2) := dk_16 19 (dk_at dksX2_init_15 11 rfl rfl)
theorem dX2_init_368 : decode cX2_init 368 = .ok (.iconst 0, 1) := dk_3 (dk_at dksX2_init_15 13 rfl rfl)
theorem dX2_init_369 : decode cX2_init 369 = .ok (.iastore, 1) := dk_79 (dk_at dksX2_init_15 14 rfl rfl)
theorem dX2_init_370 : decode cX2_init 370 = .ok (.dup, 1) := dk_89 (dk_at dksX2_init_15 15 rfl rfl)
theorem dX2_init_371 : decode cX2_init 371 = .ok (.bipush 20, 2) := dk_16 20 (dk_at dksX2_init_15 16 rfl rfl)
theorem dX2_init_373 : decode cX2_init 373 = .ok (.iconst 0, 1) := dk_3 (dk_at dksX2_init_15 18 rfl rfl)
theorem dX2_init_374 : decode cX2_init 374 = .ok (.iastore, 1) := dk_79 (dk_at dksX2_init_15 19 rfl rfl)
theorem dX2_init_375 : decode cX2_init 375 = .ok (.dup, 1) := dk_89 (dk_at dksX2_init_15 20 rfl rfl)
theorem dX2_init_376 : decode cX2_init 376 = .ok (.bipush 21, 2) := dk_16 21 (dk_at dksX2_init_15 21 rfl rfl)
theorem dX2_init_378 : decode cX2_init 378 = .ok (.iconst 0, 1) := dk_3 (dk_at dksX2_init_15 23 rfl rfl)
theorem dX2_init_379 : decode cX2_init 379 = .ok (.iastore, 1) := dk_79 (dk_at dksX2_init_16 0 rfl rfl)
theorem dX2_init_380 : decode cX2_init 380 = .ok (.dup, 1) := dk_89 (dk_at dksX2_init_16 1 rfl rfl)
theorem dX2_init_381 : decode cX2_init 381 = .ok (.bipush 22, 2) := dk_16 22 (dk_at dksX2_init_16 2 rfl rfl)
theorem dX2_init_383 : decode cX2_init 383 = .ok (.iconst 0, 1) := dk_3 (dk_at dksX2_init_16 4 rfl rfl)
theorem dX2_init_384 : decode cX2_init 384 = .ok (.iastore, 1) := dk_79 (dk_at dksX2_init_16 5 rfl rfl)
theorem dX2_init_385 : decode cX2_init 385 = .ok (.dup, 1) := dk_89 (dk_at dksX2_init_16 6 rfl rfl)
theorem dX2_init_386 : decode cX2_init 386 = .ok (.bipush 23, 2) := dk_16 23 (dk_at dksX2_init_16 7 rfl rfl)
theorem dX2_init_388 : decode cX2_init 388 = .ok (.bipush 60, 2) := dk_16 60 (dk_at dksX2_init_16 9 rfl rfl)
theorem dX2_init_390 : decode cX2_init 390 = .ok (.iastore, 1) := dk_79 (dk_at dksX2_init_16 11 rfl rfl)
theorem dX2_init_391 : decode cX2_init 391 = .ok (.dup, 1) := dk_89 (dk_at dksX2_init_16 12 rfl rfl)
theorem dX2_init_392 : decode cX2_init 392 = .ok (.bipush 24, 2) := dk_16 24 (dk_at dksX2_init_16 13 rfl rfl)
theorem dX2_init_394 : decode cX2_init 394 = .ok (.bipush 70, 2) := dk_16 70 (dk_at dksX2_init_16 15 rfl rfl)
theorem dX2_init_396 : decode cX2_init 396 = .ok (.iastore, 1) := dk_79 (dk_at dksX2_init_16 17 rfl rfl)
theorem dX2_init_397 : decode cX2_init 397 = .ok (.dup, 1) := dk_89 (dk_at dksX2_init_16 18 rfl rfl)
theorem dX2_init_398 : decode cX2_init 398 = .ok (.bipush 25, 2) := dk_16 25 (dk_at dksX2_init_16 19 rfl rfl)
theorem dX2_init_400 : decode cX2_init 400 = .ok (.iconst 0, 1) := dk_3 (dk_at dksX2_init_16 21 rfl rfl)
theorem dX2_init_401 : decode cX2_init 401 = .ok (.iastore, 1) := dk_79 (dk_at dksX2_init_16 22 rfl rfl)
theorem dX2_init_402 : decode cX2_init 402 = .ok (.dup, 1) := dk_89 (dk_at dksX2_init_16 23 rfl rfl)
theorem dX2_init_403 : decode cX2_init 403 = .ok (.bipush 26, 2) := dk_16 26 (dk_at dksX2_init_17 0 rfl rfl)
theorem dX2_init_405 : decode cX2_init 405 = .ok (.iconst 0, 1) := dk_3 (dk_at dksX2_init_17 2 rfl rfl)
theorem dX2_init_406 : decode cX2_init 406 = .ok (.iastore, 1) := dk_79 (dk_at dksX2_init_17 3 rfl rfl)
theorem dX2_init_407 : decode cX2_init 407 = .ok (.dup, 1) := dk_89 (dk_at dksX2_init_17 4 rfl rfl)
theorem dX2_init_408 : decode cX2_init 408 = .ok (.bipush 27, 2) := dk_16 27 (dk_at dksX2_init_17 5 rfl rfl)
theorem dX2_init_410 : decode cX2_init 410 = .ok (.iconst 0, 1) := dk_3 (dk_at dksX2_init_17 7 rfl rfl)
theorem dX2_init_411 : decode cX2_init 411 = .ok (.iastore, 1) := dk_79 (dk_at dksX2_init_17 8 rfl rfl)
theorem dX2_init_412 : decode cX2_init 412 = .ok (.dup, 1) := dk_89 (dk_at dksX2_init_17 9 rfl rfl)
theorem dX2_init_413 : decode cX2_init 413 = .ok (.bipush 28, 2) := dk_16 28 (dk_at dksX2_init_17 10 rfl rfl)
theorem dX2_init_415 : decode cX2_init 415 = .ok (.iconst 0, 1) := dk_3 (dk_at dksX2_init_17 12 rfl rfl)
theorem dX2_init_416 : decode cX2_init 416 = .ok (.iastore, 1) := dk_79 (dk_at dksX2_init_17 13 rfl rfl)
theorem dX2_init_417 : decode cX2_init 417 = .ok (.dup, 1) := dk_89 (dk_at dksX2_init_17 14 rfl rfl)
theorem dX2_init_418 : decode cX2_init 418 = .ok (.bipush 29, 2) := dk_16 29 (dk_at dksX2_init_17 15 rfl rfl)
theorem dX2_init_420 : decode cX2_init 420 = .ok (.bipush 80, 2) := dk_16 80 (dk_at dksX2_init_17 17 rfl rfl)
theorem dX2_init_422 : decode cX2_init 422 = .ok (.iastore, 1) := dk_79 (dk_at dksX2_init_17 19 rfl rfl)
theorem dX2_init_423 : decode cX2_init 423 = .ok (.dup, 1) := dk_89 (dk_at dksX2_init_17 20 rfl rfl)
theorem dX2_init_424 : decode cX2_init 424 = .ok (.bipush 30, 2) := dk_16 30 (dk_at dksX2_init_17 21 rfl rfl)
theorem dX2_init_426 : decode cX2_init 426 = .ok (.iconst 0, 1) := dk_3 (dk_at dksX2_init_17 23 rfl rfl)
theorem dX2_init_427 : decode cX2_init 427 = .ok (.iastore, 1) := dk_79 (dk_at dksX2_init_18 0 rfl rfl)
theorem dX2_init_428 : decode cX2_init 428 = .ok (.dup, 1) := dk_89 (dk_at dksX2_init_18 1 rfl rfl)
theorem dX2_init_429 : decode cX2_init 429 = .ok (.bipush 31, 2) := dk_16 31 (dk_at dksX2_init_18 2 rfl rfl)
theorem dX2_init_431 : decode cX2_init 431 = .ok (.bipush 81, 2) := dk_16 81 (dk_at dksX2_init_18 4 rfl rfl)
theorem dX2_init_433 : decode cX2_init 433 = .ok (.iastore, 1) := dk_79 (dk_at dksX2_init_18 6 rfl rfl)
theorem dX2_init_434 : decode cX2_init 434 = .ok (.putfield 83, 3) := dk_181 0 83 (dk_at dksX2_init_18 7 rfl rfl)
theorem dX2_init_437 : decode cX2_init 437 = .ok (.aload_n 0, 1) := dk_42 (dk_at dksX2_init_18 10 rfl rfl)
theorem dX2_init_438 : decode cX2_init 438 = .ok (.bipush 50, 2) := dk_16 50 (dk_at dksX2_init_18 11 rfl rfl)
theorem dX2_init_440 : decode cX2_init 440 = .ok (.newarray .int, 2) := dk_188_10 (dk_at dksX2_init_18 13 rfl rfl)
theorem dX2_init_442 : decode cX2_init 442 = .ok (.putfield 86, 3) := dk_181 0 86 (dk_at dksX2_init_18 15 rfl rfl)
theorem dX2_init_445 : decode cX2_init 445 = .ok (.aload_n 0, 1) := dk_42 (dk_at dksX2_init_18 18 rfl rfl)
theorem dX2_init_446 : decode cX2_init 446 = .ok (.bipush 24, 2) := dk_16 24 (dk_at dksX2_init_18 19 rfl rfl)
theorem dX2_init_448 : decode cX2_init 448 = .ok (.newarray .int, 2) := dk_188_10 (dk_at dksX2_init_18 21 rfl rfl)
theorem dX2_init_450 : decode cX2_init 450 = .ok (.putfield 89, 3) := dk_181 0 89 (dk_at dksX2_init_19 0 rfl rfl)
theorem dX2_init_453 : decode cX2_init 453 = .ok (.return_, 1) := dk_177 (dk_at dksX2_init_19 3 rfl rfl)
abbrev cX2_fresh : ByteArray := prog_31_method_4_code
def yX2_fresh : MethodName := ⟨RX2, "fresh", "()[I"⟩
def dkwX2_fresh_0 : List UInt8 := [16, 42, 188, 10, 75, 42, 16, 40, 5, 79, 42, 176]
abbrev dktX2_fresh_0 : List UInt8 := dkwX2_fresh_0 ++ []
theorem dksX2_fresh_0 : cX2_fresh.data.toList.drop 0 = dktX2_fresh_0 := by decide +kernel
theorem dX2_fresh_0 : decode cX2_fresh 0 = .ok (.bipush 42, 2) := dk_16 42 (dk_at dksX2_fresh_0 0 rfl rfl)
theorem dX2_fresh_2 : decode cX2_fresh 2 = .ok (.newarray .int, 2) := dk_188_10 (dk_at dksX2_fresh_0 2 rfl rfl)
theorem dX2_fresh_4 : decode cX2_fresh 4 = .ok (.astore_n 0, 1) := dk_75 (dk_at dksX2_fresh_0 4 rfl rfl)
theorem dX2_fresh_5 : decode cX2_fresh 5 = .ok (.aload_n 0, 1) := dk_42 (dk_at dksX2_fresh_0 5 rfl rfl)
theorem dX2_fresh_6 : decode cX2_fresh 6 = .ok (.bipush 40, 2) := dk_16 40 (dk_at dksX2_fresh_0 6 rfl rfl)
theorem dX2_fresh_8 : decode cX2_fresh 8 = .ok (.iconst 2, 1) := dk_5 (dk_at dksX2_fresh_0 8 rfl rfl)
theorem dX2_fresh_9 : decode cX2_fresh 9 = .ok (.iastore, 1) := dk_79 (dk_at dksX2_fresh_0 9 rfl rfl)
theorem dX2_fresh_10 : decode cX2_fresh 10 = .ok (.aload_n 0, 1) := dk_42 (dk_at dksX2_fresh_0 10 rfl rfl)
theorem dX2_fresh_11 : decode cX2_fresh 11 = .ok (.areturn, 1) := dk_176 (dk_at dksX2_fresh_0 11 rfl rfl)
abbrev cX2_person : ByteArray := prog_31_method_11_code
def yX2_person : MethodName := ⟨RX2, "person", "(I)I"⟩
def dkwX2_person_1 : List UInt8 := [167, 0, 10, 42, 27, 7, 6, 182, 0, 112, 172]
abbrev dktX2_person_1 : List UInt8 := dkwX2_person_1 ++ []
def dkwX2_person_0 : List UInt8 := [27, 3, 16, 35, 184, 0, 104, 154, 0, 5, 2, 172, 42, 180, 0, 101, 16, 8, 160, 0, 8, 16, 253]
abbrev dktX2_person_0 : List UInt8 := dkwX2_person_0 ++ dktX2_person_1
theorem dksX2_person_0 : cX2_person.data.toList.drop 0 = dktX2_person_0 := by decide +kernel
theorem dksX2_person_1 : cX2_person.data.toList.drop 23 = dktX2_person_1 := dk_seg dksX2_person_0 23 rfl rfl
theorem dX2_person_0 : decode cX2_person 0 = .ok (.iload_n 1, 1) := dk_27 (dk_at dksX2_person_0 0 rfl rfl)
theorem dX2_person_1 : decode cX2_person 1 = .ok (.iconst 0, 1) := dk_3 (dk_at dksX2_person_0 1 rfl rfl)
theorem dX2_person_2 : decode cX2_person 2 = .ok (.bipush 35, 2) := dk_16 35 (dk_at dksX2_person_0 2 rfl rfl)
theorem dX2_person_4 : decode cX2_person 4 = .ok (.invokestatic 104, 3) := dk_184 0 104 (dk_at dksX2_person_0 4 rfl rfl)
theorem dX2_person_7 : decode cX2_person 7 = .ok (.ifCond .ne 5, 3) := dk_154 0 5 (dk_at dksX2_person_0 7 rfl rfl)
theorem dX2_person_10 : decode cX2_person 10 = .ok (.iconst (-1), 1) := dk_2 (dk_at dksX2_person_0 10 rfl rfl)
theorem dX2_person_11 : decode cX2_person 11 = .ok (.ireturn, 1) := dk_172 (dk_at dksX2_person_0 11 rfl rfl)
theorem dX2_person_12 : decode cX2_person 12 = .ok (.aload_n 0, 1) := dk_42 (dk_at dksX2_person_0 12 rfl rfl)
theorem dX2_person_13 : decode cX2_person 13 = .ok (.getfield 101, 3) := dk_180 0 101 (dk_at dksX2_person_0 13 rfl rfl)
theorem dX2_person_16 : decode cX2_person 16 = .ok (.bipush 8, 2) := dk_16 8 (dk_at dksX2_person_0 16 rfl rfl)
theorem dX2_person_18 : decode cX2_person 18 = .ok (.if_icmp .ne 8, 3) := dk_160 0 8 (dk_at dksX2_person_0 18 rfl rfl)
theorem dX2_person_21 : decode cX2_person 21 = .ok (.bipush (-3), 2) := dk_16 253 (dk_at dksX2_person_0 21 rfl rfl)
theorem dX2_person_23 : decode cX2_person 23 = .ok (.goto 10, 3) := dk_167 0 10 (dk_at dksX2_person_1 0 rfl rfl)
theorem dX2_person_26 : decode cX2_person 26 = .ok (.aload_n 0, 1) := dk_42 (dk_at dksX2_person_1 3 rfl rfl)
theorem dX2_person_27 : decode cX2_person 27 = .ok (.iload_n 1, 1) := dk_27 (dk_at dksX2_person_1 4 rfl rfl)
theorem dX2_person_28 : decode cX2_person 28 = .ok (.iconst 4, 1) := dk_7 (dk_at dksX2_person_1 5 rfl rfl)
theorem dX2_person_29 : decode cX2_person 29 = .ok (.iconst 3, 1) := dk_6 (dk_at dksX2_person_1 6 rfl rfl)
theorem dX2_person_30 : decode cX2_person 30 = .ok (.invokevirtual 112, 3) := dk_182 0 112 (dk_at dksX2_person_1 7 rfl rfl)
theorem dX2_person_33 : decode cX2_person 33 = .ok (.ireturn, 1) := dk_172 (dk_at dksX2_person_1 10 rfl rfl)
abbrev cX2_isIn : ByteArray := prog_31_method_2_code
def yX2_isIn : MethodName := ⟨RX2, "isIn", "(III)Z"⟩
def dkwX2_isIn_0 : List UInt8 := [26, 27, 161, 0, 12, 26, 28, 163, 0, 7, 4, 167, 0, 4, 3, 172]
abbrev dktX2_isIn_0 : List UInt8 := dkwX2_isIn_0 ++ []
theorem dksX2_isIn_0 : cX2_isIn.data.toList.drop 0 = dktX2_isIn_0 := by decide +kernel
theorem dX2_isIn_0 : decode cX2_isIn 0 = .ok (.iload_n 0, 1) := dk_26 (dk_at dksX2_isIn_0 0 rfl rfl)
theorem dX2_isIn_1 : decode cX2_isIn 1 = .ok (.iload_n 1, 1) := dk_27 (dk_at dksX2_isIn_0 1 rfl rfl)
theorem dX2_isIn_2 : decode cX2_isIn 2 = .ok (.if_icmp .lt 12, 3) := dk_161 0 12 (dk_at dksX2_isIn_0 2 rfl rfl)
theorem dX2_isIn_5 : decode cX2_isIn 5 = .ok (.iload_n 0, 1) := dk_26 (dk_at dksX2_isIn_0 5 rfl rfl)
theorem dX2_isIn_6 : decode cX2_isIn 6 = .ok (.iload_n 2, 1) := dk_28 (dk_at dksX2_isIn_0 6 rfl rfl)
theorem dX2_isIn_7 : decode cX2_isIn 7 = .ok (.if_icmp .gt 7, 3) := dk_163 0 7 (dk_at dksX2_isIn_0 7 rfl rfl)
theorem dX2_isIn_10 : decode cX2_isIn 10 = .ok (.iconst 1, 1) := dk_4 (dk_at dksX2_isIn_0 10 rfl rfl)
theorem dX2_isIn_11 : decode cX2_isIn 11 = .ok (.goto 4, 3) := dk_167 0 4 (dk_at dksX2_isIn_0 11 rfl rfl)
theorem dX2_isIn_14 : decode cX2_isIn 14 = .ok (.iconst 0, 1) := dk_3 (dk_at dksX2_isIn_0 14 rfl rfl)
theorem dX2_isIn_15 : decode cX2_isIn 15 = .ok (.ireturn, 1) := dk_172 (dk_at dksX2_isIn_0 15 rfl rfl)
abbrev cX2_add : ByteArray := prog_31_method_10_code
def yX2_add : MethodName := ⟨RX2, "add", "(III)I"⟩
def dkwX2_add_2 : List UInt8 := [42, 89, 180, 0, 101, 4, 96, 181, 0, 101, 21, 4, 172]
abbrev dktX2_add_2 : List UInt8 := dkwX2_add_2 ++ []
def dkwX2_add_1 : List UInt8 := [21, 4, 5, 29, 182, 0, 108, 42, 21, 4, 6, 16, 20, 182, 0, 108, 42, 21, 4, 7, 2, 182, 0, 108]
abbrev dktX2_add_1 : List UInt8 := dkwX2_add_1 ++ dktX2_add_2
def dkwX2_add_0 : List UInt8 := [42, 180, 0, 101, 54, 4, 42, 21, 4, 3, 27, 182, 0, 108, 42, 21, 4, 4, 28, 182, 0, 108, 42]
abbrev dktX2_add_0 : List UInt8 := dkwX2_add_0 ++ dktX2_add_1
theorem dksX2_add_0 : cX2_add.data.toList.drop 0 = dktX2_add_0 := by decide +kernel
theorem dksX2_add_1 : cX2_add.data.toList.drop 23 = dktX2_add_1 := dk_seg dksX2_add_0 23 rfl rfl
theorem dksX2_add_2 : cX2_add.data.toList.drop 47 = dktX2_add_2 := dk_seg dksX2_add_1 24 rfl rfl
theorem dX2_add_0 : decode cX2_add 0 = .ok (.aload_n 0, 1) := dk_42 (dk_at dksX2_add_0 0 rfl rfl)
theorem dX2_add_1 : decode cX2_add 1 = .ok (.getfield 101, 3) := dk_180 0 101 (dk_at dksX2_add_0 1 rfl rfl)
theorem dX2_add_4 : decode cX2_add 4 = .ok (.istore 4, 2) := dk_54 4 (dk_at dksX2_add_0 4 rfl rfl)
theorem dX2_add_6 : decode cX2_add 6 = .ok (.aload_n 0, 1) := dk_42 (dk_at dksX2_add_0 6 rfl rfl)
theorem dX2_add_7 : decode cX2_add 7 = .ok (.iload 4, 2) := dk_21 4 (dk_at dksX2_add_0 7 rfl rfl)
theorem dX2_add_9 : decode cX2_add 9 = .ok (.iconst 0, 1) := dk_3 (dk_at dksX2_add_0 9 rfl rfl)
theorem dX2_add_10 : decode cX2_add 10 = .ok (.iload_n 1, 1) := dk_27 (dk_at dksX2_add_0 10 rfl rfl)
theorem dX2_add_11 : decode cX2_add 11 = .ok (.invokevirtual 108, 3) := dk_182 0 108 (dk_at dksX2_add_0 11 rfl rfl)
theorem dX2_add_14 : decode cX2_add 14 = .ok (.aload_n 0, 1) := dk_42 (dk_at dksX2_add_0 14 rfl rfl)
theorem dX2_add_15 : decode cX2_add 15 = .ok (.iload 4, 2) := dk_21 4 (dk_at dksX2_add_0 15 rfl rfl)
theorem dX2_add_17 : decode cX2_add 17 = .ok (.iconst 1, 1) := dk_4 (dk_at dksX2_add_0 17 rfl rfl)
theorem dX2_add_18 : decode cX2_add 18 = .ok (.iload_n 2, 1) := dk_28 (dk_at dksX2_add_0 18 rfl rfl)
theorem dX2_add_19 : decode cX2_add 19 = .ok (.invokevirtual 108, 3) := dk_182 0 108 (dk_at dksX2_add_0 19 rfl rfl)
theorem dX2_add_22 : decode cX2_add 22 = .ok (.aload_n 0, 1) := dk_42 (dk_at dksX2_add_0 22 rfl rfl)
theorem dX2_add_23 : decode cX2_add 23 = .ok (.iload 4, 2) := dk_21 4 (dk_at dksX2_add_1 0 rfl rfl)
theorem dX2_add_25 : decode cX2_add 25 = .ok (.iconst 2, 1) := dk_5 (dk_at dksX2_add_1 2 rfl rfl)
theorem dX2_add_26 : decode cX2_add 26 = .ok (.iload_n 3, 1) := dk_29 (dk_at dksX2_add_1 3 rfl rfl)
theorem dX2_add_27 : decode cX2_add 27 = .ok (.invokevirtual 108, 3) := dk_182 0 108 (dk_at dksX2_add_1 4 rfl rfl)
theorem dX2_add_30 : decode cX2_add 30 = .ok (.aload_n 0, 1) := dk_42 (dk_at dksX2_add_1 7 rfl rfl)
theorem dX2_add_31 : decode cX2_add 31 = .ok (.iload 4, 2) := dk_21 4 (dk_at dksX2_add_1 8 rfl rfl)
theorem dX2_add_33 : decode cX2_add 33 = .ok (.iconst 3, 1) := dk_6 (dk_at dksX2_add_1 10 rfl rfl)
theorem dX2_add_34 : decode cX2_add 34 = .ok (.bipush 20, 2) := dk_16 20 (dk_at dksX2_add_1 11 rfl rfl)
theorem dX2_add_36 : decode cX2_add 36 = .ok (.invokevirtual 108, 3) := dk_182 0 108 (dk_at dksX2_add_1 13 rfl rfl)
theorem dX2_add_39 : decode cX2_add 39 = .ok (.aload_n 0, 1) := dk_42 (dk_at dksX2_add_1 16 rfl rfl)
theorem dX2_add_40 : decode cX2_add 40 = .ok (.iload 4, 2) := dk_21 4 (dk_at dksX2_add_1 17 rfl rfl)
theorem dX2_add_42 : decode cX2_add 42 = .ok (.iconst 4, 1) := dk_7 (dk_at dksX2_add_1 19 rfl rfl)
theorem dX2_add_43 : decode cX2_add 43 = .ok (.iconst (-1), 1) := dk_2 (dk_at dksX2_add_1 20 rfl rfl)
theorem dX2_add_44 : decode cX2_add 44 = .ok (.invokevirtual 108, 3) := dk_182 0 108 (dk_at dksX2_add_1 21 rfl rfl)
theorem dX2_add_47 : decode cX2_add 47 = .ok (.aload_n 0, 1) := dk_42 (dk_at dksX2_add_2 0 rfl rfl)
theorem dX2_add_48 : decode cX2_add 48 = .ok (.dup, 1) := dk_89 (dk_at dksX2_add_2 1 rfl rfl)
theorem dX2_add_49 : decode cX2_add 49 = .ok (.getfield 101, 3) := dk_180 0 101 (dk_at dksX2_add_2 2 rfl rfl)
theorem dX2_add_52 : decode cX2_add 52 = .ok (.iconst 1, 1) := dk_4 (dk_at dksX2_add_2 5 rfl rfl)
theorem dX2_add_53 : decode cX2_add 53 = .ok (.iadd, 1) := dk_96 (dk_at dksX2_add_2 6 rfl rfl)
theorem dX2_add_54 : decode cX2_add 54 = .ok (.putfield 101, 3) := dk_181 0 101 (dk_at dksX2_add_2 7 rfl rfl)
theorem dX2_add_57 : decode cX2_add 57 = .ok (.iload 4, 2) := dk_21 4 (dk_at dksX2_add_2 10 rfl rfl)
theorem dX2_add_59 : decode cX2_add 59 = .ok (.ireturn, 1) := dk_172 (dk_at dksX2_add_2 12 rfl rfl)
abbrev cX2_change : ByteArray := prog_31_method_9_code
def yX2_change : MethodName := ⟨RX2, "change", "(III)V"⟩
def dkwX2_change_0 : List UInt8 := [42, 180, 0, 13, 8, 27, 104, 28, 96, 29, 79, 177]
abbrev dktX2_change_0 : List UInt8 := dkwX2_change_0 ++ []
theorem dksX2_change_0 : cX2_change.data.toList.drop 0 = dktX2_change_0 := by decide +kernel
theorem dX2_change_0 : decode cX2_change 0 = .ok (.aload_n 0, 1) := dk_42 (dk_at dksX2_change_0 0 rfl rfl)
theorem dX2_change_1 : decode cX2_change 1 = .ok (.getfield 13, 3) := dk_180 0 13 (dk_at dksX2_change_0 1 rfl rfl)
theorem dX2_change_4 : decode cX2_change 4 = .ok (.iconst 5, 1) := dk_8 (dk_at dksX2_change_0 4 rfl rfl)
theorem dX2_change_5 : decode cX2_change 5 = .ok (.iload_n 1, 1) := dk_27 (dk_at dksX2_change_0 5 rfl rfl)
theorem dX2_change_6 : decode cX2_change 6 = .ok (.imul, 1) := dk_104 (dk_at dksX2_change_0 6 rfl rfl)
theorem dX2_change_7 : decode cX2_change 7 = .ok (.iload_n 2, 1) := dk_28 (dk_at dksX2_change_0 7 rfl rfl)
theorem dX2_change_8 : decode cX2_change 8 = .ok (.iadd, 1) := dk_96 (dk_at dksX2_change_0 8 rfl rfl)
theorem dX2_change_9 : decode cX2_change 9 = .ok (.iload_n 3, 1) := dk_29 (dk_at dksX2_change_0 9 rfl rfl)
theorem dX2_change_10 : decode cX2_change 10 = .ok (.iastore, 1) := dk_79 (dk_at dksX2_change_0 10 rfl rfl)
theorem dX2_change_11 : decode cX2_change 11 = .ok (.return_, 1) := dk_177 (dk_at dksX2_change_0 11 rfl rfl)
abbrev cX2_mend : ByteArray := prog_31_method_13_code
def yX2_mend : MethodName := ⟨RX2, "mend", "(III)I"⟩
def dkwX2_mend_10 : List UInt8 := [181, 0, 124, 42, 42, 180, 0, 124, 181, 0, 127, 21, 6, 172]
abbrev dktX2_mend_10 : List UInt8 := dkwX2_mend_10 ++ []
def dkwX2_mend_9 : List UInt8 := [180, 0, 124, 21, 6, 79, 42, 180, 0, 26, 42, 180, 0, 124, 29, 79, 42, 89, 180, 0, 124, 4, 96]
abbrev dktX2_mend_9 : List UInt8 := dkwX2_mend_9 ++ dktX2_mend_10
def dkwX2_mend_8 : List UInt8 := [180, 0, 124, 4, 100, 181, 0, 124, 42, 180, 0, 20, 42, 180, 0, 124, 21, 4, 79, 42, 180, 0, 23, 42]
abbrev dktX2_mend_8 : List UInt8 := dkwX2_mend_8 ++ dktX2_mend_9
def dkwX2_mend_7 : List UInt8 := [180, 0, 26, 21, 7, 4, 100, 42, 180, 0, 26, 21, 7, 46, 79, 132, 7, 1, 167, 255, 198, 42, 89]
abbrev dktX2_mend_7 : List UInt8 := dkwX2_mend_7 ++ dktX2_mend_8
def dkwX2_mend_6 : List UInt8 := [180, 0, 20, 21, 7, 46, 79, 42, 180, 0, 23, 21, 7, 4, 100, 42, 180, 0, 23, 21, 7, 46, 79, 42]
abbrev dktX2_mend_6 : List UInt8 := dkwX2_mend_6 ++ dktX2_mend_7
def dkwX2_mend_5 : List UInt8 := [16, 40, 160, 0, 77, 4, 54, 7, 21, 7, 16, 40, 162, 0, 57, 42, 180, 0, 20, 21, 7, 4, 100, 42]
abbrev dktX2_mend_5 : List UInt8 := dkwX2_mend_5 ++ dktX2_mend_6
def dkwX2_mend_4 : List UInt8 := [21, 4, 46, 54, 6, 21, 6, 29, 159, 0, 144, 42, 180, 0, 13, 21, 4, 29, 79, 42, 180, 0, 124]
abbrev dktX2_mend_4 : List UInt8 := dkwX2_mend_4 ++ dktX2_mend_5
def dkwX2_mend_3 : List UInt8 := [184, 0, 104, 153, 0, 13, 28, 7, 160, 0, 11, 29, 27, 160, 0, 6, 18, 123, 172, 42, 180, 0, 13]
abbrev dktX2_mend_3 : List UInt8 := dkwX2_mend_3 ++ dktX2_mend_4
def dkwX2_mend_2 : List UInt8 := [16, 9, 54, 5, 21, 4, 2, 159, 0, 32, 29, 28, 7, 160, 0, 7, 2, 167, 0, 4, 3, 21, 5]
abbrev dktX2_mend_2 : List UInt8 := dkwX2_mend_2 ++ dktX2_mend_3
def dkwX2_mend_1 : List UInt8 := [16, 6, 160, 0, 8, 16, 99, 167, 0, 19, 28, 7, 160, 0, 12, 42, 180, 0, 101, 4, 100, 167, 0, 5]
abbrev dktX2_mend_1 : List UInt8 := dkwX2_mend_1 ++ dktX2_mend_2
def dkwX2_mend_0 : List UInt8 := [42, 27, 28, 182, 0, 120, 54, 4, 28, 154, 0, 8, 16, 35, 167, 0, 35, 28, 6, 159, 0, 9, 28]
abbrev dktX2_mend_0 : List UInt8 := dkwX2_mend_0 ++ dktX2_mend_1
theorem dksX2_mend_0 : cX2_mend.data.toList.drop 0 = dktX2_mend_0 := by decide +kernel
theorem dksX2_mend_1 : cX2_mend.data.toList.drop 23 = dktX2_mend_1 := dk_seg dksX2_mend_0 23 rfl rfl
theorem dksX2_mend_2 : cX2_mend.data.toList.drop 47 = dktX2_mend_2 := dk_seg dksX2_mend_1 24 rfl rfl
theorem dksX2_mend_3 : cX2_mend.data.toList.drop 70 = dktX2_mend_3 := dk_seg dksX2_mend_2 23 rfl rfl
theorem dksX2_mend_4 : cX2_mend.data.toList.drop 93 = dktX2_mend_4 := dk_seg dksX2_mend_3 23 rfl rfl
theorem dksX2_mend_5 : cX2_mend.data.toList.drop 116 = dktX2_mend_5 := dk_seg dksX2_mend_4 23 rfl rfl
theorem dksX2_mend_6 : cX2_mend.data.toList.drop 140 = dktX2_mend_6 := dk_seg dksX2_mend_5 24 rfl rfl
theorem dksX2_mend_7 : cX2_mend.data.toList.drop 164 = dktX2_mend_7 := dk_seg dksX2_mend_6 24 rfl rfl
theorem dksX2_mend_8 : cX2_mend.data.toList.drop 187 = dktX2_mend_8 := dk_seg dksX2_mend_7 23 rfl rfl
theorem dksX2_mend_9 : cX2_mend.data.toList.drop 211 = dktX2_mend_9 := dk_seg dksX2_mend_8 24 rfl rfl
theorem dksX2_mend_10 : cX2_mend.data.toList.drop 234 = dktX2_mend_10 := dk_seg dksX2_mend_9 23 rfl rfl
theorem dX2_mend_0 : decode cX2_mend 0 = .ok (.aload_n 0, 1) := dk_42 (dk_at dksX2_mend_0 0 rfl rfl)
theorem dX2_mend_1 : decode cX2_mend 1 = .ok (.iload_n 1, 1) := dk_27 (dk_at dksX2_mend_0 1 rfl rfl)
theorem dX2_mend_2 : decode cX2_mend 2 = .ok (.iload_n 2, 1) := dk_28 (dk_at dksX2_mend_0 2 rfl rfl)
theorem dX2_mend_3 : decode cX2_mend 3 = .ok (.invokevirtual 120, 3) := dk_182 0 120 (dk_at dksX2_mend_0 3 rfl rfl)
theorem dX2_mend_6 : decode cX2_mend 6 = .ok (.istore 4, 2) := dk_54 4 (dk_at dksX2_mend_0 6 rfl rfl)
theorem dX2_mend_8 : decode cX2_mend 8 = .ok (.iload_n 2, 1) := dk_28 (dk_at dksX2_mend_0 8 rfl rfl)
theorem dX2_mend_9 : decode cX2_mend 9 = .ok (.ifCond .ne 8, 3) := dk_154 0 8 (dk_at dksX2_mend_0 9 rfl rfl)
theorem dX2_mend_12 : decode cX2_mend 12 = .ok (.bipush 35, 2) := dk_16 35 (dk_at dksX2_mend_0 12 rfl rfl)
theorem dX2_mend_14 : decode cX2_mend 14 = .ok (.goto 35, 3) := dk_167 0 35 (dk_at dksX2_mend_0 14 rfl rfl)
theorem dX2_mend_17 : decode cX2_mend 17 = .ok (.iload_n 2, 1) := dk_28 (dk_at dksX2_mend_0 17 rfl rfl)
theorem dX2_mend_18 : decode cX2_mend 18 = .ok (.iconst 3, 1) := dk_6 (dk_at dksX2_mend_0 18 rfl rfl)
theorem dX2_mend_19 : decode cX2_mend 19 = .ok (.if_icmp .eq 9, 3) := dk_159 0 9 (dk_at dksX2_mend_0 19 rfl rfl)
theorem dX2_mend_22 : decode cX2_mend 22 = .ok (.iload_n 2, 1) := dk_28 (dk_at dksX2_mend_0 22 rfl rfl)
theorem dX2_mend_23 : decode cX2_mend 23 = .ok (.bipush 6, 2) := dk_16 6 (dk_at dksX2_mend_1 0 rfl rfl)
theorem dX2_mend_25 : decode cX2_mend 25 = .ok (.if_icmp .ne 8, 3) := dk_160 0 8 (dk_at dksX2_mend_1 2 rfl rfl)
theorem dX2_mend_28 : decode cX2_mend 28 = .ok (.bipush 99, 2) := dk_16 99 (dk_at dksX2_mend_1 5 rfl rfl)
theorem dX2_mend_30 : decode cX2_mend 30 = .ok (.goto 19, 3) := dk_167 0 19 (dk_at dksX2_mend_1 7 rfl rfl)
theorem dX2_mend_33 : decode cX2_mend 33 = .ok (.iload_n 2, 1) := dk_28 (dk_at dksX2_mend_1 10 rfl rfl)
theorem dX2_mend_34 : decode cX2_mend 34 = .ok (.iconst 4, 1) := dk_7 (dk_at dksX2_mend_1 11 rfl rfl)
theorem dX2_mend_35 : decode cX2_mend 35 = .ok (.if_icmp .ne 12, 3) := dk_160 0 12 (dk_at dksX2_mend_1 12 rfl rfl)
theorem dX2_mend_38 : decode cX2_mend 38 = .ok (.aload_n 0, 1) := dk_42 (dk_at dksX2_mend_1 15 rfl rfl)
theorem dX2_mend_39 : decode cX2_mend 39 = .ok (.getfield 101, 3) := dk_180 0 101 (dk_at dksX2_mend_1 16 rfl rfl)
theorem dX2_mend_42 : decode cX2_mend 42 = .ok (.iconst 1, 1) := dk_4 (dk_at dksX2_mend_1 19 rfl rfl)
theorem dX2_mend_43 : decode cX2_mend 43 = .ok (.isub, 1) := dk_100 (dk_at dksX2_mend_1 20 rfl rfl)
theorem dX2_mend_44 : decode cX2_mend 44 = .ok (.goto 5, 3) := dk_167 0 5 (dk_at dksX2_mend_1 21 rfl rfl)
theorem dX2_mend_47 : decode cX2_mend 47 = .ok (.bipush 9, 2) := dk_16 9 (dk_at dksX2_mend_2 0 rfl rfl)
theorem dX2_mend_49 : decode cX2_mend 49 = .ok (.istore 5, 2) := dk_54 5 (dk_at dksX2_mend_2 2 rfl rfl)
theorem dX2_mend_51 : decode cX2_mend 51 = .ok (.iload 4, 2) := dk_21 4 (dk_at dksX2_mend_2 4 rfl rfl)
theorem dX2_mend_53 : decode cX2_mend 53 = .ok (.iconst (-1), 1) := dk_2 (dk_at dksX2_mend_2 6 rfl rfl)
theorem dX2_mend_54 : decode cX2_mend 54 = .ok (.if_icmp .eq 32, 3) := dk_159 0 32 (dk_at dksX2_mend_2 7 rfl rfl)
theorem dX2_mend_57 : decode cX2_mend 57 = .ok (.iload_n 3, 1) := dk_29 (dk_at dksX2_mend_2 10 rfl rfl)
theorem dX2_mend_58 : decode cX2_mend 58 = .ok (.iload_n 2, 1) := dk_28 (dk_at dksX2_mend_2 11 rfl rfl)
theorem dX2_mend_59 : decode cX2_mend 59 = .ok (.iconst 4, 1) := dk_7 (dk_at dksX2_mend_2 12 rfl rfl)
theorem dX2_mend_60 : decode cX2_mend 60 = .ok (.if_icmp .ne 7, 3) := dk_160 0 7 (dk_at dksX2_mend_2 13 rfl rfl)
theorem dX2_mend_63 : decode cX2_mend 63 = .ok (.iconst (-1), 1) := dk_2 (dk_at dksX2_mend_2 16 rfl rfl)
theorem dX2_mend_64 : decode cX2_mend 64 = .ok (.goto 4, 3) := dk_167 0 4 (dk_at dksX2_mend_2 17 rfl rfl)
theorem dX2_mend_67 : decode cX2_mend 67 = .ok (.iconst 0, 1) := dk_3 (dk_at dksX2_mend_2 20 rfl rfl)
theorem dX2_mend_68 : decode cX2_mend 68 = .ok (.iload 5, 2) := dk_21 5 (dk_at dksX2_mend_2 21 rfl rfl)
theorem dX2_mend_70 : decode cX2_mend 70 = .ok (.invokestatic 104, 3) := dk_184 0 104 (dk_at dksX2_mend_3 0 rfl rfl)
theorem dX2_mend_73 : decode cX2_mend 73 = .ok (.ifCond .eq 13, 3) := dk_153 0 13 (dk_at dksX2_mend_3 3 rfl rfl)
theorem dX2_mend_76 : decode cX2_mend 76 = .ok (.iload_n 2, 1) := dk_28 (dk_at dksX2_mend_3 6 rfl rfl)
theorem dX2_mend_77 : decode cX2_mend 77 = .ok (.iconst 4, 1) := dk_7 (dk_at dksX2_mend_3 7 rfl rfl)
theorem dX2_mend_78 : decode cX2_mend 78 = .ok (.if_icmp .ne 11, 3) := dk_160 0 11 (dk_at dksX2_mend_3 8 rfl rfl)
theorem dX2_mend_81 : decode cX2_mend 81 = .ok (.iload_n 3, 1) := dk_29 (dk_at dksX2_mend_3 11 rfl rfl)
theorem dX2_mend_82 : decode cX2_mend 82 = .ok (.iload_n 1, 1) := dk_27 (dk_at dksX2_mend_3 12 rfl rfl)
theorem dX2_mend_83 : decode cX2_mend 83 = .ok (.if_icmp .ne 6, 3) := dk_160 0 6 (dk_at dksX2_mend_3 13 rfl rfl)
theorem dX2_mend_86 : decode cX2_mend 86 = .ok (.ldc 123, 2) := dk_18 123 (dk_at dksX2_mend_3 16 rfl rfl)
theorem dX2_mend_88 : decode cX2_mend 88 = .ok (.ireturn, 1) := dk_172 (dk_at dksX2_mend_3 18 rfl rfl)
theorem dX2_mend_89 : decode cX2_mend 89 = .ok (.aload_n 0, 1) := dk_42 (dk_at dksX2_mend_3 19 rfl rfl)
theorem dX2_mend_90 : decode cX2_mend 90 = .ok (.getfield 13, 3) := dk_180 0 13 (dk_at dksX2_mend_3 20 rfl rfl)
theorem dX2_mend_93 : decode cX2_mend 93 = .ok (.iload 4, 2) := dk_21 4 (dk_at dksX2_mend_4 0 rfl rfl)
theorem dX2_mend_95 : decode cX2_mend 95 = .ok (.iaload, 1) := dk_46 (dk_at dksX2_mend_4 2 rfl rfl)
theorem dX2_mend_96 : decode cX2_mend 96 = .ok (.istore 6, 2) := dk_54 6 (dk_at dksX2_mend_4 3 rfl rfl)
theorem dX2_mend_98 : decode cX2_mend 98 = .ok (.iload 6, 2) := dk_21 6 (dk_at dksX2_mend_4 5 rfl rfl)
theorem dX2_mend_100 : decode cX2_mend 100 = .ok (.iload_n 3, 1) := dk_29 (dk_at dksX2_mend_4 7 rfl rfl)
theorem dX2_mend_101 : decode cX2_mend 101 = .ok (.if_icmp .eq 144, 3) := dk_159 0 144 (dk_at dksX2_mend_4 8 rfl rfl)
theorem dX2_mend_104 : decode cX2_mend 104 = .ok (.aload_n 0, 1) := dk_42 (dk_at dksX2_mend_4 11 rfl rfl)
theorem dX2_mend_105 : decode cX2_mend 105 = .ok (.getfield 13, 3) := dk_180 0 13 (dk_at dksX2_mend_4 12 rfl rfl)
theorem dX2_mend_108 : decode cX2_mend 108 = .ok (.iload 4, 2) := dk_21 4 (dk_at dksX2_mend_4 15 rfl rfl)
theorem dX2_mend_110 : decode cX2_mend 110 = .ok (.iload_n 3, 1) := dk_29 (dk_at dksX2_mend_4 17 rfl rfl)
theorem dX2_mend_111 : decode cX2_mend 111 = .ok (.iastore, 1) := dk_79 (dk_at dksX2_mend_4 18 rfl rfl)
theorem dX2_mend_112 : decode cX2_mend 112 = .ok (.aload_n 0, 1) := dk_42 (dk_at dksX2_mend_4 19 rfl rfl)
theorem dX2_mend_113 : decode cX2_mend 113 = .ok (.getfield 124, 3) := dk_180 0 124 (dk_at dksX2_mend_4 20 rfl rfl)
theorem dX2_mend_116 : decode cX2_mend 116 = .ok (.bipush 40, 2) := dk_16 40 (dk_at dksX2_mend_5 0 rfl rfl)
theorem dX2_mend_118 : decode cX2_mend 118 = .ok (.if_icmp .ne 77, 3) := dk_160 0 77 (dk_at dksX2_mend_5 2 rfl rfl)
theorem dX2_mend_121 : decode cX2_mend 121 = .ok (.iconst 1, 1) := dk_4 (dk_at dksX2_mend_5 5 rfl rfl)
theorem dX2_mend_122 : decode cX2_mend 122 = .ok (.istore 7, 2) := dk_54 7 (dk_at dksX2_mend_5 6 rfl rfl)
theorem dX2_mend_124 : decode cX2_mend 124 = .ok (.iload 7, 2) := dk_21 7 (dk_at dksX2_mend_5 8 rfl rfl)
theorem dX2_mend_126 : decode cX2_mend 126 = .ok (.bipush 40, 2) := dk_16 40 (dk_at dksX2_mend_5 10 rfl rfl)
theorem dX2_mend_128 : decode cX2_mend 128 = .ok (.if_icmp .ge 57, 3) := dk_162 0 57 (dk_at dksX2_mend_5 12 rfl rfl)
theorem dX2_mend_131 : decode cX2_mend 131 = .ok (.aload_n 0, 1) := dk_42 (dk_at dksX2_mend_5 15 rfl rfl)
theorem dX2_mend_132 : decode cX2_mend 132 = .ok (.getfield 20, 3) := dk_180 0 20 (dk_at dksX2_mend_5 16 rfl rfl)
theorem dX2_mend_135 : decode cX2_mend 135 = .ok (.iload 7, 2) := dk_21 7 (dk_at dksX2_mend_5 19 rfl rfl)
theorem dX2_mend_137 : decode cX2_mend 137 = .ok (.iconst 1, 1) := dk_4 (dk_at dksX2_mend_5 21 rfl rfl)
theorem dX2_mend_138 : decode cX2_mend 138 = .ok (.isub, 1) := dk_100 (dk_at dksX2_mend_5 22 rfl rfl)
theorem dX2_mend_139 : decode cX2_mend 139 = .ok (.aload_n 0, 1) := dk_42 (dk_at dksX2_mend_5 23 rfl rfl)
theorem dX2_mend_140 : decode cX2_mend 140 = .ok (.getfield 20, 3) := dk_180 0 20 (dk_at dksX2_mend_6 0 rfl rfl)
theorem dX2_mend_143 : decode cX2_mend 143 = .ok (.iload 7, 2) := dk_21 7 (dk_at dksX2_mend_6 3 rfl rfl)
theorem dX2_mend_145 : decode cX2_mend 145 = .ok (.iaload, 1) := dk_46 (dk_at dksX2_mend_6 5 rfl rfl)
theorem dX2_mend_146 : decode cX2_mend 146 = .ok (.iastore, 1) := dk_79 (dk_at dksX2_mend_6 6 rfl rfl)
theorem dX2_mend_147 : decode cX2_mend 147 = .ok (.aload_n 0, 1) := dk_42 (dk_at dksX2_mend_6 7 rfl rfl)
theorem dX2_mend_148 : decode cX2_mend 148 = .ok (.getfield 23, 3) := dk_180 0 23 (dk_at dksX2_mend_6 8 rfl rfl)
theorem dX2_mend_151 : decode cX2_mend 151 = .ok (.iload 7, 2) := dk_21 7 (dk_at dksX2_mend_6 11 rfl rfl)
theorem dX2_mend_153 : decode cX2_mend 153 = .ok (.iconst 1, 1) := dk_4 (dk_at dksX2_mend_6 13 rfl rfl)
theorem dX2_mend_154 : decode cX2_mend 154 = .ok (.isub, 1) := dk_100 (dk_at dksX2_mend_6 14 rfl rfl)
theorem dX2_mend_155 : decode cX2_mend 155 = .ok (.aload_n 0, 1) := dk_42 (dk_at dksX2_mend_6 15 rfl rfl)
theorem dX2_mend_156 : decode cX2_mend 156 = .ok (.getfield 23, 3) := dk_180 0 23 (dk_at dksX2_mend_6 16 rfl rfl)
theorem dX2_mend_159 : decode cX2_mend 159 = .ok (.iload 7, 2) := dk_21 7 (dk_at dksX2_mend_6 19 rfl rfl)
theorem dX2_mend_161 : decode cX2_mend 161 = .ok (.iaload, 1) := dk_46 (dk_at dksX2_mend_6 21 rfl rfl)
theorem dX2_mend_162 : decode cX2_mend 162 = .ok (.iastore, 1) := dk_79 (dk_at dksX2_mend_6 22 rfl rfl)
theorem dX2_mend_163 : decode cX2_mend 163 = .ok (.aload_n 0, 1) := dk_42 (dk_at dksX2_mend_6 23 rfl rfl)
theorem dX2_mend_164 : decode cX2_mend 164 = .ok (.getfield 26, 3) := dk_180 0 26 (dk_at dksX2_mend_7 0 rfl rfl)
theorem dX2_mend_167 : decode cX2_mend 167 = .ok (.iload 7, 2) := dk_21 7 (dk_at dksX2_mend_7 3 rfl rfl)
theorem dX2_mend_169 : decode cX2_mend 169 = .ok (.iconst 1, 1) := dk_4 (dk_at dksX2_mend_7 5 rfl rfl)
theorem dX2_mend_170 : decode cX2_mend 170 = .ok (.isub, 1) := dk_100 (dk_at dksX2_mend_7 6 rfl rfl)
theorem dX2_mend_171 : decode cX2_mend 171 = .ok (.aload_n 0, 1) := dk_42 (dk_at dksX2_mend_7 7 rfl rfl)
theorem dX2_mend_172 : decode cX2_mend 172 = .ok (.getfield 26, 3) := dk_180 0 26 (dk_at dksX2_mend_7 8 rfl rfl)
theorem dX2_mend_175 : decode cX2_mend 175 = .ok (.iload 7, 2) := dk_21 7 (dk_at dksX2_mend_7 11 rfl rfl)
theorem dX2_mend_177 : decode cX2_mend 177 = .ok (.iaload, 1) := dk_46 (dk_at dksX2_mend_7 13 rfl rfl)
theorem dX2_mend_178 : decode cX2_mend 178 = .ok (.iastore, 1) := dk_79 (dk_at dksX2_mend_7 14 rfl rfl)
theorem dX2_mend_179 : decode cX2_mend 179 = .ok (.iinc 7 1, 3) := dk_132 7 1 (dk_at dksX2_mend_7 15 rfl rfl)
theorem dX2_mend_182 : decode cX2_mend 182 = .ok (.goto (-58), 3) := dk_167 255 198 (dk_at dksX2_mend_7 18 rfl rfl)
theorem dX2_mend_185 : decode cX2_mend 185 = .ok (.aload_n 0, 1) := dk_42 (dk_at dksX2_mend_7 21 rfl rfl)
theorem dX2_mend_186 : decode cX2_mend 186 = .ok (.dup, 1) := dk_89 (dk_at dksX2_mend_7 22 rfl rfl)
theorem dX2_mend_187 : decode cX2_mend 187 = .ok (.getfield 124, 3) := dk_180 0 124 (dk_at dksX2_mend_8 0 rfl rfl)
theorem dX2_mend_190 : decode cX2_mend 190 = .ok (.iconst 1, 1) := dk_4 (dk_at dksX2_mend_8 3 rfl rfl)
theorem dX2_mend_191 : decode cX2_mend 191 = .ok (.isub, 1) := dk_100 (dk_at dksX2_mend_8 4 rfl rfl)
theorem dX2_mend_192 : decode cX2_mend 192 = .ok (.putfield 124, 3) := dk_181 0 124 (dk_at dksX2_mend_8 5 rfl rfl)
theorem dX2_mend_195 : decode cX2_mend 195 = .ok (.aload_n 0, 1) := dk_42 (dk_at dksX2_mend_8 8 rfl rfl)
theorem dX2_mend_196 : decode cX2_mend 196 = .ok (.getfield 20, 3) := dk_180 0 20 (dk_at dksX2_mend_8 9 rfl rfl)
theorem dX2_mend_199 : decode cX2_mend 199 = .ok (.aload_n 0, 1) := dk_42 (dk_at dksX2_mend_8 12 rfl rfl)
theorem dX2_mend_200 : decode cX2_mend 200 = .ok (.getfield 124, 3) := dk_180 0 124 (dk_at dksX2_mend_8 13 rfl rfl)
theorem dX2_mend_203 : decode cX2_mend 203 = .ok (.iload 4, 2) := dk_21 4 (dk_at dksX2_mend_8 16 rfl rfl)
theorem dX2_mend_205 : decode cX2_mend 205 = .ok (.iastore, 1) := dk_79 (dk_at dksX2_mend_8 18 rfl rfl)
theorem dX2_mend_206 : decode cX2_mend 206 = .ok (.aload_n 0, 1) := dk_42 (dk_at dksX2_mend_8 19 rfl rfl)
theorem dX2_mend_207 : decode cX2_mend 207 = .ok (.getfield 23, 3) := dk_180 0 23 (dk_at dksX2_mend_8 20 rfl rfl)
theorem dX2_mend_210 : decode cX2_mend 210 = .ok (.aload_n 0, 1) := dk_42 (dk_at dksX2_mend_8 23 rfl rfl)
theorem dX2_mend_211 : decode cX2_mend 211 = .ok (.getfield 124, 3) := dk_180 0 124 (dk_at dksX2_mend_9 0 rfl rfl)
theorem dX2_mend_214 : decode cX2_mend 214 = .ok (.iload 6, 2) := dk_21 6 (dk_at dksX2_mend_9 3 rfl rfl)
theorem dX2_mend_216 : decode cX2_mend 216 = .ok (.iastore, 1) := dk_79 (dk_at dksX2_mend_9 5 rfl rfl)
theorem dX2_mend_217 : decode cX2_mend 217 = .ok (.aload_n 0, 1) := dk_42 (dk_at dksX2_mend_9 6 rfl rfl)
theorem dX2_mend_218 : decode cX2_mend 218 = .ok (.getfield 26, 3) := dk_180 0 26 (dk_at dksX2_mend_9 7 rfl rfl)
theorem dX2_mend_221 : decode cX2_mend 221 = .ok (.aload_n 0, 1) := dk_42 (dk_at dksX2_mend_9 10 rfl rfl)
theorem dX2_mend_222 : decode cX2_mend 222 = .ok (.getfield 124, 3) := dk_180 0 124 (dk_at dksX2_mend_9 11 rfl rfl)
theorem dX2_mend_225 : decode cX2_mend 225 = .ok (.iload_n 3, 1) := dk_29 (dk_at dksX2_mend_9 14 rfl rfl)
theorem dX2_mend_226 : decode cX2_mend 226 = .ok (.iastore, 1) := dk_79 (dk_at dksX2_mend_9 15 rfl rfl)
theorem dX2_mend_227 : decode cX2_mend 227 = .ok (.aload_n 0, 1) := dk_42 (dk_at dksX2_mend_9 16 rfl rfl)
theorem dX2_mend_228 : decode cX2_mend 228 = .ok (.dup, 1) := dk_89 (dk_at dksX2_mend_9 17 rfl rfl)
theorem dX2_mend_229 : decode cX2_mend 229 = .ok (.getfield 124, 3) := dk_180 0 124 (dk_at dksX2_mend_9 18 rfl rfl)
theorem dX2_mend_232 : decode cX2_mend 232 = .ok (.iconst 1, 1) := dk_4 (dk_at dksX2_mend_9 21 rfl rfl)
theorem dX2_mend_233 : decode cX2_mend 233 = .ok (.iadd, 1) := dk_96 (dk_at dksX2_mend_9 22 rfl rfl)
theorem dX2_mend_234 : decode cX2_mend 234 = .ok (.putfield 124, 3) := dk_181 0 124 (dk_at dksX2_mend_10 0 rfl rfl)
theorem dX2_mend_237 : decode cX2_mend 237 = .ok (.aload_n 0, 1) := dk_42 (dk_at dksX2_mend_10 3 rfl rfl)
theorem dX2_mend_238 : decode cX2_mend 238 = .ok (.aload_n 0, 1) := dk_42 (dk_at dksX2_mend_10 4 rfl rfl)
theorem dX2_mend_239 : decode cX2_mend 239 = .ok (.getfield 124, 3) := dk_180 0 124 (dk_at dksX2_mend_10 5 rfl rfl)
theorem dX2_mend_242 : decode cX2_mend 242 = .ok (.putfield 127, 3) := dk_181 0 127 (dk_at dksX2_mend_10 8 rfl rfl)
theorem dX2_mend_245 : decode cX2_mend 245 = .ok (.iload 6, 2) := dk_21 6 (dk_at dksX2_mend_10 11 rfl rfl)
theorem dX2_mend_247 : decode cX2_mend 247 = .ok (.ireturn, 1) := dk_172 (dk_at dksX2_mend_10 13 rfl rfl)
abbrev cX2_place : ByteArray := prog_31_method_12_code
def yX2_place : MethodName := ⟨RX2, "place", "(II)I"⟩
def dkwX2_place_2 : List UInt8 := [167, 0, 4, 2, 172]
abbrev dktX2_place_2 : List UInt8 := dkwX2_place_2 ++ []
def dkwX2_place_1 : List UInt8 := [2, 172, 28, 3, 7, 184, 0, 104, 153, 0, 19, 42, 27, 182, 0, 116, 153, 0, 11, 8, 27, 104, 28, 96]
abbrev dktX2_place_1 : List UInt8 := dkwX2_place_1 ++ dktX2_place_2
def dkwX2_place_0 : List UInt8 := [28, 8, 159, 0, 9, 28, 16, 6, 160, 0, 18, 27, 154, 0, 12, 16, 40, 28, 96, 8, 100, 167, 0, 4]
abbrev dktX2_place_0 : List UInt8 := dkwX2_place_0 ++ dktX2_place_1
theorem dksX2_place_0 : cX2_place.data.toList.drop 0 = dktX2_place_0 := by decide +kernel
theorem dksX2_place_1 : cX2_place.data.toList.drop 24 = dktX2_place_1 := dk_seg dksX2_place_0 24 rfl rfl
theorem dksX2_place_2 : cX2_place.data.toList.drop 48 = dktX2_place_2 := dk_seg dksX2_place_1 24 rfl rfl
theorem dX2_place_0 : decode cX2_place 0 = .ok (.iload_n 2, 1) := dk_28 (dk_at dksX2_place_0 0 rfl rfl)
theorem dX2_place_1 : decode cX2_place 1 = .ok (.iconst 5, 1) := dk_8 (dk_at dksX2_place_0 1 rfl rfl)
theorem dX2_place_2 : decode cX2_place 2 = .ok (.if_icmp .eq 9, 3) := dk_159 0 9 (dk_at dksX2_place_0 2 rfl rfl)
theorem dX2_place_5 : decode cX2_place 5 = .ok (.iload_n 2, 1) := dk_28 (dk_at dksX2_place_0 5 rfl rfl)
theorem dX2_place_6 : decode cX2_place 6 = .ok (.bipush 6, 2) := dk_16 6 (dk_at dksX2_place_0 6 rfl rfl)
theorem dX2_place_8 : decode cX2_place 8 = .ok (.if_icmp .ne 18, 3) := dk_160 0 18 (dk_at dksX2_place_0 8 rfl rfl)
theorem dX2_place_11 : decode cX2_place 11 = .ok (.iload_n 1, 1) := dk_27 (dk_at dksX2_place_0 11 rfl rfl)
theorem dX2_place_12 : decode cX2_place 12 = .ok (.ifCond .ne 12, 3) := dk_154 0 12 (dk_at dksX2_place_0 12 rfl rfl)
theorem dX2_place_15 : decode cX2_place 15 = .ok (.bipush 40, 2) := dk_16 40 (dk_at dksX2_place_0 15 rfl rfl)
theorem dX2_place_17 : decode cX2_place 17 = .ok (.iload_n 2, 1) := dk_28 (dk_at dksX2_place_0 17 rfl rfl)
theorem dX2_place_18 : decode cX2_place 18 = .ok (.iadd, 1) := dk_96 (dk_at dksX2_place_0 18 rfl rfl)
theorem dX2_place_19 : decode cX2_place 19 = .ok (.iconst 5, 1) := dk_8 (dk_at dksX2_place_0 19 rfl rfl)
theorem dX2_place_20 : decode cX2_place 20 = .ok (.isub, 1) := dk_100 (dk_at dksX2_place_0 20 rfl rfl)
theorem dX2_place_21 : decode cX2_place 21 = .ok (.goto 4, 3) := dk_167 0 4 (dk_at dksX2_place_0 21 rfl rfl)
theorem dX2_place_24 : decode cX2_place 24 = .ok (.iconst (-1), 1) := dk_2 (dk_at dksX2_place_1 0 rfl rfl)
theorem dX2_place_25 : decode cX2_place 25 = .ok (.ireturn, 1) := dk_172 (dk_at dksX2_place_1 1 rfl rfl)
theorem dX2_place_26 : decode cX2_place 26 = .ok (.iload_n 2, 1) := dk_28 (dk_at dksX2_place_1 2 rfl rfl)
theorem dX2_place_27 : decode cX2_place 27 = .ok (.iconst 0, 1) := dk_3 (dk_at dksX2_place_1 3 rfl rfl)
theorem dX2_place_28 : decode cX2_place 28 = .ok (.iconst 4, 1) := dk_7 (dk_at dksX2_place_1 4 rfl rfl)
theorem dX2_place_29 : decode cX2_place 29 = .ok (.invokestatic 104, 3) := dk_184 0 104 (dk_at dksX2_place_1 5 rfl rfl)
theorem dX2_place_32 : decode cX2_place 32 = .ok (.ifCond .eq 19, 3) := dk_153 0 19 (dk_at dksX2_place_1 8 rfl rfl)
theorem dX2_place_35 : decode cX2_place 35 = .ok (.aload_n 0, 1) := dk_42 (dk_at dksX2_place_1 11 rfl rfl)
theorem dX2_place_36 : decode cX2_place 36 = .ok (.iload_n 1, 1) := dk_27 (dk_at dksX2_place_1 12 rfl rfl)
theorem dX2_place_37 : decode cX2_place 37 = .ok (.invokevirtual 116, 3) := dk_182 0 116 (dk_at dksX2_place_1 13 rfl rfl)
theorem dX2_place_40 : decode cX2_place 40 = .ok (.ifCond .eq 11, 3) := dk_153 0 11 (dk_at dksX2_place_1 16 rfl rfl)
theorem dX2_place_43 : decode cX2_place 43 = .ok (.iconst 5, 1) := dk_8 (dk_at dksX2_place_1 19 rfl rfl)
theorem dX2_place_44 : decode cX2_place 44 = .ok (.iload_n 1, 1) := dk_27 (dk_at dksX2_place_1 20 rfl rfl)
theorem dX2_place_45 : decode cX2_place 45 = .ok (.imul, 1) := dk_104 (dk_at dksX2_place_1 21 rfl rfl)
theorem dX2_place_46 : decode cX2_place 46 = .ok (.iload_n 2, 1) := dk_28 (dk_at dksX2_place_1 22 rfl rfl)
theorem dX2_place_47 : decode cX2_place 47 = .ok (.iadd, 1) := dk_96 (dk_at dksX2_place_1 23 rfl rfl)
theorem dX2_place_48 : decode cX2_place 48 = .ok (.goto 4, 3) := dk_167 0 4 (dk_at dksX2_place_2 0 rfl rfl)
theorem dX2_place_51 : decode cX2_place 51 = .ok (.iconst (-1), 1) := dk_2 (dk_at dksX2_place_2 3 rfl rfl)
theorem dX2_place_52 : decode cX2_place 52 = .ok (.ireturn, 1) := dk_172 (dk_at dksX2_place_2 4 rfl rfl)
abbrev cX2_isOne : ByteArray := prog_31_method_7_code
def yX2_isOne : MethodName := ⟨RX2, "isOne", "(I)Z"⟩
def dkwX2_isOne_0 : List UInt8 := [27, 3, 42, 180, 0, 101, 4, 100, 184, 0, 104, 172]
abbrev dktX2_isOne_0 : List UInt8 := dkwX2_isOne_0 ++ []
theorem dksX2_isOne_0 : cX2_isOne.data.toList.drop 0 = dktX2_isOne_0 := by decide +kernel
theorem dX2_isOne_0 : decode cX2_isOne 0 = .ok (.iload_n 1, 1) := dk_27 (dk_at dksX2_isOne_0 0 rfl rfl)
theorem dX2_isOne_1 : decode cX2_isOne 1 = .ok (.iconst 0, 1) := dk_3 (dk_at dksX2_isOne_0 1 rfl rfl)
theorem dX2_isOne_2 : decode cX2_isOne 2 = .ok (.aload_n 0, 1) := dk_42 (dk_at dksX2_isOne_0 2 rfl rfl)
theorem dX2_isOne_3 : decode cX2_isOne 3 = .ok (.getfield 101, 3) := dk_180 0 101 (dk_at dksX2_isOne_0 3 rfl rfl)
theorem dX2_isOne_6 : decode cX2_isOne 6 = .ok (.iconst 1, 1) := dk_4 (dk_at dksX2_isOne_0 6 rfl rfl)
theorem dX2_isOne_7 : decode cX2_isOne 7 = .ok (.isub, 1) := dk_100 (dk_at dksX2_isOne_0 7 rfl rfl)
theorem dX2_isOne_8 : decode cX2_isOne 8 = .ok (.invokestatic 104, 3) := dk_184 0 104 (dk_at dksX2_isOne_0 8 rfl rfl)
theorem dX2_isOne_11 : decode cX2_isOne 11 = .ok (.ireturn, 1) := dk_172 (dk_at dksX2_isOne_0 11 rfl rfl)
abbrev cX2_of : ByteArray := prog_31_method_14_code
def yX2_of : MethodName := ⟨RX2, "of", "(II)I"⟩
def dkwX2_of_0 : List UInt8 := [42, 27, 28, 182, 0, 120, 62, 29, 2, 160, 0, 8, 18, 123, 167, 0, 9, 42, 180, 0, 13, 29, 46, 172]
abbrev dktX2_of_0 : List UInt8 := dkwX2_of_0 ++ []
theorem dksX2_of_0 : cX2_of.data.toList.drop 0 = dktX2_of_0 := by decide +kernel
theorem dX2_of_0 : decode cX2_of 0 = .ok (.aload_n 0, 1) := dk_42 (dk_at dksX2_of_0 0 rfl rfl)
theorem dX2_of_1 : decode cX2_of 1 = .ok (.iload_n 1, 1) := dk_27 (dk_at dksX2_of_0 1 rfl rfl)
theorem dX2_of_2 : decode cX2_of 2 = .ok (.iload_n 2, 1) := dk_28 (dk_at dksX2_of_0 2 rfl rfl)
theorem dX2_of_3 : decode cX2_of 3 = .ok (.invokevirtual 120, 3) := dk_182 0 120 (dk_at dksX2_of_0 3 rfl rfl)
theorem dX2_of_6 : decode cX2_of 6 = .ok (.istore_n 3, 1) := dk_62 (dk_at dksX2_of_0 6 rfl rfl)
theorem dX2_of_7 : decode cX2_of 7 = .ok (.iload_n 3, 1) := dk_29 (dk_at dksX2_of_0 7 rfl rfl)
theorem dX2_of_8 : decode cX2_of 8 = .ok (.iconst (-1), 1) := dk_2 (dk_at dksX2_of_0 8 rfl rfl)
theorem dX2_of_9 : decode cX2_of 9 = .ok (.if_icmp .ne 8, 3) := dk_160 0 8 (dk_at dksX2_of_0 9 rfl rfl)
theorem dX2_of_12 : decode cX2_of 12 = .ok (.ldc 123, 2) := dk_18 123 (dk_at dksX2_of_0 12 rfl rfl)
theorem dX2_of_14 : decode cX2_of 14 = .ok (.goto 9, 3) := dk_167 0 9 (dk_at dksX2_of_0 14 rfl rfl)
theorem dX2_of_17 : decode cX2_of 17 = .ok (.aload_n 0, 1) := dk_42 (dk_at dksX2_of_0 17 rfl rfl)
theorem dX2_of_18 : decode cX2_of 18 = .ok (.getfield 13, 3) := dk_180 0 13 (dk_at dksX2_of_0 18 rfl rfl)
theorem dX2_of_21 : decode cX2_of 21 = .ok (.iload_n 3, 1) := dk_29 (dk_at dksX2_of_0 21 rfl rfl)
theorem dX2_of_22 : decode cX2_of 22 = .ok (.iaload, 1) := dk_46 (dk_at dksX2_of_0 22 rfl rfl)
theorem dX2_of_23 : decode cX2_of 23 = .ok (.ireturn, 1) := dk_172 (dk_at dksX2_of_0 23 rfl rfl)
abbrev cX2_undo : ByteArray := prog_31_method_15_code
def yX2_undo : MethodName := ⟨RX2, "undo", "()I"⟩
def dkwX2_undo_1 : List UInt8 := [42, 180, 0, 20, 42, 180, 0, 124, 46, 42, 180, 0, 23, 42, 180, 0, 124, 46, 79, 42, 180, 0, 124, 172]
abbrev dktX2_undo_1 : List UInt8 := dkwX2_undo_1 ++ []
def dkwX2_undo_0 : List UInt8 := [42, 180, 0, 124, 154, 0, 6, 16, 251, 172, 42, 89, 180, 0, 124, 4, 100, 181, 0, 124, 42, 180, 0, 13]
abbrev dktX2_undo_0 : List UInt8 := dkwX2_undo_0 ++ dktX2_undo_1
theorem dksX2_undo_0 : cX2_undo.data.toList.drop 0 = dktX2_undo_0 := by decide +kernel
theorem dksX2_undo_1 : cX2_undo.data.toList.drop 24 = dktX2_undo_1 := dk_seg dksX2_undo_0 24 rfl rfl
theorem dX2_undo_0 : decode cX2_undo 0 = .ok (.aload_n 0, 1) := dk_42 (dk_at dksX2_undo_0 0 rfl rfl)
theorem dX2_undo_1 : decode cX2_undo 1 = .ok (.getfield 124, 3) := dk_180 0 124 (dk_at dksX2_undo_0 1 rfl rfl)
theorem dX2_undo_4 : decode cX2_undo 4 = .ok (.ifCond .ne 6, 3) := dk_154 0 6 (dk_at dksX2_undo_0 4 rfl rfl)
theorem dX2_undo_7 : decode cX2_undo 7 = .ok (.bipush (-5), 2) := dk_16 251 (dk_at dksX2_undo_0 7 rfl rfl)
theorem dX2_undo_9 : decode cX2_undo 9 = .ok (.ireturn, 1) := dk_172 (dk_at dksX2_undo_0 9 rfl rfl)
theorem dX2_undo_10 : decode cX2_undo 10 = .ok (.aload_n 0, 1) := dk_42 (dk_at dksX2_undo_0 10 rfl rfl)
theorem dX2_undo_11 : decode cX2_undo 11 = .ok (.dup, 1) := dk_89 (dk_at dksX2_undo_0 11 rfl rfl)
theorem dX2_undo_12 : decode cX2_undo 12 = .ok (.getfield 124, 3) := dk_180 0 124 (dk_at dksX2_undo_0 12 rfl rfl)
theorem dX2_undo_15 : decode cX2_undo 15 = .ok (.iconst 1, 1) := dk_4 (dk_at dksX2_undo_0 15 rfl rfl)
theorem dX2_undo_16 : decode cX2_undo 16 = .ok (.isub, 1) := dk_100 (dk_at dksX2_undo_0 16 rfl rfl)
theorem dX2_undo_17 : decode cX2_undo 17 = .ok (.putfield 124, 3) := dk_181 0 124 (dk_at dksX2_undo_0 17 rfl rfl)
theorem dX2_undo_20 : decode cX2_undo 20 = .ok (.aload_n 0, 1) := dk_42 (dk_at dksX2_undo_0 20 rfl rfl)
theorem dX2_undo_21 : decode cX2_undo 21 = .ok (.getfield 13, 3) := dk_180 0 13 (dk_at dksX2_undo_0 21 rfl rfl)
theorem dX2_undo_24 : decode cX2_undo 24 = .ok (.aload_n 0, 1) := dk_42 (dk_at dksX2_undo_1 0 rfl rfl)
theorem dX2_undo_25 : decode cX2_undo 25 = .ok (.getfield 20, 3) := dk_180 0 20 (dk_at dksX2_undo_1 1 rfl rfl)
theorem dX2_undo_28 : decode cX2_undo 28 = .ok (.aload_n 0, 1) := dk_42 (dk_at dksX2_undo_1 4 rfl rfl)
theorem dX2_undo_29 : decode cX2_undo 29 = .ok (.getfield 124, 3) := dk_180 0 124 (dk_at dksX2_undo_1 5 rfl rfl)
theorem dX2_undo_32 : decode cX2_undo 32 = .ok (.iaload, 1) := dk_46 (dk_at dksX2_undo_1 8 rfl rfl)
theorem dX2_undo_33 : decode cX2_undo 33 = .ok (.aload_n 0, 1) := dk_42 (dk_at dksX2_undo_1 9 rfl rfl)
theorem dX2_undo_34 : decode cX2_undo 34 = .ok (.getfield 23, 3) := dk_180 0 23 (dk_at dksX2_undo_1 10 rfl rfl)
theorem dX2_undo_37 : decode cX2_undo 37 = .ok (.aload_n 0, 1) := dk_42 (dk_at dksX2_undo_1 13 rfl rfl)
theorem dX2_undo_38 : decode cX2_undo 38 = .ok (.getfield 124, 3) := dk_180 0 124 (dk_at dksX2_undo_1 14 rfl rfl)
theorem dX2_undo_41 : decode cX2_undo 41 = .ok (.iaload, 1) := dk_46 (dk_at dksX2_undo_1 17 rfl rfl)
theorem dX2_undo_42 : decode cX2_undo 42 = .ok (.iastore, 1) := dk_79 (dk_at dksX2_undo_1 18 rfl rfl)
theorem dX2_undo_43 : decode cX2_undo 43 = .ok (.aload_n 0, 1) := dk_42 (dk_at dksX2_undo_1 19 rfl rfl)
theorem dX2_undo_44 : decode cX2_undo 44 = .ok (.getfield 124, 3) := dk_180 0 124 (dk_at dksX2_undo_1 20 rfl rfl)
theorem dX2_undo_47 : decode cX2_undo 47 = .ok (.ireturn, 1) := dk_172 (dk_at dksX2_undo_1 23 rfl rfl)
abbrev cX2_redo : ByteArray := prog_31_method_16_code
def yX2_redo : MethodName := ⟨RX2, "redo", "()I"⟩
def dkwX2_redo_2 : List UInt8 := [42, 180, 0, 127, 42, 180, 0, 124, 100, 172]
abbrev dktX2_redo_2 : List UInt8 := dkwX2_redo_2 ++ []
def dkwX2_redo_1 : List UInt8 := [180, 0, 124, 46, 42, 180, 0, 26, 42, 180, 0, 124, 46, 79, 42, 89, 180, 0, 124, 4, 96, 181, 0, 124]
abbrev dktX2_redo_1 : List UInt8 := dkwX2_redo_1 ++ dktX2_redo_2
def dkwX2_redo_0 : List UInt8 := [42, 180, 0, 124, 42, 180, 0, 127, 160, 0, 6, 16, 251, 172, 42, 180, 0, 13, 42, 180, 0, 20, 42]
abbrev dktX2_redo_0 : List UInt8 := dkwX2_redo_0 ++ dktX2_redo_1
theorem dksX2_redo_0 : cX2_redo.data.toList.drop 0 = dktX2_redo_0 := by decide +kernel
theorem dksX2_redo_1 : cX2_redo.data.toList.drop 23 = dktX2_redo_1 := dk_seg dksX2_redo_0 23 rfl rfl
theorem dksX2_redo_2 : cX2_redo.data.toList.drop 47 = dktX2_redo_2 := dk_seg dksX2_redo_1 24 rfl rfl
theorem dX2_redo_0 : decode cX2_redo 0 = .ok (.aload_n 0, 1) := dk_42 (dk_at dksX2_redo_0 0 rfl rfl)
theorem dX2_redo_1 : decode cX2_redo 1 = .ok (.getfield 124, 3) := dk_180 0 124 (dk_at dksX2_redo_0 1 rfl rfl)
theorem dX2_redo_4 : decode cX2_redo 4 = .ok (.aload_n 0, 1) := dk_42 (dk_at dksX2_redo_0 4 rfl rfl)
theorem dX2_redo_5 : decode cX2_redo 5 = .ok (.getfield 127, 3) := dk_180 0 127 (dk_at dksX2_redo_0 5 rfl rfl)
theorem dX2_redo_8 : decode cX2_redo 8 = .ok (.if_icmp .ne 6, 3) := dk_160 0 6 (dk_at dksX2_redo_0 8 rfl rfl)
theorem dX2_redo_11 : decode cX2_redo 11 = .ok (.bipush (-5), 2) := dk_16 251 (dk_at dksX2_redo_0 11 rfl rfl)
theorem dX2_redo_13 : decode cX2_redo 13 = .ok (.ireturn, 1) := dk_172 (dk_at dksX2_redo_0 13 rfl rfl)
theorem dX2_redo_14 : decode cX2_redo 14 = .ok (.aload_n 0, 1) := dk_42 (dk_at dksX2_redo_0 14 rfl rfl)
theorem dX2_redo_15 : decode cX2_redo 15 = .ok (.getfield 13, 3) := dk_180 0 13 (dk_at dksX2_redo_0 15 rfl rfl)
theorem dX2_redo_18 : decode cX2_redo 18 = .ok (.aload_n 0, 1) := dk_42 (dk_at dksX2_redo_0 18 rfl rfl)
theorem dX2_redo_19 : decode cX2_redo 19 = .ok (.getfield 20, 3) := dk_180 0 20 (dk_at dksX2_redo_0 19 rfl rfl)
theorem dX2_redo_22 : decode cX2_redo 22 = .ok (.aload_n 0, 1) := dk_42 (dk_at dksX2_redo_0 22 rfl rfl)
theorem dX2_redo_23 : decode cX2_redo 23 = .ok (.getfield 124, 3) := dk_180 0 124 (dk_at dksX2_redo_1 0 rfl rfl)
theorem dX2_redo_26 : decode cX2_redo 26 = .ok (.iaload, 1) := dk_46 (dk_at dksX2_redo_1 3 rfl rfl)
theorem dX2_redo_27 : decode cX2_redo 27 = .ok (.aload_n 0, 1) := dk_42 (dk_at dksX2_redo_1 4 rfl rfl)
theorem dX2_redo_28 : decode cX2_redo 28 = .ok (.getfield 26, 3) := dk_180 0 26 (dk_at dksX2_redo_1 5 rfl rfl)
theorem dX2_redo_31 : decode cX2_redo 31 = .ok (.aload_n 0, 1) := dk_42 (dk_at dksX2_redo_1 8 rfl rfl)
theorem dX2_redo_32 : decode cX2_redo 32 = .ok (.getfield 124, 3) := dk_180 0 124 (dk_at dksX2_redo_1 9 rfl rfl)
theorem dX2_redo_35 : decode cX2_redo 35 = .ok (.iaload, 1) := dk_46 (dk_at dksX2_redo_1 12 rfl rfl)
theorem dX2_redo_36 : decode cX2_redo 36 = .ok (.iastore, 1) := dk_79 (dk_at dksX2_redo_1 13 rfl rfl)
theorem dX2_redo_37 : decode cX2_redo 37 = .ok (.aload_n 0, 1) := dk_42 (dk_at dksX2_redo_1 14 rfl rfl)
theorem dX2_redo_38 : decode cX2_redo 38 = .ok (.dup, 1) := dk_89 (dk_at dksX2_redo_1 15 rfl rfl)
theorem dX2_redo_39 : decode cX2_redo 39 = .ok (.getfield 124, 3) := dk_180 0 124 (dk_at dksX2_redo_1 16 rfl rfl)
theorem dX2_redo_42 : decode cX2_redo 42 = .ok (.iconst 1, 1) := dk_4 (dk_at dksX2_redo_1 19 rfl rfl)
theorem dX2_redo_43 : decode cX2_redo 43 = .ok (.iadd, 1) := dk_96 (dk_at dksX2_redo_1 20 rfl rfl)
theorem dX2_redo_44 : decode cX2_redo 44 = .ok (.putfield 124, 3) := dk_181 0 124 (dk_at dksX2_redo_1 21 rfl rfl)
theorem dX2_redo_47 : decode cX2_redo 47 = .ok (.aload_n 0, 1) := dk_42 (dk_at dksX2_redo_2 0 rfl rfl)
theorem dX2_redo_48 : decode cX2_redo 48 = .ok (.getfield 127, 3) := dk_180 0 127 (dk_at dksX2_redo_2 1 rfl rfl)
theorem dX2_redo_51 : decode cX2_redo 51 = .ok (.aload_n 0, 1) := dk_42 (dk_at dksX2_redo_2 4 rfl rfl)
theorem dX2_redo_52 : decode cX2_redo 52 = .ok (.getfield 124, 3) := dk_180 0 124 (dk_at dksX2_redo_2 5 rfl rfl)
theorem dX2_redo_55 : decode cX2_redo 55 = .ok (.isub, 1) := dk_100 (dk_at dksX2_redo_2 8 rfl rfl)
theorem dX2_redo_56 : decode cX2_redo 56 = .ok (.ireturn, 1) := dk_172 (dk_at dksX2_redo_2 9 rfl rfl)
abbrev cX2_feed : ByteArray := prog_31_method_17_code
def yX2_feed : MethodName := ⟨RX2, "feed", "(I)I"⟩
def dkwX2_feed_2 : List UInt8 := [180, 0, 130, 172]
abbrev dktX2_feed_2 : List UInt8 := dkwX2_feed_2 ++ []
def dkwX2_feed_1 : List UInt8 := [172, 42, 180, 0, 29, 42, 180, 0, 130, 27, 79, 42, 89, 180, 0, 130, 4, 96, 181, 0, 130, 42]
abbrev dktX2_feed_1 : List UInt8 := dkwX2_feed_1 ++ dktX2_feed_2
def dkwX2_feed_0 : List UInt8 := [27, 3, 17, 0, 255, 184, 0, 104, 154, 0, 5, 2, 172, 42, 180, 0, 130, 16, 120, 160, 0, 6, 16, 253]
abbrev dktX2_feed_0 : List UInt8 := dkwX2_feed_0 ++ dktX2_feed_1
theorem dksX2_feed_0 : cX2_feed.data.toList.drop 0 = dktX2_feed_0 := by decide +kernel
theorem dksX2_feed_1 : cX2_feed.data.toList.drop 24 = dktX2_feed_1 := dk_seg dksX2_feed_0 24 rfl rfl
theorem dksX2_feed_2 : cX2_feed.data.toList.drop 46 = dktX2_feed_2 := dk_seg dksX2_feed_1 22 rfl rfl
theorem dX2_feed_0 : decode cX2_feed 0 = .ok (.iload_n 1, 1) := dk_27 (dk_at dksX2_feed_0 0 rfl rfl)
theorem dX2_feed_1 : decode cX2_feed 1 = .ok (.iconst 0, 1) := dk_3 (dk_at dksX2_feed_0 1 rfl rfl)
theorem dX2_feed_2 : decode cX2_feed 2 = .ok (.sipush 255, 3) := dk_17 0 255 (dk_at dksX2_feed_0 2 rfl rfl)
theorem dX2_feed_5 : decode cX2_feed 5 = .ok (.invokestatic 104, 3) := dk_184 0 104 (dk_at dksX2_feed_0 5 rfl rfl)
theorem dX2_feed_8 : decode cX2_feed 8 = .ok (.ifCond .ne 5, 3) := dk_154 0 5 (dk_at dksX2_feed_0 8 rfl rfl)
theorem dX2_feed_11 : decode cX2_feed 11 = .ok (.iconst (-1), 1) := dk_2 (dk_at dksX2_feed_0 11 rfl rfl)
theorem dX2_feed_12 : decode cX2_feed 12 = .ok (.ireturn, 1) := dk_172 (dk_at dksX2_feed_0 12 rfl rfl)
theorem dX2_feed_13 : decode cX2_feed 13 = .ok (.aload_n 0, 1) := dk_42 (dk_at dksX2_feed_0 13 rfl rfl)
theorem dX2_feed_14 : decode cX2_feed 14 = .ok (.getfield 130, 3) := dk_180 0 130 (dk_at dksX2_feed_0 14 rfl rfl)
theorem dX2_feed_17 : decode cX2_feed 17 = .ok (.bipush 120, 2) := dk_16 120 (dk_at dksX2_feed_0 17 rfl rfl)
theorem dX2_feed_19 : decode cX2_feed 19 = .ok (.if_icmp .ne 6, 3) := dk_160 0 6 (dk_at dksX2_feed_0 19 rfl rfl)
theorem dX2_feed_22 : decode cX2_feed 22 = .ok (.bipush (-3), 2) := dk_16 253 (dk_at dksX2_feed_0 22 rfl rfl)
theorem dX2_feed_24 : decode cX2_feed 24 = .ok (.ireturn, 1) := dk_172 (dk_at dksX2_feed_1 0 rfl rfl)
theorem dX2_feed_25 : decode cX2_feed 25 = .ok (.aload_n 0, 1) := dk_42 (dk_at dksX2_feed_1 1 rfl rfl)
theorem dX2_feed_26 : decode cX2_feed 26 = .ok (.getfield 29, 3) := dk_180 0 29 (dk_at dksX2_feed_1 2 rfl rfl)
theorem dX2_feed_29 : decode cX2_feed 29 = .ok (.aload_n 0, 1) := dk_42 (dk_at dksX2_feed_1 5 rfl rfl)
theorem dX2_feed_30 : decode cX2_feed 30 = .ok (.getfield 130, 3) := dk_180 0 130 (dk_at dksX2_feed_1 6 rfl rfl)
theorem dX2_feed_33 : decode cX2_feed 33 = .ok (.iload_n 1, 1) := dk_27 (dk_at dksX2_feed_1 9 rfl rfl)
theorem dX2_feed_34 : decode cX2_feed 34 = .ok (.iastore, 1) := dk_79 (dk_at dksX2_feed_1 10 rfl rfl)
theorem dX2_feed_35 : decode cX2_feed 35 = .ok (.aload_n 0, 1) := dk_42 (dk_at dksX2_feed_1 11 rfl rfl)
theorem dX2_feed_36 : decode cX2_feed 36 = .ok (.dup, 1) := dk_89 (dk_at dksX2_feed_1 12 rfl rfl)
theorem dX2_feed_37 : decode cX2_feed 37 = .ok (.getfield 130, 3) := dk_180 0 130 (dk_at dksX2_feed_1 13 rfl rfl)
theorem dX2_feed_40 : decode cX2_feed 40 = .ok (.iconst 1, 1) := dk_4 (dk_at dksX2_feed_1 16 rfl rfl)
theorem dX2_feed_41 : decode cX2_feed 41 = .ok (.iadd, 1) := dk_96 (dk_at dksX2_feed_1 17 rfl rfl)
theorem dX2_feed_42 : decode cX2_feed 42 = .ok (.putfield 130, 3) := dk_181 0 130 (dk_at dksX2_feed_1 18 rfl rfl)
theorem dX2_feed_45 : decode cX2_feed 45 = .ok (.aload_n 0, 1) := dk_42 (dk_at dksX2_feed_1 21 rfl rfl)
theorem dX2_feed_46 : decode cX2_feed 46 = .ok (.getfield 130, 3) := dk_180 0 130 (dk_at dksX2_feed_2 0 rfl rfl)
theorem dX2_feed_49 : decode cX2_feed 49 = .ok (.ireturn, 1) := dk_172 (dk_at dksX2_feed_2 3 rfl rfl)
abbrev cX2_law : ByteArray := prog_31_method_29_code
def yX2_law : MethodName := ⟨RX2, "law", "()I"⟩
def dkwX2_law_5 : List UInt8 := [132, 1, 1, 167, 255, 233, 42, 42, 180, 0, 140, 181, 0, 181, 42, 4, 181, 0, 184, 4, 172]
abbrev dktX2_law_5 : List UInt8 := dkwX2_law_5 ++ []
def dkwX2_law_4 : List UInt8 := [172, 3, 60, 27, 42, 180, 0, 140, 162, 0, 21, 42, 180, 0, 32, 27, 42, 180, 0, 35, 27, 46, 79]
abbrev dktX2_law_4 : List UInt8 := dkwX2_law_4 ++ dktX2_law_5
def dkwX2_law_3 : List UInt8 := [180, 0, 133, 153, 0, 14, 42, 180, 0, 137, 42, 180, 0, 140, 162, 0, 11, 16, 156, 42, 180, 0, 137, 100]
abbrev dktX2_law_3 : List UInt8 := dkwX2_law_3 ++ dktX2_law_4
def dkwX2_law_2 : List UInt8 := [162, 0, 16, 42, 180, 0, 38, 27, 3, 79, 132, 1, 1, 167, 255, 240, 42, 182, 0, 178, 87, 42]
abbrev dktX2_law_2 : List UInt8 := dkwX2_law_2 ++ dktX2_law_3
def dkwX2_law_1 : List UInt8 := [180, 0, 29, 27, 46, 79, 132, 1, 1, 167, 255, 233, 42, 3, 181, 0, 130, 3, 60, 27, 16, 6]
abbrev dktX2_law_1 : List UInt8 := dkwX2_law_1 ++ dktX2_law_2
def dkwX2_law_0 : List UInt8 := [42, 42, 180, 0, 130, 181, 0, 140, 3, 60, 27, 42, 180, 0, 140, 162, 0, 21, 42, 180, 0, 35, 27, 42]
abbrev dktX2_law_0 : List UInt8 := dkwX2_law_0 ++ dktX2_law_1
theorem dksX2_law_0 : cX2_law.data.toList.drop 0 = dktX2_law_0 := by decide +kernel
theorem dksX2_law_1 : cX2_law.data.toList.drop 24 = dktX2_law_1 := dk_seg dksX2_law_0 24 rfl rfl
theorem dksX2_law_2 : cX2_law.data.toList.drop 46 = dktX2_law_2 := dk_seg dksX2_law_1 22 rfl rfl
theorem dksX2_law_3 : cX2_law.data.toList.drop 68 = dktX2_law_3 := dk_seg dksX2_law_2 22 rfl rfl
theorem dksX2_law_4 : cX2_law.data.toList.drop 92 = dktX2_law_4 := dk_seg dksX2_law_3 24 rfl rfl
theorem dksX2_law_5 : cX2_law.data.toList.drop 115 = dktX2_law_5 := dk_seg dksX2_law_4 23 rfl rfl
theorem dX2_law_0 : decode cX2_law 0 = .ok (.aload_n 0, 1) := dk_42 (dk_at dksX2_law_0 0 rfl rfl)
theorem dX2_law_1 : decode cX2_law 1 = .ok (.aload_n 0, 1) := dk_42 (dk_at dksX2_law_0 1 rfl rfl)
theorem dX2_law_2 : decode cX2_law 2 = .ok (.getfield 130, 3) := dk_180 0 130 (dk_at dksX2_law_0 2 rfl rfl)
theorem dX2_law_5 : decode cX2_law 5 = .ok (.putfield 140, 3) := dk_181 0 140 (dk_at dksX2_law_0 5 rfl rfl)
theorem dX2_law_8 : decode cX2_law 8 = .ok (.iconst 0, 1) := dk_3 (dk_at dksX2_law_0 8 rfl rfl)
theorem dX2_law_9 : decode cX2_law 9 = .ok (.istore_n 1, 1) := dk_60 (dk_at dksX2_law_0 9 rfl rfl)
theorem dX2_law_10 : decode cX2_law 10 = .ok (.iload_n 1, 1) := dk_27 (dk_at dksX2_law_0 10 rfl rfl)
theorem dX2_law_11 : decode cX2_law 11 = .ok (.aload_n 0, 1) := dk_42 (dk_at dksX2_law_0 11 rfl rfl)
theorem dX2_law_12 : decode cX2_law 12 = .ok (.getfield 140, 3) := dk_180 0 140 (dk_at dksX2_law_0 12 rfl rfl)
theorem dX2_law_15 : decode cX2_law 15 = .ok (.if_icmp .ge 21, 3) := dk_162 0 21 (dk_at dksX2_law_0 15 rfl rfl)
theorem dX2_law_18 : decode cX2_law 18 = .ok (.aload_n 0, 1) := dk_42 (dk_at dksX2_law_0 18 rfl rfl)
theorem dX2_law_19 : decode cX2_law 19 = .ok (.getfield 35, 3) := dk_180 0 35 (dk_at dksX2_law_0 19 rfl rfl)
theorem dX2_law_22 : decode cX2_law 22 = .ok (.iload_n 1, 1) := dk_27 (dk_at dksX2_law_0 22 rfl rfl)
theorem dX2_law_23 : decode cX2_law 23 = .ok (.aload_n 0, 1) := dk_42 (dk_at dksX2_law_0 23 rfl rfl)
theorem dX2_law_24 : decode cX2_law 24 = .ok (.getfield 29, 3) := dk_180 0 29 (dk_at dksX2_law_1 0 rfl rfl)
theorem dX2_law_27 : decode cX2_law 27 = .ok (.iload_n 1, 1) := dk_27 (dk_at dksX2_law_1 3 rfl rfl)
theorem dX2_law_28 : decode cX2_law 28 = .ok (.iaload, 1) := dk_46 (dk_at dksX2_law_1 4 rfl rfl)
theorem dX2_law_29 : decode cX2_law 29 = .ok (.iastore, 1) := dk_79 (dk_at dksX2_law_1 5 rfl rfl)
theorem dX2_law_30 : decode cX2_law 30 = .ok (.iinc 1 1, 3) := dk_132 1 1 (dk_at dksX2_law_1 6 rfl rfl)
theorem dX2_law_33 : decode cX2_law 33 = .ok (.goto (-23), 3) := dk_167 255 233 (dk_at dksX2_law_1 9 rfl rfl)
theorem dX2_law_36 : decode cX2_law 36 = .ok (.aload_n 0, 1) := dk_42 (dk_at dksX2_law_1 12 rfl rfl)
theorem dX2_law_37 : decode cX2_law 37 = .ok (.iconst 0, 1) := dk_3 (dk_at dksX2_law_1 13 rfl rfl)
theorem dX2_law_38 : decode cX2_law 38 = .ok (.putfield 130, 3) := dk_181 0 130 (dk_at dksX2_law_1 14 rfl rfl)
theorem dX2_law_41 : decode cX2_law 41 = .ok (.iconst 0, 1) := dk_3 (dk_at dksX2_law_1 17 rfl rfl)
theorem dX2_law_42 : decode cX2_law 42 = .ok (.istore_n 1, 1) := dk_60 (dk_at dksX2_law_1 18 rfl rfl)
theorem dX2_law_43 : decode cX2_law 43 = .ok (.iload_n 1, 1) := dk_27 (dk_at dksX2_law_1 19 rfl rfl)
theorem dX2_law_44 : decode cX2_law 44 = .ok (.bipush 6, 2) := dk_16 6 (dk_at dksX2_law_1 20 rfl rfl)
theorem dX2_law_46 : decode cX2_law 46 = .ok (.if_icmp .ge 16, 3) := dk_162 0 16 (dk_at dksX2_law_2 0 rfl rfl)
theorem dX2_law_49 : decode cX2_law 49 = .ok (.aload_n 0, 1) := dk_42 (dk_at dksX2_law_2 3 rfl rfl)
theorem dX2_law_50 : decode cX2_law 50 = .ok (.getfield 38, 3) := dk_180 0 38 (dk_at dksX2_law_2 4 rfl rfl)
theorem dX2_law_53 : decode cX2_law 53 = .ok (.iload_n 1, 1) := dk_27 (dk_at dksX2_law_2 7 rfl rfl)
theorem dX2_law_54 : decode cX2_law 54 = .ok (.iconst 0, 1) := dk_3 (dk_at dksX2_law_2 8 rfl rfl)
theorem dX2_law_55 : decode cX2_law 55 = .ok (.iastore, 1) := dk_79 (dk_at dksX2_law_2 9 rfl rfl)
theorem dX2_law_56 : decode cX2_law 56 = .ok (.iinc 1 1, 3) := dk_132 1 1 (dk_at dksX2_law_2 10 rfl rfl)
theorem dX2_law_59 : decode cX2_law 59 = .ok (.goto (-16), 3) := dk_167 255 240 (dk_at dksX2_law_2 13 rfl rfl)
theorem dX2_law_62 : decode cX2_law 62 = .ok (.aload_n 0, 1) := dk_42 (dk_at dksX2_law_2 16 rfl rfl)
theorem dX2_law_63 : decode cX2_law 63 = .ok (.invokevirtual 178, 3) := dk_182 0 178 (dk_at dksX2_law_2 17 rfl rfl)
theorem dX2_law_66 : decode cX2_law 66 = .ok (.pop, 1) := dk_87 (dk_at dksX2_law_2 20 rfl rfl)
theorem dX2_law_67 : decode cX2_law 67 = .ok (.aload_n 0, 1) := dk_42 (dk_at dksX2_law_2 21 rfl rfl)
theorem dX2_law_68 : decode cX2_law 68 = .ok (.getfield 133, 3) := dk_180 0 133 (dk_at dksX2_law_3 0 rfl rfl)
theorem dX2_law_71 : decode cX2_law 71 = .ok (.ifCond .eq 14, 3) := dk_153 0 14 (dk_at dksX2_law_3 3 rfl rfl)
theorem dX2_law_74 : decode cX2_law 74 = .ok (.aload_n 0, 1) := dk_42 (dk_at dksX2_law_3 6 rfl rfl)
theorem dX2_law_75 : decode cX2_law 75 = .ok (.getfield 137, 3) := dk_180 0 137 (dk_at dksX2_law_3 7 rfl rfl)
theorem dX2_law_78 : decode cX2_law 78 = .ok (.aload_n 0, 1) := dk_42 (dk_at dksX2_law_3 10 rfl rfl)
theorem dX2_law_79 : decode cX2_law 79 = .ok (.getfield 140, 3) := dk_180 0 140 (dk_at dksX2_law_3 11 rfl rfl)
theorem dX2_law_82 : decode cX2_law 82 = .ok (.if_icmp .ge 11, 3) := dk_162 0 11 (dk_at dksX2_law_3 14 rfl rfl)
theorem dX2_law_85 : decode cX2_law 85 = .ok (.bipush (-100), 2) := dk_16 156 (dk_at dksX2_law_3 17 rfl rfl)
theorem dX2_law_87 : decode cX2_law 87 = .ok (.aload_n 0, 1) := dk_42 (dk_at dksX2_law_3 19 rfl rfl)
theorem dX2_law_88 : decode cX2_law 88 = .ok (.getfield 137, 3) := dk_180 0 137 (dk_at dksX2_law_3 20 rfl rfl)
theorem dX2_law_91 : decode cX2_law 91 = .ok (.isub, 1) := dk_100 (dk_at dksX2_law_3 23 rfl rfl)
theorem dX2_law_92 : decode cX2_law 92 = .ok (.ireturn, 1) := dk_172 (dk_at dksX2_law_4 0 rfl rfl)
theorem dX2_law_93 : decode cX2_law 93 = .ok (.iconst 0, 1) := dk_3 (dk_at dksX2_law_4 1 rfl rfl)
theorem dX2_law_94 : decode cX2_law 94 = .ok (.istore_n 1, 1) := dk_60 (dk_at dksX2_law_4 2 rfl rfl)
theorem dX2_law_95 : decode cX2_law 95 = .ok (.iload_n 1, 1) := dk_27 (dk_at dksX2_law_4 3 rfl rfl)
theorem dX2_law_96 : decode cX2_law 96 = .ok (.aload_n 0, 1) := dk_42 (dk_at dksX2_law_4 4 rfl rfl)
theorem dX2_law_97 : decode cX2_law 97 = .ok (.getfield 140, 3) := dk_180 0 140 (dk_at dksX2_law_4 5 rfl rfl)
theorem dX2_law_100 : decode cX2_law 100 = .ok (.if_icmp .ge 21, 3) := dk_162 0 21 (dk_at dksX2_law_4 8 rfl rfl)
theorem dX2_law_103 : decode cX2_law 103 = .ok (.aload_n 0, 1) := dk_42 (dk_at dksX2_law_4 11 rfl rfl)
theorem dX2_law_104 : decode cX2_law 104 = .ok (.getfield 32, 3) := dk_180 0 32 (dk_at dksX2_law_4 12 rfl rfl)
theorem dX2_law_107 : decode cX2_law 107 = .ok (.iload_n 1, 1) := dk_27 (dk_at dksX2_law_4 15 rfl rfl)
theorem dX2_law_108 : decode cX2_law 108 = .ok (.aload_n 0, 1) := dk_42 (dk_at dksX2_law_4 16 rfl rfl)
theorem dX2_law_109 : decode cX2_law 109 = .ok (.getfield 35, 3) := dk_180 0 35 (dk_at dksX2_law_4 17 rfl rfl)
theorem dX2_law_112 : decode cX2_law 112 = .ok (.iload_n 1, 1) := dk_27 (dk_at dksX2_law_4 20 rfl rfl)
theorem dX2_law_113 : decode cX2_law 113 = .ok (.iaload, 1) := dk_46 (dk_at dksX2_law_4 21 rfl rfl)
theorem dX2_law_114 : decode cX2_law 114 = .ok (.iastore, 1) := dk_79 (dk_at dksX2_law_4 22 rfl rfl)
theorem dX2_law_115 : decode cX2_law 115 = .ok (.iinc 1 1, 3) := dk_132 1 1 (dk_at dksX2_law_5 0 rfl rfl)
theorem dX2_law_118 : decode cX2_law 118 = .ok (.goto (-23), 3) := dk_167 255 233 (dk_at dksX2_law_5 3 rfl rfl)
theorem dX2_law_121 : decode cX2_law 121 = .ok (.aload_n 0, 1) := dk_42 (dk_at dksX2_law_5 6 rfl rfl)
theorem dX2_law_122 : decode cX2_law 122 = .ok (.aload_n 0, 1) := dk_42 (dk_at dksX2_law_5 7 rfl rfl)
theorem dX2_law_123 : decode cX2_law 123 = .ok (.getfield 140, 3) := dk_180 0 140 (dk_at dksX2_law_5 8 rfl rfl)
theorem dX2_law_126 : decode cX2_law 126 = .ok (.putfield 181, 3) := dk_181 0 181 (dk_at dksX2_law_5 11 rfl rfl)
theorem dX2_law_129 : decode cX2_law 129 = .ok (.aload_n 0, 1) := dk_42 (dk_at dksX2_law_5 14 rfl rfl)
theorem dX2_law_130 : decode cX2_law 130 = .ok (.iconst 1, 1) := dk_4 (dk_at dksX2_law_5 15 rfl rfl)
theorem dX2_law_131 : decode cX2_law 131 = .ok (.putfield 184, 3) := dk_181 0 184 (dk_at dksX2_law_5 16 rfl rfl)
theorem dX2_law_134 : decode cX2_law 134 = .ok (.iconst 1, 1) := dk_4 (dk_at dksX2_law_5 19 rfl rfl)
theorem dX2_law_135 : decode cX2_law 135 = .ok (.ireturn, 1) := dk_172 (dk_at dksX2_law_5 20 rfl rfl)
abbrev cX2_gives : ByteArray := prog_31_method_28_code
def yX2_gives : MethodName := ⟨RX2, "gives", "()I"⟩
def dkwX2_gives_5 : List UInt8 := [153, 0, 7, 4, 167, 0, 4, 3, 96, 181, 0, 137, 167, 255, 150, 27, 172]
abbrev dktX2_gives_5 : List UInt8 := dkwX2_gives_5 ++ []
def dkwX2_gives_4 : List UInt8 := [153, 0, 7, 4, 167, 0, 4, 3, 61, 42, 16, 59, 182, 0, 154, 62, 42, 89, 180, 0, 137, 29]
abbrev dktX2_gives_4 : List UInt8 := dkwX2_gives_4 ++ dktX2_gives_5
def dkwX2_gives_3 : List UInt8 := [54, 4, 21, 5, 153, 0, 12, 28, 154, 0, 8, 21, 4, 167, 0, 4, 27, 60, 28, 154, 0, 8, 21, 5]
abbrev dktX2_gives_3 : List UInt8 := dkwX2_gives_3 ++ dktX2_gives_4
def dkwX2_gives_2 : List UInt8 := [180, 0, 137, 4, 96, 181, 0, 137, 21, 4, 153, 0, 7, 4, 167, 0, 4, 3, 54, 5, 42, 182, 0, 163]
abbrev dktX2_gives_2 : List UInt8 := dkwX2_gives_2 ++ dktX2_gives_3
def dkwX2_gives_1 : List UInt8 := [153, 0, 108, 42, 182, 0, 163, 54, 4, 4, 54, 5, 42, 16, 63, 182, 0, 154, 153, 0, 31, 42, 89]
abbrev dktX2_gives_1 : List UInt8 := dkwX2_gives_1 ++ dktX2_gives_2
def dkwX2_gives_0 : List UInt8 := [42, 3, 181, 0, 137, 42, 4, 181, 0, 133, 42, 3, 181, 0, 147, 3, 60, 3, 61, 4, 62, 29]
abbrev dktX2_gives_0 : List UInt8 := dkwX2_gives_0 ++ dktX2_gives_1
theorem dksX2_gives_0 : cX2_gives.data.toList.drop 0 = dktX2_gives_0 := by decide +kernel
theorem dksX2_gives_1 : cX2_gives.data.toList.drop 22 = dktX2_gives_1 := dk_seg dksX2_gives_0 22 rfl rfl
theorem dksX2_gives_2 : cX2_gives.data.toList.drop 45 = dktX2_gives_2 := dk_seg dksX2_gives_1 23 rfl rfl
theorem dksX2_gives_3 : cX2_gives.data.toList.drop 69 = dktX2_gives_3 := dk_seg dksX2_gives_2 24 rfl rfl
theorem dksX2_gives_4 : cX2_gives.data.toList.drop 93 = dktX2_gives_4 := dk_seg dksX2_gives_3 24 rfl rfl
theorem dksX2_gives_5 : cX2_gives.data.toList.drop 115 = dktX2_gives_5 := dk_seg dksX2_gives_4 22 rfl rfl
theorem dX2_gives_0 : decode cX2_gives 0 = .ok (.aload_n 0, 1) := dk_42 (dk_at dksX2_gives_0 0 rfl rfl)
theorem dX2_gives_1 : decode cX2_gives 1 = .ok (.iconst 0, 1) := dk_3 (dk_at dksX2_gives_0 1 rfl rfl)
theorem dX2_gives_2 : decode cX2_gives 2 = .ok (.putfield 137, 3) := dk_181 0 137 (dk_at dksX2_gives_0 2 rfl rfl)
theorem dX2_gives_5 : decode cX2_gives 5 = .ok (.aload_n 0, 1) := dk_42 (dk_at dksX2_gives_0 5 rfl rfl)
theorem dX2_gives_6 : decode cX2_gives 6 = .ok (.iconst 1, 1) := dk_4 (dk_at dksX2_gives_0 6 rfl rfl)
theorem dX2_gives_7 : decode cX2_gives 7 = .ok (.putfield 133, 3) := dk_181 0 133 (dk_at dksX2_gives_0 7 rfl rfl)
theorem dX2_gives_10 : decode cX2_gives 10 = .ok (.aload_n 0, 1) := dk_42 (dk_at dksX2_gives_0 10 rfl rfl)
theorem dX2_gives_11 : decode cX2_gives 11 = .ok (.iconst 0, 1) := dk_3 (dk_at dksX2_gives_0 11 rfl rfl)
theorem dX2_gives_12 : decode cX2_gives 12 = .ok (.putfield 147, 3) := dk_181 0 147 (dk_at dksX2_gives_0 12 rfl rfl)
theorem dX2_gives_15 : decode cX2_gives 15 = .ok (.iconst 0, 1) := dk_3 (dk_at dksX2_gives_0 15 rfl rfl)
theorem dX2_gives_16 : decode cX2_gives 16 = .ok (.istore_n 1, 1) := dk_60 (dk_at dksX2_gives_0 16 rfl rfl)
theorem dX2_gives_17 : decode cX2_gives 17 = .ok (.iconst 0, 1) := dk_3 (dk_at dksX2_gives_0 17 rfl rfl)
theorem dX2_gives_18 : decode cX2_gives 18 = .ok (.istore_n 2, 1) := dk_61 (dk_at dksX2_gives_0 18 rfl rfl)
theorem dX2_gives_19 : decode cX2_gives 19 = .ok (.iconst 1, 1) := dk_4 (dk_at dksX2_gives_0 19 rfl rfl)
theorem dX2_gives_20 : decode cX2_gives 20 = .ok (.istore_n 3, 1) := dk_62 (dk_at dksX2_gives_0 20 rfl rfl)
theorem dX2_gives_21 : decode cX2_gives 21 = .ok (.iload_n 3, 1) := dk_29 (dk_at dksX2_gives_0 21 rfl rfl)
theorem dX2_gives_22 : decode cX2_gives 22 = .ok (.ifCond .eq 108, 3) := dk_153 0 108 (dk_at dksX2_gives_1 0 rfl rfl)
theorem dX2_gives_25 : decode cX2_gives 25 = .ok (.aload_n 0, 1) := dk_42 (dk_at dksX2_gives_1 3 rfl rfl)
theorem dX2_gives_26 : decode cX2_gives 26 = .ok (.invokevirtual 163, 3) := dk_182 0 163 (dk_at dksX2_gives_1 4 rfl rfl)
theorem dX2_gives_29 : decode cX2_gives 29 = .ok (.istore 4, 2) := dk_54 4 (dk_at dksX2_gives_1 7 rfl rfl)
theorem dX2_gives_31 : decode cX2_gives 31 = .ok (.iconst 1, 1) := dk_4 (dk_at dksX2_gives_1 9 rfl rfl)
theorem dX2_gives_32 : decode cX2_gives 32 = .ok (.istore 5, 2) := dk_54 5 (dk_at dksX2_gives_1 10 rfl rfl)
theorem dX2_gives_34 : decode cX2_gives 34 = .ok (.aload_n 0, 1) := dk_42 (dk_at dksX2_gives_1 12 rfl rfl)
theorem dX2_gives_35 : decode cX2_gives 35 = .ok (.bipush 63, 2) := dk_16 63 (dk_at dksX2_gives_1 13 rfl rfl)
theorem dX2_gives_37 : decode cX2_gives 37 = .ok (.invokevirtual 154, 3) := dk_182 0 154 (dk_at dksX2_gives_1 15 rfl rfl)
theorem dX2_gives_40 : decode cX2_gives 40 = .ok (.ifCond .eq 31, 3) := dk_153 0 31 (dk_at dksX2_gives_1 18 rfl rfl)
theorem dX2_gives_43 : decode cX2_gives 43 = .ok (.aload_n 0, 1) := dk_42 (dk_at dksX2_gives_1 21 rfl rfl)
theorem dX2_gives_44 : decode cX2_gives 44 = .ok (.dup, 1) := dk_89 (dk_at dksX2_gives_1 22 rfl rfl)
theorem dX2_gives_45 : decode cX2_gives 45 = .ok (.getfield 137, 3) := dk_180 0 137 (dk_at dksX2_gives_2 0 rfl rfl)
theorem dX2_gives_48 : decode cX2_gives 48 = .ok (.iconst 1, 1) := dk_4 (dk_at dksX2_gives_2 3 rfl rfl)
theorem dX2_gives_49 : decode cX2_gives 49 = .ok (.iadd, 1) := dk_96 (dk_at dksX2_gives_2 4 rfl rfl)
theorem dX2_gives_50 : decode cX2_gives 50 = .ok (.putfield 137, 3) := dk_181 0 137 (dk_at dksX2_gives_2 5 rfl rfl)
theorem dX2_gives_53 : decode cX2_gives 53 = .ok (.iload 4, 2) := dk_21 4 (dk_at dksX2_gives_2 8 rfl rfl)
theorem dX2_gives_55 : decode cX2_gives 55 = .ok (.ifCond .eq 7, 3) := dk_153 0 7 (dk_at dksX2_gives_2 10 rfl rfl)
theorem dX2_gives_58 : decode cX2_gives 58 = .ok (.iconst 1, 1) := dk_4 (dk_at dksX2_gives_2 13 rfl rfl)
theorem dX2_gives_59 : decode cX2_gives 59 = .ok (.goto 4, 3) := dk_167 0 4 (dk_at dksX2_gives_2 14 rfl rfl)
theorem dX2_gives_62 : decode cX2_gives 62 = .ok (.iconst 0, 1) := dk_3 (dk_at dksX2_gives_2 17 rfl rfl)
theorem dX2_gives_63 : decode cX2_gives 63 = .ok (.istore 5, 2) := dk_54 5 (dk_at dksX2_gives_2 18 rfl rfl)
theorem dX2_gives_65 : decode cX2_gives 65 = .ok (.aload_n 0, 1) := dk_42 (dk_at dksX2_gives_2 20 rfl rfl)
theorem dX2_gives_66 : decode cX2_gives 66 = .ok (.invokevirtual 163, 3) := dk_182 0 163 (dk_at dksX2_gives_2 21 rfl rfl)
theorem dX2_gives_69 : decode cX2_gives 69 = .ok (.istore 4, 2) := dk_54 4 (dk_at dksX2_gives_3 0 rfl rfl)
theorem dX2_gives_71 : decode cX2_gives 71 = .ok (.iload 5, 2) := dk_21 5 (dk_at dksX2_gives_3 2 rfl rfl)
theorem dX2_gives_73 : decode cX2_gives 73 = .ok (.ifCond .eq 12, 3) := dk_153 0 12 (dk_at dksX2_gives_3 4 rfl rfl)
theorem dX2_gives_76 : decode cX2_gives 76 = .ok (.iload_n 2, 1) := dk_28 (dk_at dksX2_gives_3 7 rfl rfl)
theorem dX2_gives_77 : decode cX2_gives 77 = .ok (.ifCond .ne 8, 3) := dk_154 0 8 (dk_at dksX2_gives_3 8 rfl rfl)
theorem dX2_gives_80 : decode cX2_gives 80 = .ok (.iload 4, 2) := dk_21 4 (dk_at dksX2_gives_3 11 rfl rfl)
theorem dX2_gives_82 : decode cX2_gives 82 = .ok (.goto 4, 3) := dk_167 0 4 (dk_at dksX2_gives_3 13 rfl rfl)
theorem dX2_gives_85 : decode cX2_gives 85 = .ok (.iload_n 1, 1) := dk_27 (dk_at dksX2_gives_3 16 rfl rfl)
theorem dX2_gives_86 : decode cX2_gives 86 = .ok (.istore_n 1, 1) := dk_60 (dk_at dksX2_gives_3 17 rfl rfl)
theorem dX2_gives_87 : decode cX2_gives 87 = .ok (.iload_n 2, 1) := dk_28 (dk_at dksX2_gives_3 18 rfl rfl)
theorem dX2_gives_88 : decode cX2_gives 88 = .ok (.ifCond .ne 8, 3) := dk_154 0 8 (dk_at dksX2_gives_3 19 rfl rfl)
theorem dX2_gives_91 : decode cX2_gives 91 = .ok (.iload 5, 2) := dk_21 5 (dk_at dksX2_gives_3 22 rfl rfl)
theorem dX2_gives_93 : decode cX2_gives 93 = .ok (.ifCond .eq 7, 3) := dk_153 0 7 (dk_at dksX2_gives_4 0 rfl rfl)
theorem dX2_gives_96 : decode cX2_gives 96 = .ok (.iconst 1, 1) := dk_4 (dk_at dksX2_gives_4 3 rfl rfl)
theorem dX2_gives_97 : decode cX2_gives 97 = .ok (.goto 4, 3) := dk_167 0 4 (dk_at dksX2_gives_4 4 rfl rfl)
theorem dX2_gives_100 : decode cX2_gives 100 = .ok (.iconst 0, 1) := dk_3 (dk_at dksX2_gives_4 7 rfl rfl)
theorem dX2_gives_101 : decode cX2_gives 101 = .ok (.istore_n 2, 1) := dk_61 (dk_at dksX2_gives_4 8 rfl rfl)
theorem dX2_gives_102 : decode cX2_gives 102 = .ok (.aload_n 0, 1) := dk_42 (dk_at dksX2_gives_4 9 rfl rfl)
theorem dX2_gives_103 : decode cX2_gives 103 = .ok (.bipush 59, 2) := dk_16 59 (dk_at dksX2_gives_4 10 rfl rfl)
theorem dX2_gives_105 : decode cX2_gives 105 = .ok (.invokevirtual 154, 3) := dk_182 0 154 (dk_at dksX2_gives_4 12 rfl rfl)
theorem dX2_gives_108 : decode cX2_gives 108 = .ok (.istore_n 3, 1) := dk_62 (dk_at dksX2_gives_4 15 rfl rfl)
theorem dX2_gives_109 : decode cX2_gives 109 = .ok (.aload_n 0, 1) := dk_42 (dk_at dksX2_gives_4 16 rfl rfl)
theorem dX2_gives_110 : decode cX2_gives 110 = .ok (.dup, 1) := dk_89 (dk_at dksX2_gives_4 17 rfl rfl)
theorem dX2_gives_111 : decode cX2_gives 111 = .ok (.getfield 137, 3) := dk_180 0 137 (dk_at dksX2_gives_4 18 rfl rfl)
theorem dX2_gives_114 : decode cX2_gives 114 = .ok (.iload_n 3, 1) := dk_29 (dk_at dksX2_gives_4 21 rfl rfl)
theorem dX2_gives_115 : decode cX2_gives 115 = .ok (.ifCond .eq 7, 3) := dk_153 0 7 (dk_at dksX2_gives_5 0 rfl rfl)
theorem dX2_gives_118 : decode cX2_gives 118 = .ok (.iconst 1, 1) := dk_4 (dk_at dksX2_gives_5 3 rfl rfl)
theorem dX2_gives_119 : decode cX2_gives 119 = .ok (.goto 4, 3) := dk_167 0 4 (dk_at dksX2_gives_5 4 rfl rfl)
theorem dX2_gives_122 : decode cX2_gives 122 = .ok (.iconst 0, 1) := dk_3 (dk_at dksX2_gives_5 7 rfl rfl)
theorem dX2_gives_123 : decode cX2_gives 123 = .ok (.iadd, 1) := dk_96 (dk_at dksX2_gives_5 8 rfl rfl)
theorem dX2_gives_124 : decode cX2_gives 124 = .ok (.putfield 137, 3) := dk_181 0 137 (dk_at dksX2_gives_5 9 rfl rfl)
theorem dX2_gives_127 : decode cX2_gives 127 = .ok (.goto (-106), 3) := dk_167 255 150 (dk_at dksX2_gives_5 12 rfl rfl)
theorem dX2_gives_130 : decode cX2_gives 130 = .ok (.iload_n 1, 1) := dk_27 (dk_at dksX2_gives_5 15 rfl rfl)
theorem dX2_gives_131 : decode cX2_gives 131 = .ok (.ireturn, 1) := dk_172 (dk_at dksX2_gives_5 16 rfl rfl)
abbrev cX2_any : ByteArray := prog_31_method_27_code
def yX2_any : MethodName := ⟨RX2, "any", "()I"⟩
def dkwX2_any_1 : List UInt8 := [42, 182, 0, 175, 61, 27, 154, 0, 7, 28, 153, 0, 7, 4, 167, 0, 4, 3, 60, 167, 255, 218, 27, 172]
abbrev dktX2_any_1 : List UInt8 := dkwX2_any_1 ++ []
def dkwX2_any_0 : List UInt8 := [42, 182, 0, 175, 60, 42, 16, 124, 182, 0, 154, 153, 0, 35, 42, 89, 180, 0, 137, 4, 96, 181, 0, 137]
abbrev dktX2_any_0 : List UInt8 := dkwX2_any_0 ++ dktX2_any_1
theorem dksX2_any_0 : cX2_any.data.toList.drop 0 = dktX2_any_0 := by decide +kernel
theorem dksX2_any_1 : cX2_any.data.toList.drop 24 = dktX2_any_1 := dk_seg dksX2_any_0 24 rfl rfl
theorem dX2_any_0 : decode cX2_any 0 = .ok (.aload_n 0, 1) := dk_42 (dk_at dksX2_any_0 0 rfl rfl)
theorem dX2_any_1 : decode cX2_any 1 = .ok (.invokevirtual 175, 3) := dk_182 0 175 (dk_at dksX2_any_0 1 rfl rfl)
theorem dX2_any_4 : decode cX2_any 4 = .ok (.istore_n 1, 1) := dk_60 (dk_at dksX2_any_0 4 rfl rfl)
theorem dX2_any_5 : decode cX2_any 5 = .ok (.aload_n 0, 1) := dk_42 (dk_at dksX2_any_0 5 rfl rfl)
theorem dX2_any_6 : decode cX2_any 6 = .ok (.bipush 124, 2) := dk_16 124 (dk_at dksX2_any_0 6 rfl rfl)
theorem dX2_any_8 : decode cX2_any 8 = .ok (.invokevirtual 154, 3) := dk_182 0 154 (dk_at dksX2_any_0 8 rfl rfl)
theorem dX2_any_11 : decode cX2_any 11 = .ok (.ifCond .eq 35, 3) := dk_153 0 35 (dk_at dksX2_any_0 11 rfl rfl)
theorem dX2_any_14 : decode cX2_any 14 = .ok (.aload_n 0, 1) := dk_42 (dk_at dksX2_any_0 14 rfl rfl)
theorem dX2_any_15 : decode cX2_any 15 = .ok (.dup, 1) := dk_89 (dk_at dksX2_any_0 15 rfl rfl)
theorem dX2_any_16 : decode cX2_any 16 = .ok (.getfield 137, 3) := dk_180 0 137 (dk_at dksX2_any_0 16 rfl rfl)
theorem dX2_any_19 : decode cX2_any 19 = .ok (.iconst 1, 1) := dk_4 (dk_at dksX2_any_0 19 rfl rfl)
theorem dX2_any_20 : decode cX2_any 20 = .ok (.iadd, 1) := dk_96 (dk_at dksX2_any_0 20 rfl rfl)
theorem dX2_any_21 : decode cX2_any 21 = .ok (.putfield 137, 3) := dk_181 0 137 (dk_at dksX2_any_0 21 rfl rfl)
theorem dX2_any_24 : decode cX2_any 24 = .ok (.aload_n 0, 1) := dk_42 (dk_at dksX2_any_1 0 rfl rfl)
theorem dX2_any_25 : decode cX2_any 25 = .ok (.invokevirtual 175, 3) := dk_182 0 175 (dk_at dksX2_any_1 1 rfl rfl)
theorem dX2_any_28 : decode cX2_any 28 = .ok (.istore_n 2, 1) := dk_61 (dk_at dksX2_any_1 4 rfl rfl)
theorem dX2_any_29 : decode cX2_any 29 = .ok (.iload_n 1, 1) := dk_27 (dk_at dksX2_any_1 5 rfl rfl)
theorem dX2_any_30 : decode cX2_any 30 = .ok (.ifCond .ne 7, 3) := dk_154 0 7 (dk_at dksX2_any_1 6 rfl rfl)
theorem dX2_any_33 : decode cX2_any 33 = .ok (.iload_n 2, 1) := dk_28 (dk_at dksX2_any_1 9 rfl rfl)
theorem dX2_any_34 : decode cX2_any 34 = .ok (.ifCond .eq 7, 3) := dk_153 0 7 (dk_at dksX2_any_1 10 rfl rfl)
theorem dX2_any_37 : decode cX2_any 37 = .ok (.iconst 1, 1) := dk_4 (dk_at dksX2_any_1 13 rfl rfl)
theorem dX2_any_38 : decode cX2_any 38 = .ok (.goto 4, 3) := dk_167 0 4 (dk_at dksX2_any_1 14 rfl rfl)
theorem dX2_any_41 : decode cX2_any 41 = .ok (.iconst 0, 1) := dk_3 (dk_at dksX2_any_1 17 rfl rfl)
theorem dX2_any_42 : decode cX2_any 42 = .ok (.istore_n 1, 1) := dk_60 (dk_at dksX2_any_1 18 rfl rfl)
theorem dX2_any_43 : decode cX2_any 43 = .ok (.goto (-38), 3) := dk_167 255 218 (dk_at dksX2_any_1 19 rfl rfl)
theorem dX2_any_46 : decode cX2_any 46 = .ok (.iload_n 1, 1) := dk_27 (dk_at dksX2_any_1 22 rfl rfl)
theorem dX2_any_47 : decode cX2_any 47 = .ok (.ireturn, 1) := dk_172 (dk_at dksX2_any_1 23 rfl rfl)
abbrev cX2_both : ByteArray := prog_31_method_26_code
def yX2_both : MethodName := ⟨RX2, "both", "()I"⟩
def dkwX2_both_1 : List UInt8 := [42, 182, 0, 172, 61, 27, 153, 0, 11, 28, 153, 0, 7, 4, 167, 0, 4, 3, 60, 167, 255, 218, 27, 172]
abbrev dktX2_both_1 : List UInt8 := dkwX2_both_1 ++ []
def dkwX2_both_0 : List UInt8 := [42, 182, 0, 172, 60, 42, 16, 38, 182, 0, 154, 153, 0, 35, 42, 89, 180, 0, 137, 4, 96, 181, 0, 137]
abbrev dktX2_both_0 : List UInt8 := dkwX2_both_0 ++ dktX2_both_1
theorem dksX2_both_0 : cX2_both.data.toList.drop 0 = dktX2_both_0 := by decide +kernel
theorem dksX2_both_1 : cX2_both.data.toList.drop 24 = dktX2_both_1 := dk_seg dksX2_both_0 24 rfl rfl
theorem dX2_both_0 : decode cX2_both 0 = .ok (.aload_n 0, 1) := dk_42 (dk_at dksX2_both_0 0 rfl rfl)
theorem dX2_both_1 : decode cX2_both 1 = .ok (.invokevirtual 172, 3) := dk_182 0 172 (dk_at dksX2_both_0 1 rfl rfl)
theorem dX2_both_4 : decode cX2_both 4 = .ok (.istore_n 1, 1) := dk_60 (dk_at dksX2_both_0 4 rfl rfl)
theorem dX2_both_5 : decode cX2_both 5 = .ok (.aload_n 0, 1) := dk_42 (dk_at dksX2_both_0 5 rfl rfl)
theorem dX2_both_6 : decode cX2_both 6 = .ok (.bipush 38, 2) := dk_16 38 (dk_at dksX2_both_0 6 rfl rfl)
theorem dX2_both_8 : decode cX2_both 8 = .ok (.invokevirtual 154, 3) := dk_182 0 154 (dk_at dksX2_both_0 8 rfl rfl)
theorem dX2_both_11 : decode cX2_both 11 = .ok (.ifCond .eq 35, 3) := dk_153 0 35 (dk_at dksX2_both_0 11 rfl rfl)
theorem dX2_both_14 : decode cX2_both 14 = .ok (.aload_n 0, 1) := dk_42 (dk_at dksX2_both_0 14 rfl rfl)
theorem dX2_both_15 : decode cX2_both 15 = .ok (.dup, 1) := dk_89 (dk_at dksX2_both_0 15 rfl rfl)
theorem dX2_both_16 : decode cX2_both 16 = .ok (.getfield 137, 3) := dk_180 0 137 (dk_at dksX2_both_0 16 rfl rfl)
theorem dX2_both_19 : decode cX2_both 19 = .ok (.iconst 1, 1) := dk_4 (dk_at dksX2_both_0 19 rfl rfl)
theorem dX2_both_20 : decode cX2_both 20 = .ok (.iadd, 1) := dk_96 (dk_at dksX2_both_0 20 rfl rfl)
theorem dX2_both_21 : decode cX2_both 21 = .ok (.putfield 137, 3) := dk_181 0 137 (dk_at dksX2_both_0 21 rfl rfl)
theorem dX2_both_24 : decode cX2_both 24 = .ok (.aload_n 0, 1) := dk_42 (dk_at dksX2_both_1 0 rfl rfl)
theorem dX2_both_25 : decode cX2_both 25 = .ok (.invokevirtual 172, 3) := dk_182 0 172 (dk_at dksX2_both_1 1 rfl rfl)
theorem dX2_both_28 : decode cX2_both 28 = .ok (.istore_n 2, 1) := dk_61 (dk_at dksX2_both_1 4 rfl rfl)
theorem dX2_both_29 : decode cX2_both 29 = .ok (.iload_n 1, 1) := dk_27 (dk_at dksX2_both_1 5 rfl rfl)
theorem dX2_both_30 : decode cX2_both 30 = .ok (.ifCond .eq 11, 3) := dk_153 0 11 (dk_at dksX2_both_1 6 rfl rfl)
theorem dX2_both_33 : decode cX2_both 33 = .ok (.iload_n 2, 1) := dk_28 (dk_at dksX2_both_1 9 rfl rfl)
theorem dX2_both_34 : decode cX2_both 34 = .ok (.ifCond .eq 7, 3) := dk_153 0 7 (dk_at dksX2_both_1 10 rfl rfl)
theorem dX2_both_37 : decode cX2_both 37 = .ok (.iconst 1, 1) := dk_4 (dk_at dksX2_both_1 13 rfl rfl)
theorem dX2_both_38 : decode cX2_both 38 = .ok (.goto 4, 3) := dk_167 0 4 (dk_at dksX2_both_1 14 rfl rfl)
theorem dX2_both_41 : decode cX2_both 41 = .ok (.iconst 0, 1) := dk_3 (dk_at dksX2_both_1 17 rfl rfl)
theorem dX2_both_42 : decode cX2_both 42 = .ok (.istore_n 1, 1) := dk_60 (dk_at dksX2_both_1 18 rfl rfl)
theorem dX2_both_43 : decode cX2_both 43 = .ok (.goto (-38), 3) := dk_167 255 218 (dk_at dksX2_both_1 19 rfl rfl)
theorem dX2_both_46 : decode cX2_both 46 = .ok (.iload_n 1, 1) := dk_27 (dk_at dksX2_both_1 22 rfl rfl)
theorem dX2_both_47 : decode cX2_both 47 = .ok (.ireturn, 1) := dk_172 (dk_at dksX2_both_1 23 rfl rfl)
abbrev cX2_compared : ByteArray := prog_31_method_25_code
def yX2_compared : MethodName := ⟨RX2, "compared", "()I"⟩
def dkwX2_compared_4 : List UInt8 := [29, 164, 0, 7, 4, 167, 0, 4, 3, 54, 4, 21, 4, 153, 0, 7, 4, 167, 0, 4, 3, 60, 27, 172]
abbrev dktX2_compared_4 : List UInt8 := dkwX2_compared_4 ++ []
def dkwX2_compared_3 : List UInt8 := [3, 167, 0, 32, 28, 16, 61, 160, 0, 16, 27, 29, 160, 0, 7, 4, 167, 0, 17, 3, 167, 0, 13, 27]
abbrev dktX2_compared_3 : List UInt8 := dkwX2_compared_3 ++ dktX2_compared_4
def dkwX2_compared_2 : List UInt8 := [96, 181, 0, 137, 42, 182, 0, 169, 62, 28, 16, 60, 160, 0, 16, 27, 29, 162, 0, 7, 4, 167, 0, 36]
abbrev dktX2_compared_2 : List UInt8 := dkwX2_compared_2 ++ dktX2_compared_3
def dkwX2_compared_1 : List UInt8 := [16, 62, 182, 0, 154, 153, 0, 89, 42, 180, 0, 35, 42, 180, 0, 137, 46, 61, 42, 89, 180, 0, 137, 4]
abbrev dktX2_compared_1 : List UInt8 := dkwX2_compared_1 ++ dktX2_compared_2
def dkwX2_compared_0 : List UInt8 := [42, 182, 0, 169, 60, 42, 16, 60, 182, 0, 154, 154, 0, 21, 42, 16, 61, 182, 0, 154, 154, 0, 12, 42]
abbrev dktX2_compared_0 : List UInt8 := dkwX2_compared_0 ++ dktX2_compared_1
theorem dksX2_compared_0 : cX2_compared.data.toList.drop 0 = dktX2_compared_0 := by decide +kernel
theorem dksX2_compared_1 : cX2_compared.data.toList.drop 24 = dktX2_compared_1 := dk_seg dksX2_compared_0 24 rfl rfl
theorem dksX2_compared_2 : cX2_compared.data.toList.drop 48 = dktX2_compared_2 := dk_seg dksX2_compared_1 24 rfl rfl
theorem dksX2_compared_3 : cX2_compared.data.toList.drop 72 = dktX2_compared_3 := dk_seg dksX2_compared_2 24 rfl rfl
theorem dksX2_compared_4 : cX2_compared.data.toList.drop 96 = dktX2_compared_4 := dk_seg dksX2_compared_3 24 rfl rfl
theorem dX2_compared_0 : decode cX2_compared 0 = .ok (.aload_n 0, 1) := dk_42 (dk_at dksX2_compared_0 0 rfl rfl)
theorem dX2_compared_1 : decode cX2_compared 1 = .ok (.invokevirtual 169, 3) := dk_182 0 169 (dk_at dksX2_compared_0 1 rfl rfl)
theorem dX2_compared_4 : decode cX2_compared 4 = .ok (.istore_n 1, 1) := dk_60 (dk_at dksX2_compared_0 4 rfl rfl)
theorem dX2_compared_5 : decode cX2_compared 5 = .ok (.aload_n 0, 1) := dk_42 (dk_at dksX2_compared_0 5 rfl rfl)
theorem dX2_compared_6 : decode cX2_compared 6 = .ok (.bipush 60, 2) := dk_16 60 (dk_at dksX2_compared_0 6 rfl rfl)
theorem dX2_compared_8 : decode cX2_compared 8 = .ok (.invokevirtual 154, 3) := dk_182 0 154 (dk_at dksX2_compared_0 8 rfl rfl)
theorem dX2_compared_11 : decode cX2_compared 11 = .ok (.ifCond .ne 21, 3) := dk_154 0 21 (dk_at dksX2_compared_0 11 rfl rfl)
theorem dX2_compared_14 : decode cX2_compared 14 = .ok (.aload_n 0, 1) := dk_42 (dk_at dksX2_compared_0 14 rfl rfl)
theorem dX2_compared_15 : decode cX2_compared 15 = .ok (.bipush 61, 2) := dk_16 61 (dk_at dksX2_compared_0 15 rfl rfl)
theorem dX2_compared_17 : decode cX2_compared 17 = .ok (.invokevirtual 154, 3) := dk_182 0 154 (dk_at dksX2_compared_0 17 rfl rfl)
theorem dX2_compared_20 : decode cX2_compared 20 = .ok (.ifCond .ne 12, 3) := dk_154 0 12 (dk_at dksX2_compared_0 20 rfl rfl)
theorem dX2_compared_23 : decode cX2_compared 23 = .ok (.aload_n 0, 1) := dk_42 (dk_at dksX2_compared_0 23 rfl rfl)
theorem dX2_compared_24 : decode cX2_compared 24 = .ok (.bipush 62, 2) := dk_16 62 (dk_at dksX2_compared_1 0 rfl rfl)
theorem dX2_compared_26 : decode cX2_compared 26 = .ok (.invokevirtual 154, 3) := dk_182 0 154 (dk_at dksX2_compared_1 2 rfl rfl)
theorem dX2_compared_29 : decode cX2_compared 29 = .ok (.ifCond .eq 89, 3) := dk_153 0 89 (dk_at dksX2_compared_1 5 rfl rfl)
theorem dX2_compared_32 : decode cX2_compared 32 = .ok (.aload_n 0, 1) := dk_42 (dk_at dksX2_compared_1 8 rfl rfl)
theorem dX2_compared_33 : decode cX2_compared 33 = .ok (.getfield 35, 3) := dk_180 0 35 (dk_at dksX2_compared_1 9 rfl rfl)
theorem dX2_compared_36 : decode cX2_compared 36 = .ok (.aload_n 0, 1) := dk_42 (dk_at dksX2_compared_1 12 rfl rfl)
theorem dX2_compared_37 : decode cX2_compared 37 = .ok (.getfield 137, 3) := dk_180 0 137 (dk_at dksX2_compared_1 13 rfl rfl)
theorem dX2_compared_40 : decode cX2_compared 40 = .ok (.iaload, 1) := dk_46 (dk_at dksX2_compared_1 16 rfl rfl)
theorem dX2_compared_41 : decode cX2_compared 41 = .ok (.istore_n 2, 1) := dk_61 (dk_at dksX2_compared_1 17 rfl rfl)
theorem dX2_compared_42 : decode cX2_compared 42 = .ok (.aload_n 0, 1) := dk_42 (dk_at dksX2_compared_1 18 rfl rfl)
theorem dX2_compared_43 : decode cX2_compared 43 = .ok (.dup, 1) := dk_89 (dk_at dksX2_compared_1 19 rfl rfl)
theorem dX2_compared_44 : decode cX2_compared 44 = .ok (.getfield 137, 3) := dk_180 0 137 (dk_at dksX2_compared_1 20 rfl rfl)
theorem dX2_compared_47 : decode cX2_compared 47 = .ok (.iconst 1, 1) := dk_4 (dk_at dksX2_compared_1 23 rfl rfl)
theorem dX2_compared_48 : decode cX2_compared 48 = .ok (.iadd, 1) := dk_96 (dk_at dksX2_compared_2 0 rfl rfl)
theorem dX2_compared_49 : decode cX2_compared 49 = .ok (.putfield 137, 3) := dk_181 0 137 (dk_at dksX2_compared_2 1 rfl rfl)
theorem dX2_compared_52 : decode cX2_compared 52 = .ok (.aload_n 0, 1) := dk_42 (dk_at dksX2_compared_2 4 rfl rfl)
theorem dX2_compared_53 : decode cX2_compared 53 = .ok (.invokevirtual 169, 3) := dk_182 0 169 (dk_at dksX2_compared_2 5 rfl rfl)
theorem dX2_compared_56 : decode cX2_compared 56 = .ok (.istore_n 3, 1) := dk_62 (dk_at dksX2_compared_2 8 rfl rfl)
theorem dX2_compared_57 : decode cX2_compared 57 = .ok (.iload_n 2, 1) := dk_28 (dk_at dksX2_compared_2 9 rfl rfl)
theorem dX2_compared_58 : decode cX2_compared 58 = .ok (.bipush 60, 2) := dk_16 60 (dk_at dksX2_compared_2 10 rfl rfl)
theorem dX2_compared_60 : decode cX2_compared 60 = .ok (.if_icmp .ne 16, 3) := dk_160 0 16 (dk_at dksX2_compared_2 12 rfl rfl)
theorem dX2_compared_63 : decode cX2_compared 63 = .ok (.iload_n 1, 1) := dk_27 (dk_at dksX2_compared_2 15 rfl rfl)
theorem dX2_compared_64 : decode cX2_compared 64 = .ok (.iload_n 3, 1) := dk_29 (dk_at dksX2_compared_2 16 rfl rfl)
theorem dX2_compared_65 : decode cX2_compared 65 = .ok (.if_icmp .ge 7, 3) := dk_162 0 7 (dk_at dksX2_compared_2 17 rfl rfl)
theorem dX2_compared_68 : decode cX2_compared 68 = .ok (.iconst 1, 1) := dk_4 (dk_at dksX2_compared_2 20 rfl rfl)
theorem dX2_compared_69 : decode cX2_compared 69 = .ok (.goto 36, 3) := dk_167 0 36 (dk_at dksX2_compared_2 21 rfl rfl)
theorem dX2_compared_72 : decode cX2_compared 72 = .ok (.iconst 0, 1) := dk_3 (dk_at dksX2_compared_3 0 rfl rfl)
theorem dX2_compared_73 : decode cX2_compared 73 = .ok (.goto 32, 3) := dk_167 0 32 (dk_at dksX2_compared_3 1 rfl rfl)
theorem dX2_compared_76 : decode cX2_compared 76 = .ok (.iload_n 2, 1) := dk_28 (dk_at dksX2_compared_3 4 rfl rfl)
theorem dX2_compared_77 : decode cX2_compared 77 = .ok (.bipush 61, 2) := dk_16 61 (dk_at dksX2_compared_3 5 rfl rfl)
theorem dX2_compared_79 : decode cX2_compared 79 = .ok (.if_icmp .ne 16, 3) := dk_160 0 16 (dk_at dksX2_compared_3 7 rfl rfl)
theorem dX2_compared_82 : decode cX2_compared 82 = .ok (.iload_n 1, 1) := dk_27 (dk_at dksX2_compared_3 10 rfl rfl)
theorem dX2_compared_83 : decode cX2_compared 83 = .ok (.iload_n 3, 1) := dk_29 (dk_at dksX2_compared_3 11 rfl rfl)
theorem dX2_compared_84 : decode cX2_compared 84 = .ok (.if_icmp .ne 7, 3) := dk_160 0 7 (dk_at dksX2_compared_3 12 rfl rfl)
theorem dX2_compared_87 : decode cX2_compared 87 = .ok (.iconst 1, 1) := dk_4 (dk_at dksX2_compared_3 15 rfl rfl)
theorem dX2_compared_88 : decode cX2_compared 88 = .ok (.goto 17, 3) := dk_167 0 17 (dk_at dksX2_compared_3 16 rfl rfl)
theorem dX2_compared_91 : decode cX2_compared 91 = .ok (.iconst 0, 1) := dk_3 (dk_at dksX2_compared_3 19 rfl rfl)
theorem dX2_compared_92 : decode cX2_compared 92 = .ok (.goto 13, 3) := dk_167 0 13 (dk_at dksX2_compared_3 20 rfl rfl)
theorem dX2_compared_95 : decode cX2_compared 95 = .ok (.iload_n 1, 1) := dk_27 (dk_at dksX2_compared_3 23 rfl rfl)
theorem dX2_compared_96 : decode cX2_compared 96 = .ok (.iload_n 3, 1) := dk_29 (dk_at dksX2_compared_4 0 rfl rfl)
theorem dX2_compared_97 : decode cX2_compared 97 = .ok (.if_icmp .le 7, 3) := dk_164 0 7 (dk_at dksX2_compared_4 1 rfl rfl)
theorem dX2_compared_100 : decode cX2_compared 100 = .ok (.iconst 1, 1) := dk_4 (dk_at dksX2_compared_4 4 rfl rfl)
theorem dX2_compared_101 : decode cX2_compared 101 = .ok (.goto 4, 3) := dk_167 0 4 (dk_at dksX2_compared_4 5 rfl rfl)
theorem dX2_compared_104 : decode cX2_compared 104 = .ok (.iconst 0, 1) := dk_3 (dk_at dksX2_compared_4 8 rfl rfl)
theorem dX2_compared_105 : decode cX2_compared 105 = .ok (.istore 4, 2) := dk_54 4 (dk_at dksX2_compared_4 9 rfl rfl)
theorem dX2_compared_107 : decode cX2_compared 107 = .ok (.iload 4, 2) := dk_21 4 (dk_at dksX2_compared_4 11 rfl rfl)
theorem dX2_compared_109 : decode cX2_compared 109 = .ok (.ifCond .eq 7, 3) := dk_153 0 7 (dk_at dksX2_compared_4 13 rfl rfl)
theorem dX2_compared_112 : decode cX2_compared 112 = .ok (.iconst 1, 1) := dk_4 (dk_at dksX2_compared_4 16 rfl rfl)
theorem dX2_compared_113 : decode cX2_compared 113 = .ok (.goto 4, 3) := dk_167 0 4 (dk_at dksX2_compared_4 17 rfl rfl)
theorem dX2_compared_116 : decode cX2_compared 116 = .ok (.iconst 0, 1) := dk_3 (dk_at dksX2_compared_4 20 rfl rfl)
theorem dX2_compared_117 : decode cX2_compared 117 = .ok (.istore_n 1, 1) := dk_60 (dk_at dksX2_compared_4 21 rfl rfl)
theorem dX2_compared_118 : decode cX2_compared 118 = .ok (.iload_n 1, 1) := dk_27 (dk_at dksX2_compared_4 22 rfl rfl)
theorem dX2_compared_119 : decode cX2_compared 119 = .ok (.ireturn, 1) := dk_172 (dk_at dksX2_compared_4 23 rfl rfl)
abbrev cX2_total : ByteArray := prog_31_method_24_code
def yX2_total : MethodName := ⟨RX2, "total", "()I"⟩
def dkwX2_total_2 : List UInt8 := [153, 0, 9, 27, 29, 96, 167, 0, 6, 27, 29, 100, 60, 167, 255, 202, 27, 172]
abbrev dktX2_total_2 : List UInt8 := dkwX2_total_2 ++ []
def dkwX2_total_1 : List UInt8 := [16, 43, 182, 0, 154, 61, 42, 89, 180, 0, 137, 4, 96, 181, 0, 137, 42, 182, 0, 166, 62, 28]
abbrev dktX2_total_1 : List UInt8 := dkwX2_total_1 ++ dktX2_total_2
def dkwX2_total_0 : List UInt8 := [42, 182, 0, 166, 60, 42, 16, 43, 182, 0, 154, 154, 0, 12, 42, 16, 45, 182, 0, 154, 153, 0, 42, 42]
abbrev dktX2_total_0 : List UInt8 := dkwX2_total_0 ++ dktX2_total_1
theorem dksX2_total_0 : cX2_total.data.toList.drop 0 = dktX2_total_0 := by decide +kernel
theorem dksX2_total_1 : cX2_total.data.toList.drop 24 = dktX2_total_1 := dk_seg dksX2_total_0 24 rfl rfl
theorem dksX2_total_2 : cX2_total.data.toList.drop 46 = dktX2_total_2 := dk_seg dksX2_total_1 22 rfl rfl
theorem dX2_total_0 : decode cX2_total 0 = .ok (.aload_n 0, 1) := dk_42 (dk_at dksX2_total_0 0 rfl rfl)
theorem dX2_total_1 : decode cX2_total 1 = .ok (.invokevirtual 166, 3) := dk_182 0 166 (dk_at dksX2_total_0 1 rfl rfl)
theorem dX2_total_4 : decode cX2_total 4 = .ok (.istore_n 1, 1) := dk_60 (dk_at dksX2_total_0 4 rfl rfl)
theorem dX2_total_5 : decode cX2_total 5 = .ok (.aload_n 0, 1) := dk_42 (dk_at dksX2_total_0 5 rfl rfl)
theorem dX2_total_6 : decode cX2_total 6 = .ok (.bipush 43, 2) := dk_16 43 (dk_at dksX2_total_0 6 rfl rfl)
theorem dX2_total_8 : decode cX2_total 8 = .ok (.invokevirtual 154, 3) := dk_182 0 154 (dk_at dksX2_total_0 8 rfl rfl)
theorem dX2_total_11 : decode cX2_total 11 = .ok (.ifCond .ne 12, 3) := dk_154 0 12 (dk_at dksX2_total_0 11 rfl rfl)
theorem dX2_total_14 : decode cX2_total 14 = .ok (.aload_n 0, 1) := dk_42 (dk_at dksX2_total_0 14 rfl rfl)
theorem dX2_total_15 : decode cX2_total 15 = .ok (.bipush 45, 2) := dk_16 45 (dk_at dksX2_total_0 15 rfl rfl)
theorem dX2_total_17 : decode cX2_total 17 = .ok (.invokevirtual 154, 3) := dk_182 0 154 (dk_at dksX2_total_0 17 rfl rfl)
theorem dX2_total_20 : decode cX2_total 20 = .ok (.ifCond .eq 42, 3) := dk_153 0 42 (dk_at dksX2_total_0 20 rfl rfl)
theorem dX2_total_23 : decode cX2_total 23 = .ok (.aload_n 0, 1) := dk_42 (dk_at dksX2_total_0 23 rfl rfl)
theorem dX2_total_24 : decode cX2_total 24 = .ok (.bipush 43, 2) := dk_16 43 (dk_at dksX2_total_1 0 rfl rfl)
theorem dX2_total_26 : decode cX2_total 26 = .ok (.invokevirtual 154, 3) := dk_182 0 154 (dk_at dksX2_total_1 2 rfl rfl)
theorem dX2_total_29 : decode cX2_total 29 = .ok (.istore_n 2, 1) := dk_61 (dk_at dksX2_total_1 5 rfl rfl)
theorem dX2_total_30 : decode cX2_total 30 = .ok (.aload_n 0, 1) := dk_42 (dk_at dksX2_total_1 6 rfl rfl)
theorem dX2_total_31 : decode cX2_total 31 = .ok (.dup, 1) := dk_89 (dk_at dksX2_total_1 7 rfl rfl)
theorem dX2_total_32 : decode cX2_total 32 = .ok (.getfield 137, 3) := dk_180 0 137 (dk_at dksX2_total_1 8 rfl rfl)
theorem dX2_total_35 : decode cX2_total 35 = .ok (.iconst 1, 1) := dk_4 (dk_at dksX2_total_1 11 rfl rfl)
theorem dX2_total_36 : decode cX2_total 36 = .ok (.iadd, 1) := dk_96 (dk_at dksX2_total_1 12 rfl rfl)
theorem dX2_total_37 : decode cX2_total 37 = .ok (.putfield 137, 3) := dk_181 0 137 (dk_at dksX2_total_1 13 rfl rfl)
theorem dX2_total_40 : decode cX2_total 40 = .ok (.aload_n 0, 1) := dk_42 (dk_at dksX2_total_1 16 rfl rfl)
theorem dX2_total_41 : decode cX2_total 41 = .ok (.invokevirtual 166, 3) := dk_182 0 166 (dk_at dksX2_total_1 17 rfl rfl)
theorem dX2_total_44 : decode cX2_total 44 = .ok (.istore_n 3, 1) := dk_62 (dk_at dksX2_total_1 20 rfl rfl)
theorem dX2_total_45 : decode cX2_total 45 = .ok (.iload_n 2, 1) := dk_28 (dk_at dksX2_total_1 21 rfl rfl)
theorem dX2_total_46 : decode cX2_total 46 = .ok (.ifCond .eq 9, 3) := dk_153 0 9 (dk_at dksX2_total_2 0 rfl rfl)
theorem dX2_total_49 : decode cX2_total 49 = .ok (.iload_n 1, 1) := dk_27 (dk_at dksX2_total_2 3 rfl rfl)
theorem dX2_total_50 : decode cX2_total 50 = .ok (.iload_n 3, 1) := dk_29 (dk_at dksX2_total_2 4 rfl rfl)
theorem dX2_total_51 : decode cX2_total 51 = .ok (.iadd, 1) := dk_96 (dk_at dksX2_total_2 5 rfl rfl)
theorem dX2_total_52 : decode cX2_total 52 = .ok (.goto 6, 3) := dk_167 0 6 (dk_at dksX2_total_2 6 rfl rfl)
theorem dX2_total_55 : decode cX2_total 55 = .ok (.iload_n 1, 1) := dk_27 (dk_at dksX2_total_2 9 rfl rfl)
theorem dX2_total_56 : decode cX2_total 56 = .ok (.iload_n 3, 1) := dk_29 (dk_at dksX2_total_2 10 rfl rfl)
theorem dX2_total_57 : decode cX2_total 57 = .ok (.isub, 1) := dk_100 (dk_at dksX2_total_2 11 rfl rfl)
theorem dX2_total_58 : decode cX2_total 58 = .ok (.istore_n 1, 1) := dk_60 (dk_at dksX2_total_2 12 rfl rfl)
theorem dX2_total_59 : decode cX2_total 59 = .ok (.goto (-54), 3) := dk_167 255 202 (dk_at dksX2_total_2 13 rfl rfl)
theorem dX2_total_62 : decode cX2_total 62 = .ok (.iload_n 1, 1) := dk_27 (dk_at dksX2_total_2 16 rfl rfl)
theorem dX2_total_63 : decode cX2_total 63 = .ok (.ireturn, 1) := dk_172 (dk_at dksX2_total_2 17 rfl rfl)
abbrev cX2_product : ByteArray := prog_31_method_23_code
def yX2_product : MethodName := ⟨RX2, "product", "()I"⟩
def dkwX2_product_4 : List UInt8 := [167, 255, 168, 27, 172]
abbrev dktX2_product_4 : List UInt8 := dkwX2_product_4 ++ []
def dkwX2_product_3 : List UInt8 := [154, 0, 7, 3, 167, 0, 18, 28, 16, 47, 160, 0, 9, 27, 29, 108, 167, 0, 6, 27, 29, 112, 60]
abbrev dktX2_product_3 : List UInt8 := dkwX2_product_3 ++ dktX2_product_4
def dkwX2_product_2 : List UInt8 := [96, 181, 0, 137, 42, 182, 0, 160, 62, 28, 16, 42, 160, 0, 9, 27, 29, 104, 167, 0, 26, 29]
abbrev dktX2_product_2 : List UInt8 := dkwX2_product_2 ++ dktX2_product_3
def dkwX2_product_1 : List UInt8 := [16, 37, 182, 0, 154, 153, 0, 67, 42, 180, 0, 35, 42, 180, 0, 137, 46, 61, 42, 89, 180, 0, 137, 4]
abbrev dktX2_product_1 : List UInt8 := dkwX2_product_1 ++ dktX2_product_2
def dkwX2_product_0 : List UInt8 := [42, 182, 0, 160, 60, 42, 16, 42, 182, 0, 154, 154, 0, 21, 42, 16, 47, 182, 0, 154, 154, 0, 12, 42]
abbrev dktX2_product_0 : List UInt8 := dkwX2_product_0 ++ dktX2_product_1
theorem dksX2_product_0 : cX2_product.data.toList.drop 0 = dktX2_product_0 := by decide +kernel
theorem dksX2_product_1 : cX2_product.data.toList.drop 24 = dktX2_product_1 := dk_seg dksX2_product_0 24 rfl rfl
theorem dksX2_product_2 : cX2_product.data.toList.drop 48 = dktX2_product_2 := dk_seg dksX2_product_1 24 rfl rfl
theorem dksX2_product_3 : cX2_product.data.toList.drop 70 = dktX2_product_3 := dk_seg dksX2_product_2 22 rfl rfl
theorem dksX2_product_4 : cX2_product.data.toList.drop 93 = dktX2_product_4 := dk_seg dksX2_product_3 23 rfl rfl
theorem dX2_product_0 : decode cX2_product 0 = .ok (.aload_n 0, 1) := dk_42 (dk_at dksX2_product_0 0 rfl rfl)
theorem dX2_product_1 : decode cX2_product 1 = .ok (.invokevirtual 160, 3) := dk_182 0 160 (dk_at dksX2_product_0 1 rfl rfl)
theorem dX2_product_4 : decode cX2_product 4 = .ok (.istore_n 1, 1) := dk_60 (dk_at dksX2_product_0 4 rfl rfl)
theorem dX2_product_5 : decode cX2_product 5 = .ok (.aload_n 0, 1) := dk_42 (dk_at dksX2_product_0 5 rfl rfl)
theorem dX2_product_6 : decode cX2_product 6 = .ok (.bipush 42, 2) := dk_16 42 (dk_at dksX2_product_0 6 rfl rfl)
theorem dX2_product_8 : decode cX2_product 8 = .ok (.invokevirtual 154, 3) := dk_182 0 154 (dk_at dksX2_product_0 8 rfl rfl)
theorem dX2_product_11 : decode cX2_product 11 = .ok (.ifCond .ne 21, 3) := dk_154 0 21 (dk_at dksX2_product_0 11 rfl rfl)
theorem dX2_product_14 : decode cX2_product 14 = .ok (.aload_n 0, 1) := dk_42 (dk_at dksX2_product_0 14 rfl rfl)
theorem dX2_product_15 : decode cX2_product 15 = .ok (.bipush 47, 2) := dk_16 47 (dk_at dksX2_product_0 15 rfl rfl)
theorem dX2_product_17 : decode cX2_product 17 = .ok (.invokevirtual 154, 3) := dk_182 0 154 (dk_at dksX2_product_0 17 rfl rfl)
theorem dX2_product_20 : decode cX2_product 20 = .ok (.ifCond .ne 12, 3) := dk_154 0 12 (dk_at dksX2_product_0 20 rfl rfl)
theorem dX2_product_23 : decode cX2_product 23 = .ok (.aload_n 0, 1) := dk_42 (dk_at dksX2_product_0 23 rfl rfl)
theorem dX2_product_24 : decode cX2_product 24 = .ok (.bipush 37, 2) := dk_16 37 (dk_at dksX2_product_1 0 rfl rfl)
theorem dX2_product_26 : decode cX2_product 26 = .ok (.invokevirtual 154, 3) := dk_182 0 154 (dk_at dksX2_product_1 2 rfl rfl)
theorem dX2_product_29 : decode cX2_product 29 = .ok (.ifCond .eq 67, 3) := dk_153 0 67 (dk_at dksX2_product_1 5 rfl rfl)
theorem dX2_product_32 : decode cX2_product 32 = .ok (.aload_n 0, 1) := dk_42 (dk_at dksX2_product_1 8 rfl rfl)
theorem dX2_product_33 : decode cX2_product 33 = .ok (.getfield 35, 3) := dk_180 0 35 (dk_at dksX2_product_1 9 rfl rfl)
theorem dX2_product_36 : decode cX2_product 36 = .ok (.aload_n 0, 1) := dk_42 (dk_at dksX2_product_1 12 rfl rfl)
theorem dX2_product_37 : decode cX2_product 37 = .ok (.getfield 137, 3) := dk_180 0 137 (dk_at dksX2_product_1 13 rfl rfl)
theorem dX2_product_40 : decode cX2_product 40 = .ok (.iaload, 1) := dk_46 (dk_at dksX2_product_1 16 rfl rfl)
theorem dX2_product_41 : decode cX2_product 41 = .ok (.istore_n 2, 1) := dk_61 (dk_at dksX2_product_1 17 rfl rfl)
theorem dX2_product_42 : decode cX2_product 42 = .ok (.aload_n 0, 1) := dk_42 (dk_at dksX2_product_1 18 rfl rfl)
theorem dX2_product_43 : decode cX2_product 43 = .ok (.dup, 1) := dk_89 (dk_at dksX2_product_1 19 rfl rfl)
theorem dX2_product_44 : decode cX2_product 44 = .ok (.getfield 137, 3) := dk_180 0 137 (dk_at dksX2_product_1 20 rfl rfl)
theorem dX2_product_47 : decode cX2_product 47 = .ok (.iconst 1, 1) := dk_4 (dk_at dksX2_product_1 23 rfl rfl)
theorem dX2_product_48 : decode cX2_product 48 = .ok (.iadd, 1) := dk_96 (dk_at dksX2_product_2 0 rfl rfl)
theorem dX2_product_49 : decode cX2_product 49 = .ok (.putfield 137, 3) := dk_181 0 137 (dk_at dksX2_product_2 1 rfl rfl)
theorem dX2_product_52 : decode cX2_product 52 = .ok (.aload_n 0, 1) := dk_42 (dk_at dksX2_product_2 4 rfl rfl)
theorem dX2_product_53 : decode cX2_product 53 = .ok (.invokevirtual 160, 3) := dk_182 0 160 (dk_at dksX2_product_2 5 rfl rfl)
theorem dX2_product_56 : decode cX2_product 56 = .ok (.istore_n 3, 1) := dk_62 (dk_at dksX2_product_2 8 rfl rfl)
theorem dX2_product_57 : decode cX2_product 57 = .ok (.iload_n 2, 1) := dk_28 (dk_at dksX2_product_2 9 rfl rfl)
theorem dX2_product_58 : decode cX2_product 58 = .ok (.bipush 42, 2) := dk_16 42 (dk_at dksX2_product_2 10 rfl rfl)
theorem dX2_product_60 : decode cX2_product 60 = .ok (.if_icmp .ne 9, 3) := dk_160 0 9 (dk_at dksX2_product_2 12 rfl rfl)
theorem dX2_product_63 : decode cX2_product 63 = .ok (.iload_n 1, 1) := dk_27 (dk_at dksX2_product_2 15 rfl rfl)
theorem dX2_product_64 : decode cX2_product 64 = .ok (.iload_n 3, 1) := dk_29 (dk_at dksX2_product_2 16 rfl rfl)
theorem dX2_product_65 : decode cX2_product 65 = .ok (.imul, 1) := dk_104 (dk_at dksX2_product_2 17 rfl rfl)
theorem dX2_product_66 : decode cX2_product 66 = .ok (.goto 26, 3) := dk_167 0 26 (dk_at dksX2_product_2 18 rfl rfl)
theorem dX2_product_69 : decode cX2_product 69 = .ok (.iload_n 3, 1) := dk_29 (dk_at dksX2_product_2 21 rfl rfl)
theorem dX2_product_70 : decode cX2_product 70 = .ok (.ifCond .ne 7, 3) := dk_154 0 7 (dk_at dksX2_product_3 0 rfl rfl)
theorem dX2_product_73 : decode cX2_product 73 = .ok (.iconst 0, 1) := dk_3 (dk_at dksX2_product_3 3 rfl rfl)
theorem dX2_product_74 : decode cX2_product 74 = .ok (.goto 18, 3) := dk_167 0 18 (dk_at dksX2_product_3 4 rfl rfl)
theorem dX2_product_77 : decode cX2_product 77 = .ok (.iload_n 2, 1) := dk_28 (dk_at dksX2_product_3 7 rfl rfl)
theorem dX2_product_78 : decode cX2_product 78 = .ok (.bipush 47, 2) := dk_16 47 (dk_at dksX2_product_3 8 rfl rfl)
theorem dX2_product_80 : decode cX2_product 80 = .ok (.if_icmp .ne 9, 3) := dk_160 0 9 (dk_at dksX2_product_3 10 rfl rfl)
theorem dX2_product_83 : decode cX2_product 83 = .ok (.iload_n 1, 1) := dk_27 (dk_at dksX2_product_3 13 rfl rfl)
theorem dX2_product_84 : decode cX2_product 84 = .ok (.iload_n 3, 1) := dk_29 (dk_at dksX2_product_3 14 rfl rfl)
theorem dX2_product_85 : decode cX2_product 85 = .ok (.idiv, 1) := dk_108 (dk_at dksX2_product_3 15 rfl rfl)
theorem dX2_product_86 : decode cX2_product 86 = .ok (.goto 6, 3) := dk_167 0 6 (dk_at dksX2_product_3 16 rfl rfl)
theorem dX2_product_89 : decode cX2_product 89 = .ok (.iload_n 1, 1) := dk_27 (dk_at dksX2_product_3 19 rfl rfl)
theorem dX2_product_90 : decode cX2_product 90 = .ok (.iload_n 3, 1) := dk_29 (dk_at dksX2_product_3 20 rfl rfl)
theorem dX2_product_91 : decode cX2_product 91 = .ok (.irem, 1) := dk_112 (dk_at dksX2_product_3 21 rfl rfl)
theorem dX2_product_92 : decode cX2_product 92 = .ok (.istore_n 1, 1) := dk_60 (dk_at dksX2_product_3 22 rfl rfl)
theorem dX2_product_93 : decode cX2_product 93 = .ok (.goto (-88), 3) := dk_167 255 168 (dk_at dksX2_product_4 0 rfl rfl)
theorem dX2_product_96 : decode cX2_product 96 = .ok (.iload_n 1, 1) := dk_27 (dk_at dksX2_product_4 3 rfl rfl)
theorem dX2_product_97 : decode cX2_product 97 = .ok (.ireturn, 1) := dk_172 (dk_at dksX2_product_4 4 rfl rfl)
abbrev cX2_one : ByteArray := prog_31_method_22_code
def yX2_one : MethodName := ⟨RX2, "one", "()I"⟩
def dkwX2_one_8 : List UInt8 := [167, 255, 217, 42, 3, 181, 0, 133, 3, 172]
abbrev dktX2_one_8 : List UInt8 := dkwX2_one_8 ++ []
def dkwX2_one_7 : List UInt8 := [153, 0, 20, 42, 89, 180, 0, 137, 4, 96, 181, 0, 137, 42, 180, 0, 38, 28, 46, 172, 132, 2, 1]
abbrev dktX2_one_7 : List UInt8 := dkwX2_one_7 ++ dktX2_one_8
def dkwX2_one_6 : List UInt8 := [181, 0, 147, 27, 172, 3, 61, 28, 16, 6, 162, 0, 39, 42, 42, 180, 0, 41, 28, 52, 182, 0, 154]
abbrev dktX2_one_6 : List UInt8 := dkwX2_one_6 ++ dktX2_one_7
def dkwX2_one_5 : List UInt8 := [180, 0, 133, 153, 0, 7, 4, 167, 0, 4, 3, 96, 181, 0, 137, 42, 89, 180, 0, 147, 4, 100]
abbrev dktX2_one_5 : List UInt8 := dkwX2_one_5 ++ dktX2_one_6
def dkwX2_one_4 : List UInt8 := [153, 0, 49, 42, 182, 0, 163, 60, 42, 42, 16, 41, 182, 0, 154, 181, 0, 133, 42, 89, 180, 0, 137, 42]
abbrev dktX2_one_4 : List UInt8 := dkwX2_one_4 ++ dktX2_one_5
def dkwX2_one_3 : List UInt8 := [89, 180, 0, 147, 4, 100, 181, 0, 147, 27, 172, 42, 16, 40, 182, 0, 154, 153, 0, 58, 42, 182, 0, 157]
abbrev dktX2_one_3 : List UInt8 := dkwX2_one_3 ++ dktX2_one_4
def dkwX2_one_2 : List UInt8 := [182, 0, 160, 62, 28, 153, 0, 15, 29, 154, 0, 7, 4, 167, 0, 9, 3, 167, 0, 5, 29, 116, 60, 42]
abbrev dktX2_one_2 : List UInt8 := dkwX2_one_2 ++ dktX2_one_3
def dkwX2_one_1 : List UInt8 := [16, 45, 182, 0, 154, 153, 0, 53, 42, 16, 33, 182, 0, 154, 61, 42, 182, 0, 157, 153, 0, 37, 42]
abbrev dktX2_one_1 : List UInt8 := dkwX2_one_1 ++ dktX2_one_2
def dkwX2_one_0 : List UInt8 := [3, 60, 42, 182, 0, 143, 153, 0, 8, 42, 182, 0, 150, 172, 42, 16, 33, 182, 0, 154, 154, 0, 12, 42]
abbrev dktX2_one_0 : List UInt8 := dkwX2_one_0 ++ dktX2_one_1
theorem dksX2_one_0 : cX2_one.data.toList.drop 0 = dktX2_one_0 := by decide +kernel
theorem dksX2_one_1 : cX2_one.data.toList.drop 24 = dktX2_one_1 := dk_seg dksX2_one_0 24 rfl rfl
theorem dksX2_one_2 : cX2_one.data.toList.drop 47 = dktX2_one_2 := dk_seg dksX2_one_1 23 rfl rfl
theorem dksX2_one_3 : cX2_one.data.toList.drop 71 = dktX2_one_3 := dk_seg dksX2_one_2 24 rfl rfl
theorem dksX2_one_4 : cX2_one.data.toList.drop 95 = dktX2_one_4 := dk_seg dksX2_one_3 24 rfl rfl
theorem dksX2_one_5 : cX2_one.data.toList.drop 119 = dktX2_one_5 := dk_seg dksX2_one_4 24 rfl rfl
theorem dksX2_one_6 : cX2_one.data.toList.drop 141 = dktX2_one_6 := dk_seg dksX2_one_5 22 rfl rfl
theorem dksX2_one_7 : cX2_one.data.toList.drop 164 = dktX2_one_7 := dk_seg dksX2_one_6 23 rfl rfl
theorem dksX2_one_8 : cX2_one.data.toList.drop 187 = dktX2_one_8 := dk_seg dksX2_one_7 23 rfl rfl
theorem dX2_one_0 : decode cX2_one 0 = .ok (.iconst 0, 1) := dk_3 (dk_at dksX2_one_0 0 rfl rfl)
theorem dX2_one_1 : decode cX2_one 1 = .ok (.istore_n 1, 1) := dk_60 (dk_at dksX2_one_0 1 rfl rfl)
theorem dX2_one_2 : decode cX2_one 2 = .ok (.aload_n 0, 1) := dk_42 (dk_at dksX2_one_0 2 rfl rfl)
theorem dX2_one_3 : decode cX2_one 3 = .ok (.invokevirtual 143, 3) := dk_182 0 143 (dk_at dksX2_one_0 3 rfl rfl)
theorem dX2_one_6 : decode cX2_one 6 = .ok (.ifCond .eq 8, 3) := dk_153 0 8 (dk_at dksX2_one_0 6 rfl rfl)
theorem dX2_one_9 : decode cX2_one 9 = .ok (.aload_n 0, 1) := dk_42 (dk_at dksX2_one_0 9 rfl rfl)
theorem dX2_one_10 : decode cX2_one 10 = .ok (.invokevirtual 150, 3) := dk_182 0 150 (dk_at dksX2_one_0 10 rfl rfl)
theorem dX2_one_13 : decode cX2_one 13 = .ok (.ireturn, 1) := dk_172 (dk_at dksX2_one_0 13 rfl rfl)
theorem dX2_one_14 : decode cX2_one 14 = .ok (.aload_n 0, 1) := dk_42 (dk_at dksX2_one_0 14 rfl rfl)
theorem dX2_one_15 : decode cX2_one 15 = .ok (.bipush 33, 2) := dk_16 33 (dk_at dksX2_one_0 15 rfl rfl)
theorem dX2_one_17 : decode cX2_one 17 = .ok (.invokevirtual 154, 3) := dk_182 0 154 (dk_at dksX2_one_0 17 rfl rfl)
theorem dX2_one_20 : decode cX2_one 20 = .ok (.ifCond .ne 12, 3) := dk_154 0 12 (dk_at dksX2_one_0 20 rfl rfl)
theorem dX2_one_23 : decode cX2_one 23 = .ok (.aload_n 0, 1) := dk_42 (dk_at dksX2_one_0 23 rfl rfl)
theorem dX2_one_24 : decode cX2_one 24 = .ok (.bipush 45, 2) := dk_16 45 (dk_at dksX2_one_1 0 rfl rfl)
theorem dX2_one_26 : decode cX2_one 26 = .ok (.invokevirtual 154, 3) := dk_182 0 154 (dk_at dksX2_one_1 2 rfl rfl)
theorem dX2_one_29 : decode cX2_one 29 = .ok (.ifCond .eq 53, 3) := dk_153 0 53 (dk_at dksX2_one_1 5 rfl rfl)
theorem dX2_one_32 : decode cX2_one 32 = .ok (.aload_n 0, 1) := dk_42 (dk_at dksX2_one_1 8 rfl rfl)
theorem dX2_one_33 : decode cX2_one 33 = .ok (.bipush 33, 2) := dk_16 33 (dk_at dksX2_one_1 9 rfl rfl)
theorem dX2_one_35 : decode cX2_one 35 = .ok (.invokevirtual 154, 3) := dk_182 0 154 (dk_at dksX2_one_1 11 rfl rfl)
theorem dX2_one_38 : decode cX2_one 38 = .ok (.istore_n 2, 1) := dk_61 (dk_at dksX2_one_1 14 rfl rfl)
theorem dX2_one_39 : decode cX2_one 39 = .ok (.aload_n 0, 1) := dk_42 (dk_at dksX2_one_1 15 rfl rfl)
theorem dX2_one_40 : decode cX2_one 40 = .ok (.invokevirtual 157, 3) := dk_182 0 157 (dk_at dksX2_one_1 16 rfl rfl)
theorem dX2_one_43 : decode cX2_one 43 = .ok (.ifCond .eq 37, 3) := dk_153 0 37 (dk_at dksX2_one_1 19 rfl rfl)
theorem dX2_one_46 : decode cX2_one 46 = .ok (.aload_n 0, 1) := dk_42 (dk_at dksX2_one_1 22 rfl rfl)
theorem dX2_one_47 : decode cX2_one 47 = .ok (.invokevirtual 160, 3) := dk_182 0 160 (dk_at dksX2_one_2 0 rfl rfl)
theorem dX2_one_50 : decode cX2_one 50 = .ok (.istore_n 3, 1) := dk_62 (dk_at dksX2_one_2 3 rfl rfl)
theorem dX2_one_51 : decode cX2_one 51 = .ok (.iload_n 2, 1) := dk_28 (dk_at dksX2_one_2 4 rfl rfl)
theorem dX2_one_52 : decode cX2_one 52 = .ok (.ifCond .eq 15, 3) := dk_153 0 15 (dk_at dksX2_one_2 5 rfl rfl)
theorem dX2_one_55 : decode cX2_one 55 = .ok (.iload_n 3, 1) := dk_29 (dk_at dksX2_one_2 8 rfl rfl)
theorem dX2_one_56 : decode cX2_one 56 = .ok (.ifCond .ne 7, 3) := dk_154 0 7 (dk_at dksX2_one_2 9 rfl rfl)
theorem dX2_one_59 : decode cX2_one 59 = .ok (.iconst 1, 1) := dk_4 (dk_at dksX2_one_2 12 rfl rfl)
theorem dX2_one_60 : decode cX2_one 60 = .ok (.goto 9, 3) := dk_167 0 9 (dk_at dksX2_one_2 13 rfl rfl)
theorem dX2_one_63 : decode cX2_one 63 = .ok (.iconst 0, 1) := dk_3 (dk_at dksX2_one_2 16 rfl rfl)
theorem dX2_one_64 : decode cX2_one 64 = .ok (.goto 5, 3) := dk_167 0 5 (dk_at dksX2_one_2 17 rfl rfl)
theorem dX2_one_67 : decode cX2_one 67 = .ok (.iload_n 3, 1) := dk_29 (dk_at dksX2_one_2 20 rfl rfl)
theorem dX2_one_68 : decode cX2_one 68 = .ok (.ineg, 1) := dk_116 (dk_at dksX2_one_2 21 rfl rfl)
theorem dX2_one_69 : decode cX2_one 69 = .ok (.istore_n 1, 1) := dk_60 (dk_at dksX2_one_2 22 rfl rfl)
theorem dX2_one_70 : decode cX2_one 70 = .ok (.aload_n 0, 1) := dk_42 (dk_at dksX2_one_2 23 rfl rfl)
theorem dX2_one_71 : decode cX2_one 71 = .ok (.dup, 1) := dk_89 (dk_at dksX2_one_3 0 rfl rfl)
theorem dX2_one_72 : decode cX2_one 72 = .ok (.getfield 147, 3) := dk_180 0 147 (dk_at dksX2_one_3 1 rfl rfl)
theorem dX2_one_75 : decode cX2_one 75 = .ok (.iconst 1, 1) := dk_4 (dk_at dksX2_one_3 4 rfl rfl)
theorem dX2_one_76 : decode cX2_one 76 = .ok (.isub, 1) := dk_100 (dk_at dksX2_one_3 5 rfl rfl)
theorem dX2_one_77 : decode cX2_one 77 = .ok (.putfield 147, 3) := dk_181 0 147 (dk_at dksX2_one_3 6 rfl rfl)
theorem dX2_one_80 : decode cX2_one 80 = .ok (.iload_n 1, 1) := dk_27 (dk_at dksX2_one_3 9 rfl rfl)
theorem dX2_one_81 : decode cX2_one 81 = .ok (.ireturn, 1) := dk_172 (dk_at dksX2_one_3 10 rfl rfl)
theorem dX2_one_82 : decode cX2_one 82 = .ok (.aload_n 0, 1) := dk_42 (dk_at dksX2_one_3 11 rfl rfl)
theorem dX2_one_83 : decode cX2_one 83 = .ok (.bipush 40, 2) := dk_16 40 (dk_at dksX2_one_3 12 rfl rfl)
theorem dX2_one_85 : decode cX2_one 85 = .ok (.invokevirtual 154, 3) := dk_182 0 154 (dk_at dksX2_one_3 14 rfl rfl)
theorem dX2_one_88 : decode cX2_one 88 = .ok (.ifCond .eq 58, 3) := dk_153 0 58 (dk_at dksX2_one_3 17 rfl rfl)
theorem dX2_one_91 : decode cX2_one 91 = .ok (.aload_n 0, 1) := dk_42 (dk_at dksX2_one_3 20 rfl rfl)
theorem dX2_one_92 : decode cX2_one 92 = .ok (.invokevirtual 157, 3) := dk_182 0 157 (dk_at dksX2_one_3 21 rfl rfl)
theorem dX2_one_95 : decode cX2_one 95 = .ok (.ifCond .eq 49, 3) := dk_153 0 49 (dk_at dksX2_one_4 0 rfl rfl)
theorem dX2_one_98 : decode cX2_one 98 = .ok (.aload_n 0, 1) := dk_42 (dk_at dksX2_one_4 3 rfl rfl)
theorem dX2_one_99 : decode cX2_one 99 = .ok (.invokevirtual 163, 3) := dk_182 0 163 (dk_at dksX2_one_4 4 rfl rfl)
theorem dX2_one_102 : decode cX2_one 102 = .ok (.istore_n 1, 1) := dk_60 (dk_at dksX2_one_4 7 rfl rfl)
theorem dX2_one_103 : decode cX2_one 103 = .ok (.aload_n 0, 1) := dk_42 (dk_at dksX2_one_4 8 rfl rfl)
theorem dX2_one_104 : decode cX2_one 104 = .ok (.aload_n 0, 1) := dk_42 (dk_at dksX2_one_4 9 rfl rfl)
theorem dX2_one_105 : decode cX2_one 105 = .ok (.bipush 41, 2) := dk_16 41 (dk_at dksX2_one_4 10 rfl rfl)
theorem dX2_one_107 : decode cX2_one 107 = .ok (.invokevirtual 154, 3) := dk_182 0 154 (dk_at dksX2_one_4 12 rfl rfl)
theorem dX2_one_110 : decode cX2_one 110 = .ok (.putfield 133, 3) := dk_181 0 133 (dk_at dksX2_one_4 15 rfl rfl)
theorem dX2_one_113 : decode cX2_one 113 = .ok (.aload_n 0, 1) := dk_42 (dk_at dksX2_one_4 18 rfl rfl)
theorem dX2_one_114 : decode cX2_one 114 = .ok (.dup, 1) := dk_89 (dk_at dksX2_one_4 19 rfl rfl)
theorem dX2_one_115 : decode cX2_one 115 = .ok (.getfield 137, 3) := dk_180 0 137 (dk_at dksX2_one_4 20 rfl rfl)
theorem dX2_one_118 : decode cX2_one 118 = .ok (.aload_n 0, 1) := dk_42 (dk_at dksX2_one_4 23 rfl rfl)
theorem dX2_one_119 : decode cX2_one 119 = .ok (.getfield 133, 3) := dk_180 0 133 (dk_at dksX2_one_5 0 rfl rfl)
theorem dX2_one_122 : decode cX2_one 122 = .ok (.ifCond .eq 7, 3) := dk_153 0 7 (dk_at dksX2_one_5 3 rfl rfl)
theorem dX2_one_125 : decode cX2_one 125 = .ok (.iconst 1, 1) := dk_4 (dk_at dksX2_one_5 6 rfl rfl)
theorem dX2_one_126 : decode cX2_one 126 = .ok (.goto 4, 3) := dk_167 0 4 (dk_at dksX2_one_5 7 rfl rfl)
theorem dX2_one_129 : decode cX2_one 129 = .ok (.iconst 0, 1) := dk_3 (dk_at dksX2_one_5 10 rfl rfl)
theorem dX2_one_130 : decode cX2_one 130 = .ok (.iadd, 1) := dk_96 (dk_at dksX2_one_5 11 rfl rfl)
theorem dX2_one_131 : decode cX2_one 131 = .ok (.putfield 137, 3) := dk_181 0 137 (dk_at dksX2_one_5 12 rfl rfl)
theorem dX2_one_134 : decode cX2_one 134 = .ok (.aload_n 0, 1) := dk_42 (dk_at dksX2_one_5 15 rfl rfl)
theorem dX2_one_135 : decode cX2_one 135 = .ok (.dup, 1) := dk_89 (dk_at dksX2_one_5 16 rfl rfl)
theorem dX2_one_136 : decode cX2_one 136 = .ok (.getfield 147, 3) := dk_180 0 147 (dk_at dksX2_one_5 17 rfl rfl)
theorem dX2_one_139 : decode cX2_one 139 = .ok (.iconst 1, 1) := dk_4 (dk_at dksX2_one_5 20 rfl rfl)
theorem dX2_one_140 : decode cX2_one 140 = .ok (.isub, 1) := dk_100 (dk_at dksX2_one_5 21 rfl rfl)
theorem dX2_one_141 : decode cX2_one 141 = .ok (.putfield 147, 3) := dk_181 0 147 (dk_at dksX2_one_6 0 rfl rfl)
theorem dX2_one_144 : decode cX2_one 144 = .ok (.iload_n 1, 1) := dk_27 (dk_at dksX2_one_6 3 rfl rfl)
theorem dX2_one_145 : decode cX2_one 145 = .ok (.ireturn, 1) := dk_172 (dk_at dksX2_one_6 4 rfl rfl)
theorem dX2_one_146 : decode cX2_one 146 = .ok (.iconst 0, 1) := dk_3 (dk_at dksX2_one_6 5 rfl rfl)
theorem dX2_one_147 : decode cX2_one 147 = .ok (.istore_n 2, 1) := dk_61 (dk_at dksX2_one_6 6 rfl rfl)
theorem dX2_one_148 : decode cX2_one 148 = .ok (.iload_n 2, 1) := dk_28 (dk_at dksX2_one_6 7 rfl rfl)
theorem dX2_one_149 : decode cX2_one 149 = .ok (.bipush 6, 2) := dk_16 6 (dk_at dksX2_one_6 8 rfl rfl)
theorem dX2_one_151 : decode cX2_one 151 = .ok (.if_icmp .ge 39, 3) := dk_162 0 39 (dk_at dksX2_one_6 10 rfl rfl)
theorem dX2_one_154 : decode cX2_one 154 = .ok (.aload_n 0, 1) := dk_42 (dk_at dksX2_one_6 13 rfl rfl)
theorem dX2_one_155 : decode cX2_one 155 = .ok (.aload_n 0, 1) := dk_42 (dk_at dksX2_one_6 14 rfl rfl)
theorem dX2_one_156 : decode cX2_one 156 = .ok (.getfield 41, 3) := dk_180 0 41 (dk_at dksX2_one_6 15 rfl rfl)
theorem dX2_one_159 : decode cX2_one 159 = .ok (.iload_n 2, 1) := dk_28 (dk_at dksX2_one_6 18 rfl rfl)
theorem dX2_one_160 : decode cX2_one 160 = .ok (.caload, 1) := dk_52 (dk_at dksX2_one_6 19 rfl rfl)
theorem dX2_one_161 : decode cX2_one 161 = .ok (.invokevirtual 154, 3) := dk_182 0 154 (dk_at dksX2_one_6 20 rfl rfl)
theorem dX2_one_164 : decode cX2_one 164 = .ok (.ifCond .eq 20, 3) := dk_153 0 20 (dk_at dksX2_one_7 0 rfl rfl)
theorem dX2_one_167 : decode cX2_one 167 = .ok (.aload_n 0, 1) := dk_42 (dk_at dksX2_one_7 3 rfl rfl)
theorem dX2_one_168 : decode cX2_one 168 = .ok (.dup, 1) := dk_89 (dk_at dksX2_one_7 4 rfl rfl)
theorem dX2_one_169 : decode cX2_one 169 = .ok (.getfield 137, 3) := dk_180 0 137 (dk_at dksX2_one_7 5 rfl rfl)
theorem dX2_one_172 : decode cX2_one 172 = .ok (.iconst 1, 1) := dk_4 (dk_at dksX2_one_7 8 rfl rfl)
theorem dX2_one_173 : decode cX2_one 173 = .ok (.iadd, 1) := dk_96 (dk_at dksX2_one_7 9 rfl rfl)
theorem dX2_one_174 : decode cX2_one 174 = .ok (.putfield 137, 3) := dk_181 0 137 (dk_at dksX2_one_7 10 rfl rfl)
theorem dX2_one_177 : decode cX2_one 177 = .ok (.aload_n 0, 1) := dk_42 (dk_at dksX2_one_7 13 rfl rfl)
theorem dX2_one_178 : decode cX2_one 178 = .ok (.getfield 38, 3) := dk_180 0 38 (dk_at dksX2_one_7 14 rfl rfl)
theorem dX2_one_181 : decode cX2_one 181 = .ok (.iload_n 2, 1) := dk_28 (dk_at dksX2_one_7 17 rfl rfl)
theorem dX2_one_182 : decode cX2_one 182 = .ok (.iaload, 1) := dk_46 (dk_at dksX2_one_7 18 rfl rfl)
theorem dX2_one_183 : decode cX2_one 183 = .ok (.ireturn, 1) := dk_172 (dk_at dksX2_one_7 19 rfl rfl)
theorem dX2_one_184 : decode cX2_one 184 = .ok (.iinc 2 1, 3) := dk_132 2 1 (dk_at dksX2_one_7 20 rfl rfl)
theorem dX2_one_187 : decode cX2_one 187 = .ok (.goto (-39), 3) := dk_167 255 217 (dk_at dksX2_one_8 0 rfl rfl)
theorem dX2_one_190 : decode cX2_one 190 = .ok (.aload_n 0, 1) := dk_42 (dk_at dksX2_one_8 3 rfl rfl)
theorem dX2_one_191 : decode cX2_one 191 = .ok (.iconst 0, 1) := dk_3 (dk_at dksX2_one_8 4 rfl rfl)
theorem dX2_one_192 : decode cX2_one 192 = .ok (.putfield 133, 3) := dk_181 0 133 (dk_at dksX2_one_8 5 rfl rfl)
theorem dX2_one_195 : decode cX2_one 195 = .ok (.iconst 0, 1) := dk_3 (dk_at dksX2_one_8 8 rfl rfl)
theorem dX2_one_196 : decode cX2_one 196 = .ok (.ireturn, 1) := dk_172 (dk_at dksX2_one_8 9 rfl rfl)
abbrev cX2_isDigit : ByteArray := prog_31_method_19_code
def yX2_isDigit : MethodName := ⟨RX2, "isDigit", "()Z"⟩
def dkwX2_isDigit_1 : List UInt8 := [180, 0, 137, 46, 16, 48, 16, 57, 184, 0, 104, 153, 0, 7, 4, 167, 0, 4, 3, 172]
abbrev dktX2_isDigit_1 : List UInt8 := dkwX2_isDigit_1 ++ []
def dkwX2_isDigit_0 : List UInt8 := [42, 180, 0, 133, 153, 0, 37, 42, 180, 0, 137, 42, 180, 0, 140, 162, 0, 26, 42, 180, 0, 35, 42]
abbrev dktX2_isDigit_0 : List UInt8 := dkwX2_isDigit_0 ++ dktX2_isDigit_1
theorem dksX2_isDigit_0 : cX2_isDigit.data.toList.drop 0 = dktX2_isDigit_0 := by decide +kernel
theorem dksX2_isDigit_1 : cX2_isDigit.data.toList.drop 23 = dktX2_isDigit_1 := dk_seg dksX2_isDigit_0 23 rfl rfl
theorem dX2_isDigit_0 : decode cX2_isDigit 0 = .ok (.aload_n 0, 1) := dk_42 (dk_at dksX2_isDigit_0 0 rfl rfl)
theorem dX2_isDigit_1 : decode cX2_isDigit 1 = .ok (.getfield 133, 3) := dk_180 0 133 (dk_at dksX2_isDigit_0 1 rfl rfl)
theorem dX2_isDigit_4 : decode cX2_isDigit 4 = .ok (.ifCond .eq 37, 3) := dk_153 0 37 (dk_at dksX2_isDigit_0 4 rfl rfl)
theorem dX2_isDigit_7 : decode cX2_isDigit 7 = .ok (.aload_n 0, 1) := dk_42 (dk_at dksX2_isDigit_0 7 rfl rfl)
theorem dX2_isDigit_8 : decode cX2_isDigit 8 = .ok (.getfield 137, 3) := dk_180 0 137 (dk_at dksX2_isDigit_0 8 rfl rfl)
theorem dX2_isDigit_11 : decode cX2_isDigit 11 = .ok (.aload_n 0, 1) := dk_42 (dk_at dksX2_isDigit_0 11 rfl rfl)
theorem dX2_isDigit_12 : decode cX2_isDigit 12 = .ok (.getfield 140, 3) := dk_180 0 140 (dk_at dksX2_isDigit_0 12 rfl rfl)
theorem dX2_isDigit_15 : decode cX2_isDigit 15 = .ok (.if_icmp .ge 26, 3) := dk_162 0 26 (dk_at dksX2_isDigit_0 15 rfl rfl)
theorem dX2_isDigit_18 : decode cX2_isDigit 18 = .ok (.aload_n 0, 1) := dk_42 (dk_at dksX2_isDigit_0 18 rfl rfl)
theorem dX2_isDigit_19 : decode cX2_isDigit 19 = .ok (.getfield 35, 3) := dk_180 0 35 (dk_at dksX2_isDigit_0 19 rfl rfl)
theorem dX2_isDigit_22 : decode cX2_isDigit 22 = .ok (.aload_n 0, 1) := dk_42 (dk_at dksX2_isDigit_0 22 rfl rfl)
theorem dX2_isDigit_23 : decode cX2_isDigit 23 = .ok (.getfield 137, 3) := dk_180 0 137 (dk_at dksX2_isDigit_1 0 rfl rfl)
theorem dX2_isDigit_26 : decode cX2_isDigit 26 = .ok (.iaload, 1) := dk_46 (dk_at dksX2_isDigit_1 3 rfl rfl)
theorem dX2_isDigit_27 : decode cX2_isDigit 27 = .ok (.bipush 48, 2) := dk_16 48 (dk_at dksX2_isDigit_1 4 rfl rfl)
theorem dX2_isDigit_29 : decode cX2_isDigit 29 = .ok (.bipush 57, 2) := dk_16 57 (dk_at dksX2_isDigit_1 6 rfl rfl)
theorem dX2_isDigit_31 : decode cX2_isDigit 31 = .ok (.invokestatic 104, 3) := dk_184 0 104 (dk_at dksX2_isDigit_1 8 rfl rfl)
theorem dX2_isDigit_34 : decode cX2_isDigit 34 = .ok (.ifCond .eq 7, 3) := dk_153 0 7 (dk_at dksX2_isDigit_1 11 rfl rfl)
theorem dX2_isDigit_37 : decode cX2_isDigit 37 = .ok (.iconst 1, 1) := dk_4 (dk_at dksX2_isDigit_1 14 rfl rfl)
theorem dX2_isDigit_38 : decode cX2_isDigit 38 = .ok (.goto 4, 3) := dk_167 0 4 (dk_at dksX2_isDigit_1 15 rfl rfl)
theorem dX2_isDigit_41 : decode cX2_isDigit 41 = .ok (.iconst 0, 1) := dk_3 (dk_at dksX2_isDigit_1 18 rfl rfl)
theorem dX2_isDigit_42 : decode cX2_isDigit 42 = .ok (.ireturn, 1) := dk_172 (dk_at dksX2_isDigit_1 19 rfl rfl)
abbrev cX2_number : ByteArray := prog_31_method_20_code
def yX2_number : MethodName := ⟨RX2, "number", "()I"⟩
def dkwX2_number_2 : List UInt8 := [167, 255, 213, 27, 172]
abbrev dktX2_number_2 : List UInt8 := dkwX2_number_2 ++ []
def dkwX2_number_1 : List UInt8 := [42, 180, 0, 137, 46, 96, 16, 48, 100, 60, 42, 89, 180, 0, 137, 4, 96, 181, 0, 137, 132, 2, 1]
abbrev dktX2_number_1 : List UInt8 := dkwX2_number_1 ++ dktX2_number_2
def dkwX2_number_0 : List UInt8 := [3, 60, 3, 61, 28, 7, 162, 0, 44, 42, 182, 0, 143, 153, 0, 37, 16, 10, 27, 104, 42, 180, 0, 35]
abbrev dktX2_number_0 : List UInt8 := dkwX2_number_0 ++ dktX2_number_1
theorem dksX2_number_0 : cX2_number.data.toList.drop 0 = dktX2_number_0 := by decide +kernel
theorem dksX2_number_1 : cX2_number.data.toList.drop 24 = dktX2_number_1 := dk_seg dksX2_number_0 24 rfl rfl
theorem dksX2_number_2 : cX2_number.data.toList.drop 47 = dktX2_number_2 := dk_seg dksX2_number_1 23 rfl rfl
theorem dX2_number_0 : decode cX2_number 0 = .ok (.iconst 0, 1) := dk_3 (dk_at dksX2_number_0 0 rfl rfl)
theorem dX2_number_1 : decode cX2_number 1 = .ok (.istore_n 1, 1) := dk_60 (dk_at dksX2_number_0 1 rfl rfl)
theorem dX2_number_2 : decode cX2_number 2 = .ok (.iconst 0, 1) := dk_3 (dk_at dksX2_number_0 2 rfl rfl)
theorem dX2_number_3 : decode cX2_number 3 = .ok (.istore_n 2, 1) := dk_61 (dk_at dksX2_number_0 3 rfl rfl)
theorem dX2_number_4 : decode cX2_number 4 = .ok (.iload_n 2, 1) := dk_28 (dk_at dksX2_number_0 4 rfl rfl)
theorem dX2_number_5 : decode cX2_number 5 = .ok (.iconst 4, 1) := dk_7 (dk_at dksX2_number_0 5 rfl rfl)
theorem dX2_number_6 : decode cX2_number 6 = .ok (.if_icmp .ge 44, 3) := dk_162 0 44 (dk_at dksX2_number_0 6 rfl rfl)
theorem dX2_number_9 : decode cX2_number 9 = .ok (.aload_n 0, 1) := dk_42 (dk_at dksX2_number_0 9 rfl rfl)
theorem dX2_number_10 : decode cX2_number 10 = .ok (.invokevirtual 143, 3) := dk_182 0 143 (dk_at dksX2_number_0 10 rfl rfl)
theorem dX2_number_13 : decode cX2_number 13 = .ok (.ifCond .eq 37, 3) := dk_153 0 37 (dk_at dksX2_number_0 13 rfl rfl)
theorem dX2_number_16 : decode cX2_number 16 = .ok (.bipush 10, 2) := dk_16 10 (dk_at dksX2_number_0 16 rfl rfl)
theorem dX2_number_18 : decode cX2_number 18 = .ok (.iload_n 1, 1) := dk_27 (dk_at dksX2_number_0 18 rfl rfl)
theorem dX2_number_19 : decode cX2_number 19 = .ok (.imul, 1) := dk_104 (dk_at dksX2_number_0 19 rfl rfl)
theorem dX2_number_20 : decode cX2_number 20 = .ok (.aload_n 0, 1) := dk_42 (dk_at dksX2_number_0 20 rfl rfl)
theorem dX2_number_21 : decode cX2_number 21 = .ok (.getfield 35, 3) := dk_180 0 35 (dk_at dksX2_number_0 21 rfl rfl)
theorem dX2_number_24 : decode cX2_number 24 = .ok (.aload_n 0, 1) := dk_42 (dk_at dksX2_number_1 0 rfl rfl)
theorem dX2_number_25 : decode cX2_number 25 = .ok (.getfield 137, 3) := dk_180 0 137 (dk_at dksX2_number_1 1 rfl rfl)
theorem dX2_number_28 : decode cX2_number 28 = .ok (.iaload, 1) := dk_46 (dk_at dksX2_number_1 4 rfl rfl)
theorem dX2_number_29 : decode cX2_number 29 = .ok (.iadd, 1) := dk_96 (dk_at dksX2_number_1 5 rfl rfl)
theorem dX2_number_30 : decode cX2_number 30 = .ok (.bipush 48, 2) := dk_16 48 (dk_at dksX2_number_1 6 rfl rfl)
theorem dX2_number_32 : decode cX2_number 32 = .ok (.isub, 1) := dk_100 (dk_at dksX2_number_1 8 rfl rfl)
theorem dX2_number_33 : decode cX2_number 33 = .ok (.istore_n 1, 1) := dk_60 (dk_at dksX2_number_1 9 rfl rfl)
theorem dX2_number_34 : decode cX2_number 34 = .ok (.aload_n 0, 1) := dk_42 (dk_at dksX2_number_1 10 rfl rfl)
theorem dX2_number_35 : decode cX2_number 35 = .ok (.dup, 1) := dk_89 (dk_at dksX2_number_1 11 rfl rfl)
theorem dX2_number_36 : decode cX2_number 36 = .ok (.getfield 137, 3) := dk_180 0 137 (dk_at dksX2_number_1 12 rfl rfl)
theorem dX2_number_39 : decode cX2_number 39 = .ok (.iconst 1, 1) := dk_4 (dk_at dksX2_number_1 15 rfl rfl)
theorem dX2_number_40 : decode cX2_number 40 = .ok (.iadd, 1) := dk_96 (dk_at dksX2_number_1 16 rfl rfl)
theorem dX2_number_41 : decode cX2_number 41 = .ok (.putfield 137, 3) := dk_181 0 137 (dk_at dksX2_number_1 17 rfl rfl)
theorem dX2_number_44 : decode cX2_number 44 = .ok (.iinc 2 1, 3) := dk_132 2 1 (dk_at dksX2_number_1 20 rfl rfl)
theorem dX2_number_47 : decode cX2_number 47 = .ok (.goto (-43), 3) := dk_167 255 213 (dk_at dksX2_number_2 0 rfl rfl)
theorem dX2_number_50 : decode cX2_number 50 = .ok (.iload_n 1, 1) := dk_27 (dk_at dksX2_number_2 3 rfl rfl)
theorem dX2_number_51 : decode cX2_number 51 = .ok (.ireturn, 1) := dk_172 (dk_at dksX2_number_2 4 rfl rfl)
abbrev cX2_isAt : ByteArray := prog_31_method_18_code
def yX2_isAt : MethodName := ⟨RX2, "isAt", "(I)Z"⟩
def dkwX2_isAt_1 : List UInt8 := [180, 0, 137, 46, 27, 160, 0, 7, 4, 167, 0, 4, 3, 172]
abbrev dktX2_isAt_1 : List UInt8 := dkwX2_isAt_1 ++ []
def dkwX2_isAt_0 : List UInt8 := [42, 180, 0, 133, 153, 0, 31, 42, 180, 0, 137, 42, 180, 0, 140, 162, 0, 20, 42, 180, 0, 35, 42]
abbrev dktX2_isAt_0 : List UInt8 := dkwX2_isAt_0 ++ dktX2_isAt_1
theorem dksX2_isAt_0 : cX2_isAt.data.toList.drop 0 = dktX2_isAt_0 := by decide +kernel
theorem dksX2_isAt_1 : cX2_isAt.data.toList.drop 23 = dktX2_isAt_1 := dk_seg dksX2_isAt_0 23 rfl rfl
theorem dX2_isAt_0 : decode cX2_isAt 0 = .ok (.aload_n 0, 1) := dk_42 (dk_at dksX2_isAt_0 0 rfl rfl)
theorem dX2_isAt_1 : decode cX2_isAt 1 = .ok (.getfield 133, 3) := dk_180 0 133 (dk_at dksX2_isAt_0 1 rfl rfl)
theorem dX2_isAt_4 : decode cX2_isAt 4 = .ok (.ifCond .eq 31, 3) := dk_153 0 31 (dk_at dksX2_isAt_0 4 rfl rfl)
theorem dX2_isAt_7 : decode cX2_isAt 7 = .ok (.aload_n 0, 1) := dk_42 (dk_at dksX2_isAt_0 7 rfl rfl)
theorem dX2_isAt_8 : decode cX2_isAt 8 = .ok (.getfield 137, 3) := dk_180 0 137 (dk_at dksX2_isAt_0 8 rfl rfl)
theorem dX2_isAt_11 : decode cX2_isAt 11 = .ok (.aload_n 0, 1) := dk_42 (dk_at dksX2_isAt_0 11 rfl rfl)
theorem dX2_isAt_12 : decode cX2_isAt 12 = .ok (.getfield 140, 3) := dk_180 0 140 (dk_at dksX2_isAt_0 12 rfl rfl)
theorem dX2_isAt_15 : decode cX2_isAt 15 = .ok (.if_icmp .ge 20, 3) := dk_162 0 20 (dk_at dksX2_isAt_0 15 rfl rfl)
theorem dX2_isAt_18 : decode cX2_isAt 18 = .ok (.aload_n 0, 1) := dk_42 (dk_at dksX2_isAt_0 18 rfl rfl)
theorem dX2_isAt_19 : decode cX2_isAt 19 = .ok (.getfield 35, 3) := dk_180 0 35 (dk_at dksX2_isAt_0 19 rfl rfl)
theorem dX2_isAt_22 : decode cX2_isAt 22 = .ok (.aload_n 0, 1) := dk_42 (dk_at dksX2_isAt_0 22 rfl rfl)
theorem dX2_isAt_23 : decode cX2_isAt 23 = .ok (.getfield 137, 3) := dk_180 0 137 (dk_at dksX2_isAt_1 0 rfl rfl)
theorem dX2_isAt_26 : decode cX2_isAt 26 = .ok (.iaload, 1) := dk_46 (dk_at dksX2_isAt_1 3 rfl rfl)
theorem dX2_isAt_27 : decode cX2_isAt 27 = .ok (.iload_n 1, 1) := dk_27 (dk_at dksX2_isAt_1 4 rfl rfl)
theorem dX2_isAt_28 : decode cX2_isAt 28 = .ok (.if_icmp .ne 7, 3) := dk_160 0 7 (dk_at dksX2_isAt_1 5 rfl rfl)
theorem dX2_isAt_31 : decode cX2_isAt 31 = .ok (.iconst 1, 1) := dk_4 (dk_at dksX2_isAt_1 8 rfl rfl)
theorem dX2_isAt_32 : decode cX2_isAt 32 = .ok (.goto 4, 3) := dk_167 0 4 (dk_at dksX2_isAt_1 9 rfl rfl)
theorem dX2_isAt_35 : decode cX2_isAt 35 = .ok (.iconst 0, 1) := dk_3 (dk_at dksX2_isAt_1 12 rfl rfl)
theorem dX2_isAt_36 : decode cX2_isAt 36 = .ok (.ireturn, 1) := dk_172 (dk_at dksX2_isAt_1 13 rfl rfl)
abbrev cX2_opens : ByteArray := prog_31_method_21_code
def yX2_opens : MethodName := ⟨RX2, "opens", "()Z"⟩
def dkwX2_opens_2 : List UInt8 := [180, 0, 133, 172]
abbrev dktX2_opens_2 : List UInt8 := dkwX2_opens_2 ++ []
def dkwX2_opens_1 : List UInt8 := [153, 0, 23, 42, 89, 180, 0, 147, 4, 96, 181, 0, 147, 42, 89, 180, 0, 137, 4, 96, 181, 0, 137, 42]
abbrev dktX2_opens_1 : List UInt8 := dkwX2_opens_1 ++ dktX2_opens_2
def dkwX2_opens_0 : List UInt8 := [42, 42, 180, 0, 147, 16, 6, 162, 0, 7, 4, 167, 0, 4, 3, 181, 0, 133, 42, 180, 0, 133]
abbrev dktX2_opens_0 : List UInt8 := dkwX2_opens_0 ++ dktX2_opens_1
theorem dksX2_opens_0 : cX2_opens.data.toList.drop 0 = dktX2_opens_0 := by decide +kernel
theorem dksX2_opens_1 : cX2_opens.data.toList.drop 22 = dktX2_opens_1 := dk_seg dksX2_opens_0 22 rfl rfl
theorem dksX2_opens_2 : cX2_opens.data.toList.drop 46 = dktX2_opens_2 := dk_seg dksX2_opens_1 24 rfl rfl
theorem dX2_opens_0 : decode cX2_opens 0 = .ok (.aload_n 0, 1) := dk_42 (dk_at dksX2_opens_0 0 rfl rfl)
theorem dX2_opens_1 : decode cX2_opens 1 = .ok (.aload_n 0, 1) := dk_42 (dk_at dksX2_opens_0 1 rfl rfl)
theorem dX2_opens_2 : decode cX2_opens 2 = .ok (.getfield 147, 3) := dk_180 0 147 (dk_at dksX2_opens_0 2 rfl rfl)
theorem dX2_opens_5 : decode cX2_opens 5 = .ok (.bipush 6, 2) := dk_16 6 (dk_at dksX2_opens_0 5 rfl rfl)
theorem dX2_opens_7 : decode cX2_opens 7 = .ok (.if_icmp .ge 7, 3) := dk_162 0 7 (dk_at dksX2_opens_0 7 rfl rfl)
theorem dX2_opens_10 : decode cX2_opens 10 = .ok (.iconst 1, 1) := dk_4 (dk_at dksX2_opens_0 10 rfl rfl)
theorem dX2_opens_11 : decode cX2_opens 11 = .ok (.goto 4, 3) := dk_167 0 4 (dk_at dksX2_opens_0 11 rfl rfl)
theorem dX2_opens_14 : decode cX2_opens 14 = .ok (.iconst 0, 1) := dk_3 (dk_at dksX2_opens_0 14 rfl rfl)
theorem dX2_opens_15 : decode cX2_opens 15 = .ok (.putfield 133, 3) := dk_181 0 133 (dk_at dksX2_opens_0 15 rfl rfl)
theorem dX2_opens_18 : decode cX2_opens 18 = .ok (.aload_n 0, 1) := dk_42 (dk_at dksX2_opens_0 18 rfl rfl)
theorem dX2_opens_19 : decode cX2_opens 19 = .ok (.getfield 133, 3) := dk_180 0 133 (dk_at dksX2_opens_0 19 rfl rfl)
theorem dX2_opens_22 : decode cX2_opens 22 = .ok (.ifCond .eq 23, 3) := dk_153 0 23 (dk_at dksX2_opens_1 0 rfl rfl)
theorem dX2_opens_25 : decode cX2_opens 25 = .ok (.aload_n 0, 1) := dk_42 (dk_at dksX2_opens_1 3 rfl rfl)
theorem dX2_opens_26 : decode cX2_opens 26 = .ok (.dup, 1) := dk_89 (dk_at dksX2_opens_1 4 rfl rfl)
theorem dX2_opens_27 : decode cX2_opens 27 = .ok (.getfield 147, 3) := dk_180 0 147 (dk_at dksX2_opens_1 5 rfl rfl)
theorem dX2_opens_30 : decode cX2_opens 30 = .ok (.iconst 1, 1) := dk_4 (dk_at dksX2_opens_1 8 rfl rfl)
theorem dX2_opens_31 : decode cX2_opens 31 = .ok (.iadd, 1) := dk_96 (dk_at dksX2_opens_1 9 rfl rfl)
theorem dX2_opens_32 : decode cX2_opens 32 = .ok (.putfield 147, 3) := dk_181 0 147 (dk_at dksX2_opens_1 10 rfl rfl)
theorem dX2_opens_35 : decode cX2_opens 35 = .ok (.aload_n 0, 1) := dk_42 (dk_at dksX2_opens_1 13 rfl rfl)
theorem dX2_opens_36 : decode cX2_opens 36 = .ok (.dup, 1) := dk_89 (dk_at dksX2_opens_1 14 rfl rfl)
theorem dX2_opens_37 : decode cX2_opens 37 = .ok (.getfield 137, 3) := dk_180 0 137 (dk_at dksX2_opens_1 15 rfl rfl)
theorem dX2_opens_40 : decode cX2_opens 40 = .ok (.iconst 1, 1) := dk_4 (dk_at dksX2_opens_1 18 rfl rfl)
theorem dX2_opens_41 : decode cX2_opens 41 = .ok (.iadd, 1) := dk_96 (dk_at dksX2_opens_1 19 rfl rfl)
theorem dX2_opens_42 : decode cX2_opens 42 = .ok (.putfield 137, 3) := dk_181 0 137 (dk_at dksX2_opens_1 20 rfl rfl)
theorem dX2_opens_45 : decode cX2_opens 45 = .ok (.aload_n 0, 1) := dk_42 (dk_at dksX2_opens_1 23 rfl rfl)
theorem dX2_opens_46 : decode cX2_opens 46 = .ok (.getfield 133, 3) := dk_180 0 133 (dk_at dksX2_opens_2 0 rfl rfl)
theorem dX2_opens_49 : decode cX2_opens 49 = .ok (.ireturn, 1) := dk_172 (dk_at dksX2_opens_2 3 rfl rfl)
abbrev cX2_comes : ByteArray := prog_31_method_34_code
def yX2_comes : MethodName := ⟨RX2, "comes", "(I)I"⟩
def dkwX2_comes_0 : List UInt8 := [42, 27, 182, 0, 116, 153, 0, 11, 42, 27, 182, 0, 205, 167, 0, 4, 2, 172]
abbrev dktX2_comes_0 : List UInt8 := dkwX2_comes_0 ++ []
theorem dksX2_comes_0 : cX2_comes.data.toList.drop 0 = dktX2_comes_0 := by decide +kernel
theorem dX2_comes_0 : decode cX2_comes 0 = .ok (.aload_n 0, 1) := dk_42 (dk_at dksX2_comes_0 0 rfl rfl)
theorem dX2_comes_1 : decode cX2_comes 1 = .ok (.iload_n 1, 1) := dk_27 (dk_at dksX2_comes_0 1 rfl rfl)
theorem dX2_comes_2 : decode cX2_comes 2 = .ok (.invokevirtual 116, 3) := dk_182 0 116 (dk_at dksX2_comes_0 2 rfl rfl)
theorem dX2_comes_5 : decode cX2_comes 5 = .ok (.ifCond .eq 11, 3) := dk_153 0 11 (dk_at dksX2_comes_0 5 rfl rfl)
theorem dX2_comes_8 : decode cX2_comes 8 = .ok (.aload_n 0, 1) := dk_42 (dk_at dksX2_comes_0 8 rfl rfl)
theorem dX2_comes_9 : decode cX2_comes 9 = .ok (.iload_n 1, 1) := dk_27 (dk_at dksX2_comes_0 9 rfl rfl)
theorem dX2_comes_10 : decode cX2_comes 10 = .ok (.invokevirtual 205, 3) := dk_182 0 205 (dk_at dksX2_comes_0 10 rfl rfl)
theorem dX2_comes_13 : decode cX2_comes 13 = .ok (.goto 4, 3) := dk_167 0 4 (dk_at dksX2_comes_0 13 rfl rfl)
theorem dX2_comes_16 : decode cX2_comes 16 = .ok (.iconst (-1), 1) := dk_2 (dk_at dksX2_comes_0 16 rfl rfl)
theorem dX2_comes_17 : decode cX2_comes 17 = .ok (.ireturn, 1) := dk_172 (dk_at dksX2_comes_0 17 rfl rfl)
abbrev cX2_comesFrom : ByteArray := prog_31_method_33_code
def yX2_comesFrom : MethodName := ⟨RX2, "comesFrom", "(I)I"⟩
def dkwX2_comesFrom_4 : List UInt8 := [42, 180, 0, 13, 16, 41, 46, 79, 42, 182, 0, 199, 3, 16, 20, 184, 0, 202, 172]
abbrev dktX2_comesFrom_4 : List UInt8 := dkwX2_comesFrom_4 ++ []
def dkwX2_comesFrom_3 : List UInt8 := [6, 42, 28, 182, 0, 196, 79, 42, 180, 0, 38, 7, 42, 27, 6, 182, 0, 191, 79, 42, 180, 0, 38, 8]
abbrev dktX2_comesFrom_3 : List UInt8 := dkwX2_comesFrom_3 ++ dktX2_comesFrom_4
def dkwX2_comesFrom_2 : List UInt8 := [3, 182, 0, 191, 184, 0, 193, 79, 42, 180, 0, 38, 5, 42, 28, 5, 182, 0, 191, 79, 42, 180, 0, 38]
abbrev dktX2_comesFrom_2 : List UInt8 := dkwX2_comesFrom_2 ++ dktX2_comesFrom_3
def dkwX2_comesFrom_1 : List UInt8 := [180, 0, 38, 3, 42, 27, 4, 182, 0, 191, 79, 42, 180, 0, 38, 4, 42, 27, 3, 182, 0, 191, 42, 28]
abbrev dktX2_comesFrom_1 : List UInt8 := dkwX2_comesFrom_1 ++ dktX2_comesFrom_2
def dkwX2_comesFrom_0 : List UInt8 := [42, 27, 7, 182, 0, 191, 61, 28, 2, 159, 0, 12, 42, 27, 6, 182, 0, 191, 154, 0, 5, 3, 172, 42]
abbrev dktX2_comesFrom_0 : List UInt8 := dkwX2_comesFrom_0 ++ dktX2_comesFrom_1
theorem dksX2_comesFrom_0 : cX2_comesFrom.data.toList.drop 0 = dktX2_comesFrom_0 := by decide +kernel
theorem dksX2_comesFrom_1 : cX2_comesFrom.data.toList.drop 24 = dktX2_comesFrom_1 := dk_seg dksX2_comesFrom_0 24 rfl rfl
theorem dksX2_comesFrom_2 : cX2_comesFrom.data.toList.drop 48 = dktX2_comesFrom_2 := dk_seg dksX2_comesFrom_1 24 rfl rfl
theorem dksX2_comesFrom_3 : cX2_comesFrom.data.toList.drop 72 = dktX2_comesFrom_3 := dk_seg dksX2_comesFrom_2 24 rfl rfl
theorem dksX2_comesFrom_4 : cX2_comesFrom.data.toList.drop 96 = dktX2_comesFrom_4 := dk_seg dksX2_comesFrom_3 24 rfl rfl
theorem dX2_comesFrom_0 : decode cX2_comesFrom 0 = .ok (.aload_n 0, 1) := dk_42 (dk_at dksX2_comesFrom_0 0 rfl rfl)
theorem dX2_comesFrom_1 : decode cX2_comesFrom 1 = .ok (.iload_n 1, 1) := dk_27 (dk_at dksX2_comesFrom_0 1 rfl rfl)
theorem dX2_comesFrom_2 : decode cX2_comesFrom 2 = .ok (.iconst 4, 1) := dk_7 (dk_at dksX2_comesFrom_0 2 rfl rfl)
theorem dX2_comesFrom_3 : decode cX2_comesFrom 3 = .ok (.invokevirtual 191, 3) := dk_182 0 191 (dk_at dksX2_comesFrom_0 3 rfl rfl)
theorem dX2_comesFrom_6 : decode cX2_comesFrom 6 = .ok (.istore_n 2, 1) := dk_61 (dk_at dksX2_comesFrom_0 6 rfl rfl)
theorem dX2_comesFrom_7 : decode cX2_comesFrom 7 = .ok (.iload_n 2, 1) := dk_28 (dk_at dksX2_comesFrom_0 7 rfl rfl)
theorem dX2_comesFrom_8 : decode cX2_comesFrom 8 = .ok (.iconst (-1), 1) := dk_2 (dk_at dksX2_comesFrom_0 8 rfl rfl)
theorem dX2_comesFrom_9 : decode cX2_comesFrom 9 = .ok (.if_icmp .eq 12, 3) := dk_159 0 12 (dk_at dksX2_comesFrom_0 9 rfl rfl)
theorem dX2_comesFrom_12 : decode cX2_comesFrom 12 = .ok (.aload_n 0, 1) := dk_42 (dk_at dksX2_comesFrom_0 12 rfl rfl)
theorem dX2_comesFrom_13 : decode cX2_comesFrom 13 = .ok (.iload_n 1, 1) := dk_27 (dk_at dksX2_comesFrom_0 13 rfl rfl)
theorem dX2_comesFrom_14 : decode cX2_comesFrom 14 = .ok (.iconst 3, 1) := dk_6 (dk_at dksX2_comesFrom_0 14 rfl rfl)
theorem dX2_comesFrom_15 : decode cX2_comesFrom 15 = .ok (.invokevirtual 191, 3) := dk_182 0 191 (dk_at dksX2_comesFrom_0 15 rfl rfl)
theorem dX2_comesFrom_18 : decode cX2_comesFrom 18 = .ok (.ifCond .ne 5, 3) := dk_154 0 5 (dk_at dksX2_comesFrom_0 18 rfl rfl)
theorem dX2_comesFrom_21 : decode cX2_comesFrom 21 = .ok (.iconst 0, 1) := dk_3 (dk_at dksX2_comesFrom_0 21 rfl rfl)
theorem dX2_comesFrom_22 : decode cX2_comesFrom 22 = .ok (.ireturn, 1) := dk_172 (dk_at dksX2_comesFrom_0 22 rfl rfl)
theorem dX2_comesFrom_23 : decode cX2_comesFrom 23 = .ok (.aload_n 0, 1) := dk_42 (dk_at dksX2_comesFrom_0 23 rfl rfl)
theorem dX2_comesFrom_24 : decode cX2_comesFrom 24 = .ok (.getfield 38, 3) := dk_180 0 38 (dk_at dksX2_comesFrom_1 0 rfl rfl)
theorem dX2_comesFrom_27 : decode cX2_comesFrom 27 = .ok (.iconst 0, 1) := dk_3 (dk_at dksX2_comesFrom_1 3 rfl rfl)
theorem dX2_comesFrom_28 : decode cX2_comesFrom 28 = .ok (.aload_n 0, 1) := dk_42 (dk_at dksX2_comesFrom_1 4 rfl rfl)
theorem dX2_comesFrom_29 : decode cX2_comesFrom 29 = .ok (.iload_n 1, 1) := dk_27 (dk_at dksX2_comesFrom_1 5 rfl rfl)
theorem dX2_comesFrom_30 : decode cX2_comesFrom 30 = .ok (.iconst 1, 1) := dk_4 (dk_at dksX2_comesFrom_1 6 rfl rfl)
theorem dX2_comesFrom_31 : decode cX2_comesFrom 31 = .ok (.invokevirtual 191, 3) := dk_182 0 191 (dk_at dksX2_comesFrom_1 7 rfl rfl)
theorem dX2_comesFrom_34 : decode cX2_comesFrom 34 = .ok (.iastore, 1) := dk_79 (dk_at dksX2_comesFrom_1 10 rfl rfl)
theorem dX2_comesFrom_35 : decode cX2_comesFrom 35 = .ok (.aload_n 0, 1) := dk_42 (dk_at dksX2_comesFrom_1 11 rfl rfl)
theorem dX2_comesFrom_36 : decode cX2_comesFrom 36 = .ok (.getfield 38, 3) := dk_180 0 38 (dk_at dksX2_comesFrom_1 12 rfl rfl)
theorem dX2_comesFrom_39 : decode cX2_comesFrom 39 = .ok (.iconst 1, 1) := dk_4 (dk_at dksX2_comesFrom_1 15 rfl rfl)
theorem dX2_comesFrom_40 : decode cX2_comesFrom 40 = .ok (.aload_n 0, 1) := dk_42 (dk_at dksX2_comesFrom_1 16 rfl rfl)
theorem dX2_comesFrom_41 : decode cX2_comesFrom 41 = .ok (.iload_n 1, 1) := dk_27 (dk_at dksX2_comesFrom_1 17 rfl rfl)
theorem dX2_comesFrom_42 : decode cX2_comesFrom 42 = .ok (.iconst 0, 1) := dk_3 (dk_at dksX2_comesFrom_1 18 rfl rfl)
theorem dX2_comesFrom_43 : decode cX2_comesFrom 43 = .ok (.invokevirtual 191, 3) := dk_182 0 191 (dk_at dksX2_comesFrom_1 19 rfl rfl)
theorem dX2_comesFrom_46 : decode cX2_comesFrom 46 = .ok (.aload_n 0, 1) := dk_42 (dk_at dksX2_comesFrom_1 22 rfl rfl)
theorem dX2_comesFrom_47 : decode cX2_comesFrom 47 = .ok (.iload_n 2, 1) := dk_28 (dk_at dksX2_comesFrom_1 23 rfl rfl)
theorem dX2_comesFrom_48 : decode cX2_comesFrom 48 = .ok (.iconst 0, 1) := dk_3 (dk_at dksX2_comesFrom_2 0 rfl rfl)
theorem dX2_comesFrom_49 : decode cX2_comesFrom 49 = .ok (.invokevirtual 191, 3) := dk_182 0 191 (dk_at dksX2_comesFrom_2 1 rfl rfl)
theorem dX2_comesFrom_52 : decode cX2_comesFrom 52 = .ok (.invokestatic 193, 3) := dk_184 0 193 (dk_at dksX2_comesFrom_2 4 rfl rfl)
theorem dX2_comesFrom_55 : decode cX2_comesFrom 55 = .ok (.iastore, 1) := dk_79 (dk_at dksX2_comesFrom_2 7 rfl rfl)
theorem dX2_comesFrom_56 : decode cX2_comesFrom 56 = .ok (.aload_n 0, 1) := dk_42 (dk_at dksX2_comesFrom_2 8 rfl rfl)
theorem dX2_comesFrom_57 : decode cX2_comesFrom 57 = .ok (.getfield 38, 3) := dk_180 0 38 (dk_at dksX2_comesFrom_2 9 rfl rfl)
theorem dX2_comesFrom_60 : decode cX2_comesFrom 60 = .ok (.iconst 2, 1) := dk_5 (dk_at dksX2_comesFrom_2 12 rfl rfl)
theorem dX2_comesFrom_61 : decode cX2_comesFrom 61 = .ok (.aload_n 0, 1) := dk_42 (dk_at dksX2_comesFrom_2 13 rfl rfl)
theorem dX2_comesFrom_62 : decode cX2_comesFrom 62 = .ok (.iload_n 2, 1) := dk_28 (dk_at dksX2_comesFrom_2 14 rfl rfl)
theorem dX2_comesFrom_63 : decode cX2_comesFrom 63 = .ok (.iconst 2, 1) := dk_5 (dk_at dksX2_comesFrom_2 15 rfl rfl)
theorem dX2_comesFrom_64 : decode cX2_comesFrom 64 = .ok (.invokevirtual 191, 3) := dk_182 0 191 (dk_at dksX2_comesFrom_2 16 rfl rfl)
theorem dX2_comesFrom_67 : decode cX2_comesFrom 67 = .ok (.iastore, 1) := dk_79 (dk_at dksX2_comesFrom_2 19 rfl rfl)
theorem dX2_comesFrom_68 : decode cX2_comesFrom 68 = .ok (.aload_n 0, 1) := dk_42 (dk_at dksX2_comesFrom_2 20 rfl rfl)
theorem dX2_comesFrom_69 : decode cX2_comesFrom 69 = .ok (.getfield 38, 3) := dk_180 0 38 (dk_at dksX2_comesFrom_2 21 rfl rfl)
theorem dX2_comesFrom_72 : decode cX2_comesFrom 72 = .ok (.iconst 3, 1) := dk_6 (dk_at dksX2_comesFrom_3 0 rfl rfl)
theorem dX2_comesFrom_73 : decode cX2_comesFrom 73 = .ok (.aload_n 0, 1) := dk_42 (dk_at dksX2_comesFrom_3 1 rfl rfl)
theorem dX2_comesFrom_74 : decode cX2_comesFrom 74 = .ok (.iload_n 2, 1) := dk_28 (dk_at dksX2_comesFrom_3 2 rfl rfl)
theorem dX2_comesFrom_75 : decode cX2_comesFrom 75 = .ok (.invokevirtual 196, 3) := dk_182 0 196 (dk_at dksX2_comesFrom_3 3 rfl rfl)
theorem dX2_comesFrom_78 : decode cX2_comesFrom 78 = .ok (.iastore, 1) := dk_79 (dk_at dksX2_comesFrom_3 6 rfl rfl)
theorem dX2_comesFrom_79 : decode cX2_comesFrom 79 = .ok (.aload_n 0, 1) := dk_42 (dk_at dksX2_comesFrom_3 7 rfl rfl)
theorem dX2_comesFrom_80 : decode cX2_comesFrom 80 = .ok (.getfield 38, 3) := dk_180 0 38 (dk_at dksX2_comesFrom_3 8 rfl rfl)
theorem dX2_comesFrom_83 : decode cX2_comesFrom 83 = .ok (.iconst 4, 1) := dk_7 (dk_at dksX2_comesFrom_3 11 rfl rfl)
theorem dX2_comesFrom_84 : decode cX2_comesFrom 84 = .ok (.aload_n 0, 1) := dk_42 (dk_at dksX2_comesFrom_3 12 rfl rfl)
theorem dX2_comesFrom_85 : decode cX2_comesFrom 85 = .ok (.iload_n 1, 1) := dk_27 (dk_at dksX2_comesFrom_3 13 rfl rfl)
theorem dX2_comesFrom_86 : decode cX2_comesFrom 86 = .ok (.iconst 3, 1) := dk_6 (dk_at dksX2_comesFrom_3 14 rfl rfl)
theorem dX2_comesFrom_87 : decode cX2_comesFrom 87 = .ok (.invokevirtual 191, 3) := dk_182 0 191 (dk_at dksX2_comesFrom_3 15 rfl rfl)
theorem dX2_comesFrom_90 : decode cX2_comesFrom 90 = .ok (.iastore, 1) := dk_79 (dk_at dksX2_comesFrom_3 18 rfl rfl)
theorem dX2_comesFrom_91 : decode cX2_comesFrom 91 = .ok (.aload_n 0, 1) := dk_42 (dk_at dksX2_comesFrom_3 19 rfl rfl)
theorem dX2_comesFrom_92 : decode cX2_comesFrom 92 = .ok (.getfield 38, 3) := dk_180 0 38 (dk_at dksX2_comesFrom_3 20 rfl rfl)
theorem dX2_comesFrom_95 : decode cX2_comesFrom 95 = .ok (.iconst 5, 1) := dk_8 (dk_at dksX2_comesFrom_3 23 rfl rfl)
theorem dX2_comesFrom_96 : decode cX2_comesFrom 96 = .ok (.aload_n 0, 1) := dk_42 (dk_at dksX2_comesFrom_4 0 rfl rfl)
theorem dX2_comesFrom_97 : decode cX2_comesFrom 97 = .ok (.getfield 13, 3) := dk_180 0 13 (dk_at dksX2_comesFrom_4 1 rfl rfl)
theorem dX2_comesFrom_100 : decode cX2_comesFrom 100 = .ok (.bipush 41, 2) := dk_16 41 (dk_at dksX2_comesFrom_4 4 rfl rfl)
theorem dX2_comesFrom_102 : decode cX2_comesFrom 102 = .ok (.iaload, 1) := dk_46 (dk_at dksX2_comesFrom_4 6 rfl rfl)
theorem dX2_comesFrom_103 : decode cX2_comesFrom 103 = .ok (.iastore, 1) := dk_79 (dk_at dksX2_comesFrom_4 7 rfl rfl)
theorem dX2_comesFrom_104 : decode cX2_comesFrom 104 = .ok (.aload_n 0, 1) := dk_42 (dk_at dksX2_comesFrom_4 8 rfl rfl)
theorem dX2_comesFrom_105 : decode cX2_comesFrom 105 = .ok (.invokevirtual 199, 3) := dk_182 0 199 (dk_at dksX2_comesFrom_4 9 rfl rfl)
theorem dX2_comesFrom_108 : decode cX2_comesFrom 108 = .ok (.iconst 0, 1) := dk_3 (dk_at dksX2_comesFrom_4 12 rfl rfl)
theorem dX2_comesFrom_109 : decode cX2_comesFrom 109 = .ok (.bipush 20, 2) := dk_16 20 (dk_at dksX2_comesFrom_4 13 rfl rfl)
theorem dX2_comesFrom_111 : decode cX2_comesFrom 111 = .ok (.invokestatic 202, 3) := dk_184 0 202 (dk_at dksX2_comesFrom_4 15 rfl rfl)
theorem dX2_comesFrom_114 : decode cX2_comesFrom 114 = .ok (.ireturn, 1) := dk_172 (dk_at dksX2_comesFrom_4 18 rfl rfl)
abbrev cX2_number_2 : ByteArray := prog_31_method_8_code
def yX2_number_2 : MethodName := ⟨RX2, "number", "(II)I"⟩
def dkwX2_number_2_0 : List UInt8 := [42, 180, 0, 13, 8, 27, 104, 28, 96, 46, 172]
abbrev dktX2_number_2_0 : List UInt8 := dkwX2_number_2_0 ++ []
theorem dksX2_number_2_0 : cX2_number_2.data.toList.drop 0 = dktX2_number_2_0 := by decide +kernel
theorem dX2_number_2_0 : decode cX2_number_2 0 = .ok (.aload_n 0, 1) := dk_42 (dk_at dksX2_number_2_0 0 rfl rfl)
theorem dX2_number_2_1 : decode cX2_number_2 1 = .ok (.getfield 13, 3) := dk_180 0 13 (dk_at dksX2_number_2_0 1 rfl rfl)
theorem dX2_number_2_4 : decode cX2_number_2 4 = .ok (.iconst 5, 1) := dk_8 (dk_at dksX2_number_2_0 4 rfl rfl)
theorem dX2_number_2_5 : decode cX2_number_2 5 = .ok (.iload_n 1, 1) := dk_27 (dk_at dksX2_number_2_0 5 rfl rfl)
theorem dX2_number_2_6 : decode cX2_number_2 6 = .ok (.imul, 1) := dk_104 (dk_at dksX2_number_2_0 6 rfl rfl)
theorem dX2_number_2_7 : decode cX2_number_2 7 = .ok (.iload_n 2, 1) := dk_28 (dk_at dksX2_number_2_0 7 rfl rfl)
theorem dX2_number_2_8 : decode cX2_number_2 8 = .ok (.iadd, 1) := dk_96 (dk_at dksX2_number_2_0 8 rfl rfl)
theorem dX2_number_2_9 : decode cX2_number_2 9 = .ok (.iaload, 1) := dk_46 (dk_at dksX2_number_2_0 9 rfl rfl)
theorem dX2_number_2_10 : decode cX2_number_2 10 = .ok (.ireturn, 1) := dk_172 (dk_at dksX2_number_2_0 10 rfl rfl)
abbrev cX2_far : ByteArray := prog_31_method_31_code
def yX2_far : MethodName := ⟨RX2, "far", "(II)I"⟩
def dkwX2_far_1 : List UInt8 := [96, 172]
abbrev dktX2_far_1 : List UInt8 := dkwX2_far_1 ++ []
def dkwX2_far_0 : List UInt8 := [26, 16, 6, 108, 27, 16, 6, 108, 100, 184, 0, 187, 26, 16, 6, 112, 27, 16, 6, 112, 100, 184, 0, 187]
abbrev dktX2_far_0 : List UInt8 := dkwX2_far_0 ++ dktX2_far_1
theorem dksX2_far_0 : cX2_far.data.toList.drop 0 = dktX2_far_0 := by decide +kernel
theorem dksX2_far_1 : cX2_far.data.toList.drop 24 = dktX2_far_1 := dk_seg dksX2_far_0 24 rfl rfl
theorem dX2_far_0 : decode cX2_far 0 = .ok (.iload_n 0, 1) := dk_26 (dk_at dksX2_far_0 0 rfl rfl)
theorem dX2_far_1 : decode cX2_far 1 = .ok (.bipush 6, 2) := dk_16 6 (dk_at dksX2_far_0 1 rfl rfl)
theorem dX2_far_3 : decode cX2_far 3 = .ok (.idiv, 1) := dk_108 (dk_at dksX2_far_0 3 rfl rfl)
theorem dX2_far_4 : decode cX2_far 4 = .ok (.iload_n 1, 1) := dk_27 (dk_at dksX2_far_0 4 rfl rfl)
theorem dX2_far_5 : decode cX2_far 5 = .ok (.bipush 6, 2) := dk_16 6 (dk_at dksX2_far_0 5 rfl rfl)
theorem dX2_far_7 : decode cX2_far 7 = .ok (.idiv, 1) := dk_108 (dk_at dksX2_far_0 7 rfl rfl)
theorem dX2_far_8 : decode cX2_far 8 = .ok (.isub, 1) := dk_100 (dk_at dksX2_far_0 8 rfl rfl)
theorem dX2_far_9 : decode cX2_far 9 = .ok (.invokestatic 187, 3) := dk_184 0 187 (dk_at dksX2_far_0 9 rfl rfl)
theorem dX2_far_12 : decode cX2_far 12 = .ok (.iload_n 0, 1) := dk_26 (dk_at dksX2_far_0 12 rfl rfl)
theorem dX2_far_13 : decode cX2_far 13 = .ok (.bipush 6, 2) := dk_16 6 (dk_at dksX2_far_0 13 rfl rfl)
theorem dX2_far_15 : decode cX2_far 15 = .ok (.irem, 1) := dk_112 (dk_at dksX2_far_0 15 rfl rfl)
theorem dX2_far_16 : decode cX2_far 16 = .ok (.iload_n 1, 1) := dk_27 (dk_at dksX2_far_0 16 rfl rfl)
theorem dX2_far_17 : decode cX2_far 17 = .ok (.bipush 6, 2) := dk_16 6 (dk_at dksX2_far_0 17 rfl rfl)
theorem dX2_far_19 : decode cX2_far 19 = .ok (.irem, 1) := dk_112 (dk_at dksX2_far_0 19 rfl rfl)
theorem dX2_far_20 : decode cX2_far 20 = .ok (.isub, 1) := dk_100 (dk_at dksX2_far_0 20 rfl rfl)
theorem dX2_far_21 : decode cX2_far 21 = .ok (.invokestatic 187, 3) := dk_184 0 187 (dk_at dksX2_far_0 21 rfl rfl)
theorem dX2_far_24 : decode cX2_far 24 = .ok (.iadd, 1) := dk_96 (dk_at dksX2_far_1 0 rfl rfl)
theorem dX2_far_25 : decode cX2_far 25 = .ok (.ireturn, 1) := dk_172 (dk_at dksX2_far_1 1 rfl rfl)
abbrev cX2_carers : ByteArray := prog_31_method_32_code
def yX2_carers : MethodName := ⟨RX2, "carers", "(I)I"⟩
def dkwX2_carers_1 : List UInt8 := [167, 0, 4, 3, 96, 61, 132, 3, 1, 167, 255, 227, 28, 172]
abbrev dktX2_carers_1 : List UInt8 := dkwX2_carers_1 ++ []
def dkwX2_carers_0 : List UInt8 := [3, 61, 3, 62, 29, 42, 180, 0, 101, 162, 0, 27, 28, 42, 29, 7, 182, 0, 191, 27, 160, 0, 7, 4]
abbrev dktX2_carers_0 : List UInt8 := dkwX2_carers_0 ++ dktX2_carers_1
theorem dksX2_carers_0 : cX2_carers.data.toList.drop 0 = dktX2_carers_0 := by decide +kernel
theorem dksX2_carers_1 : cX2_carers.data.toList.drop 24 = dktX2_carers_1 := dk_seg dksX2_carers_0 24 rfl rfl
theorem dX2_carers_0 : decode cX2_carers 0 = .ok (.iconst 0, 1) := dk_3 (dk_at dksX2_carers_0 0 rfl rfl)
theorem dX2_carers_1 : decode cX2_carers 1 = .ok (.istore_n 2, 1) := dk_61 (dk_at dksX2_carers_0 1 rfl rfl)
theorem dX2_carers_2 : decode cX2_carers 2 = .ok (.iconst 0, 1) := dk_3 (dk_at dksX2_carers_0 2 rfl rfl)
theorem dX2_carers_3 : decode cX2_carers 3 = .ok (.istore_n 3, 1) := dk_62 (dk_at dksX2_carers_0 3 rfl rfl)
theorem dX2_carers_4 : decode cX2_carers 4 = .ok (.iload_n 3, 1) := dk_29 (dk_at dksX2_carers_0 4 rfl rfl)
theorem dX2_carers_5 : decode cX2_carers 5 = .ok (.aload_n 0, 1) := dk_42 (dk_at dksX2_carers_0 5 rfl rfl)
theorem dX2_carers_6 : decode cX2_carers 6 = .ok (.getfield 101, 3) := dk_180 0 101 (dk_at dksX2_carers_0 6 rfl rfl)
theorem dX2_carers_9 : decode cX2_carers 9 = .ok (.if_icmp .ge 27, 3) := dk_162 0 27 (dk_at dksX2_carers_0 9 rfl rfl)
theorem dX2_carers_12 : decode cX2_carers 12 = .ok (.iload_n 2, 1) := dk_28 (dk_at dksX2_carers_0 12 rfl rfl)
theorem dX2_carers_13 : decode cX2_carers 13 = .ok (.aload_n 0, 1) := dk_42 (dk_at dksX2_carers_0 13 rfl rfl)
theorem dX2_carers_14 : decode cX2_carers 14 = .ok (.iload_n 3, 1) := dk_29 (dk_at dksX2_carers_0 14 rfl rfl)
theorem dX2_carers_15 : decode cX2_carers 15 = .ok (.iconst 4, 1) := dk_7 (dk_at dksX2_carers_0 15 rfl rfl)
theorem dX2_carers_16 : decode cX2_carers 16 = .ok (.invokevirtual 191, 3) := dk_182 0 191 (dk_at dksX2_carers_0 16 rfl rfl)
theorem dX2_carers_19 : decode cX2_carers 19 = .ok (.iload_n 1, 1) := dk_27 (dk_at dksX2_carers_0 19 rfl rfl)
theorem dX2_carers_20 : decode cX2_carers 20 = .ok (.if_icmp .ne 7, 3) := dk_160 0 7 (dk_at dksX2_carers_0 20 rfl rfl)
theorem dX2_carers_23 : decode cX2_carers 23 = .ok (.iconst 1, 1) := dk_4 (dk_at dksX2_carers_0 23 rfl rfl)
theorem dX2_carers_24 : decode cX2_carers 24 = .ok (.goto 4, 3) := dk_167 0 4 (dk_at dksX2_carers_1 0 rfl rfl)
theorem dX2_carers_27 : decode cX2_carers 27 = .ok (.iconst 0, 1) := dk_3 (dk_at dksX2_carers_1 3 rfl rfl)
theorem dX2_carers_28 : decode cX2_carers 28 = .ok (.iadd, 1) := dk_96 (dk_at dksX2_carers_1 4 rfl rfl)
theorem dX2_carers_29 : decode cX2_carers 29 = .ok (.istore_n 2, 1) := dk_61 (dk_at dksX2_carers_1 5 rfl rfl)
theorem dX2_carers_30 : decode cX2_carers 30 = .ok (.iinc 3 1, 3) := dk_132 3 1 (dk_at dksX2_carers_1 6 rfl rfl)
theorem dX2_carers_33 : decode cX2_carers 33 = .ok (.goto (-29), 3) := dk_167 255 227 (dk_at dksX2_carers_1 9 rfl rfl)
theorem dX2_carers_36 : decode cX2_carers 36 = .ok (.iload_n 2, 1) := dk_28 (dk_at dksX2_carers_1 12 rfl rfl)
theorem dX2_carers_37 : decode cX2_carers 37 = .ok (.ireturn, 1) := dk_172 (dk_at dksX2_carers_1 13 rfl rfl)
abbrev cX2_comesBy : ByteArray := prog_31_method_30_code
def yX2_comesBy : MethodName := ⟨RX2, "comesBy", "()I"⟩
def dkwX2_comesBy_2 : List UInt8 := [180, 0, 32, 27, 46, 79, 132, 1, 1, 167, 255, 233, 42, 182, 0, 178, 172]
abbrev dktX2_comesBy_2 : List UInt8 := dkwX2_comesBy_2 ++ []
def dkwX2_comesBy_1 : List UInt8 := [42, 180, 0, 181, 181, 0, 140, 3, 60, 27, 42, 180, 0, 140, 162, 0, 21, 42, 180, 0, 35, 27, 42]
abbrev dktX2_comesBy_1 : List UInt8 := dkwX2_comesBy_1 ++ dktX2_comesBy_2
def dkwX2_comesBy_0 : List UInt8 := [42, 180, 0, 184, 154, 0, 19, 42, 180, 0, 38, 3, 46, 42, 180, 0, 38, 4, 46, 5, 108, 100, 172, 42]
abbrev dktX2_comesBy_0 : List UInt8 := dkwX2_comesBy_0 ++ dktX2_comesBy_1
theorem dksX2_comesBy_0 : cX2_comesBy.data.toList.drop 0 = dktX2_comesBy_0 := by decide +kernel
theorem dksX2_comesBy_1 : cX2_comesBy.data.toList.drop 24 = dktX2_comesBy_1 := dk_seg dksX2_comesBy_0 24 rfl rfl
theorem dksX2_comesBy_2 : cX2_comesBy.data.toList.drop 47 = dktX2_comesBy_2 := dk_seg dksX2_comesBy_1 23 rfl rfl
theorem dX2_comesBy_0 : decode cX2_comesBy 0 = .ok (.aload_n 0, 1) := dk_42 (dk_at dksX2_comesBy_0 0 rfl rfl)
theorem dX2_comesBy_1 : decode cX2_comesBy 1 = .ok (.getfield 184, 3) := dk_180 0 184 (dk_at dksX2_comesBy_0 1 rfl rfl)
theorem dX2_comesBy_4 : decode cX2_comesBy 4 = .ok (.ifCond .ne 19, 3) := dk_154 0 19 (dk_at dksX2_comesBy_0 4 rfl rfl)
theorem dX2_comesBy_7 : decode cX2_comesBy 7 = .ok (.aload_n 0, 1) := dk_42 (dk_at dksX2_comesBy_0 7 rfl rfl)
theorem dX2_comesBy_8 : decode cX2_comesBy 8 = .ok (.getfield 38, 3) := dk_180 0 38 (dk_at dksX2_comesBy_0 8 rfl rfl)
theorem dX2_comesBy_11 : decode cX2_comesBy 11 = .ok (.iconst 0, 1) := dk_3 (dk_at dksX2_comesBy_0 11 rfl rfl)
theorem dX2_comesBy_12 : decode cX2_comesBy 12 = .ok (.iaload, 1) := dk_46 (dk_at dksX2_comesBy_0 12 rfl rfl)
theorem dX2_comesBy_13 : decode cX2_comesBy 13 = .ok (.aload_n 0, 1) := dk_42 (dk_at dksX2_comesBy_0 13 rfl rfl)
theorem dX2_comesBy_14 : decode cX2_comesBy 14 = .ok (.getfield 38, 3) := dk_180 0 38 (dk_at dksX2_comesBy_0 14 rfl rfl)
theorem dX2_comesBy_17 : decode cX2_comesBy 17 = .ok (.iconst 1, 1) := dk_4 (dk_at dksX2_comesBy_0 17 rfl rfl)
theorem dX2_comesBy_18 : decode cX2_comesBy 18 = .ok (.iaload, 1) := dk_46 (dk_at dksX2_comesBy_0 18 rfl rfl)
theorem dX2_comesBy_19 : decode cX2_comesBy 19 = .ok (.iconst 2, 1) := dk_5 (dk_at dksX2_comesBy_0 19 rfl rfl)
theorem dX2_comesBy_20 : decode cX2_comesBy 20 = .ok (.idiv, 1) := dk_108 (dk_at dksX2_comesBy_0 20 rfl rfl)
theorem dX2_comesBy_21 : decode cX2_comesBy 21 = .ok (.isub, 1) := dk_100 (dk_at dksX2_comesBy_0 21 rfl rfl)
theorem dX2_comesBy_22 : decode cX2_comesBy 22 = .ok (.ireturn, 1) := dk_172 (dk_at dksX2_comesBy_0 22 rfl rfl)
theorem dX2_comesBy_23 : decode cX2_comesBy 23 = .ok (.aload_n 0, 1) := dk_42 (dk_at dksX2_comesBy_0 23 rfl rfl)
theorem dX2_comesBy_24 : decode cX2_comesBy 24 = .ok (.aload_n 0, 1) := dk_42 (dk_at dksX2_comesBy_1 0 rfl rfl)
theorem dX2_comesBy_25 : decode cX2_comesBy 25 = .ok (.getfield 181, 3) := dk_180 0 181 (dk_at dksX2_comesBy_1 1 rfl rfl)
theorem dX2_comesBy_28 : decode cX2_comesBy 28 = .ok (.putfield 140, 3) := dk_181 0 140 (dk_at dksX2_comesBy_1 4 rfl rfl)
theorem dX2_comesBy_31 : decode cX2_comesBy 31 = .ok (.iconst 0, 1) := dk_3 (dk_at dksX2_comesBy_1 7 rfl rfl)
theorem dX2_comesBy_32 : decode cX2_comesBy 32 = .ok (.istore_n 1, 1) := dk_60 (dk_at dksX2_comesBy_1 8 rfl rfl)
theorem dX2_comesBy_33 : decode cX2_comesBy 33 = .ok (.iload_n 1, 1) := dk_27 (dk_at dksX2_comesBy_1 9 rfl rfl)
theorem dX2_comesBy_34 : decode cX2_comesBy 34 = .ok (.aload_n 0, 1) := dk_42 (dk_at dksX2_comesBy_1 10 rfl rfl)
theorem dX2_comesBy_35 : decode cX2_comesBy 35 = .ok (.getfield 140, 3) := dk_180 0 140 (dk_at dksX2_comesBy_1 11 rfl rfl)
theorem dX2_comesBy_38 : decode cX2_comesBy 38 = .ok (.if_icmp .ge 21, 3) := dk_162 0 21 (dk_at dksX2_comesBy_1 14 rfl rfl)
theorem dX2_comesBy_41 : decode cX2_comesBy 41 = .ok (.aload_n 0, 1) := dk_42 (dk_at dksX2_comesBy_1 17 rfl rfl)
theorem dX2_comesBy_42 : decode cX2_comesBy 42 = .ok (.getfield 35, 3) := dk_180 0 35 (dk_at dksX2_comesBy_1 18 rfl rfl)
theorem dX2_comesBy_45 : decode cX2_comesBy 45 = .ok (.iload_n 1, 1) := dk_27 (dk_at dksX2_comesBy_1 21 rfl rfl)
theorem dX2_comesBy_46 : decode cX2_comesBy 46 = .ok (.aload_n 0, 1) := dk_42 (dk_at dksX2_comesBy_1 22 rfl rfl)
theorem dX2_comesBy_47 : decode cX2_comesBy 47 = .ok (.getfield 32, 3) := dk_180 0 32 (dk_at dksX2_comesBy_2 0 rfl rfl)
theorem dX2_comesBy_50 : decode cX2_comesBy 50 = .ok (.iload_n 1, 1) := dk_27 (dk_at dksX2_comesBy_2 3 rfl rfl)
theorem dX2_comesBy_51 : decode cX2_comesBy 51 = .ok (.iaload, 1) := dk_46 (dk_at dksX2_comesBy_2 4 rfl rfl)
theorem dX2_comesBy_52 : decode cX2_comesBy 52 = .ok (.iastore, 1) := dk_79 (dk_at dksX2_comesBy_2 5 rfl rfl)
theorem dX2_comesBy_53 : decode cX2_comesBy 53 = .ok (.iinc 1 1, 3) := dk_132 1 1 (dk_at dksX2_comesBy_2 6 rfl rfl)
theorem dX2_comesBy_56 : decode cX2_comesBy 56 = .ok (.goto (-23), 3) := dk_167 255 233 (dk_at dksX2_comesBy_2 9 rfl rfl)
theorem dX2_comesBy_59 : decode cX2_comesBy 59 = .ok (.aload_n 0, 1) := dk_42 (dk_at dksX2_comesBy_2 12 rfl rfl)
theorem dX2_comesBy_60 : decode cX2_comesBy 60 = .ok (.invokevirtual 178, 3) := dk_182 0 178 (dk_at dksX2_comesBy_2 13 rfl rfl)
theorem dX2_comesBy_63 : decode cX2_comesBy 63 = .ok (.ireturn, 1) := dk_172 (dk_at dksX2_comesBy_2 16 rfl rfl)
abbrev cX2_bound : ByteArray := prog_31_method_3_code
def yX2_bound : MethodName := ⟨RX2, "bound", "(III)I"⟩
def dkwX2_bound_0 : List UInt8 := [27, 28, 26, 184, 0, 92, 184, 0, 98, 172]
abbrev dktX2_bound_0 : List UInt8 := dkwX2_bound_0 ++ []
theorem dksX2_bound_0 : cX2_bound.data.toList.drop 0 = dktX2_bound_0 := by decide +kernel
theorem dX2_bound_0 : decode cX2_bound 0 = .ok (.iload_n 1, 1) := dk_27 (dk_at dksX2_bound_0 0 rfl rfl)
theorem dX2_bound_1 : decode cX2_bound 1 = .ok (.iload_n 2, 1) := dk_28 (dk_at dksX2_bound_0 1 rfl rfl)
theorem dX2_bound_2 : decode cX2_bound 2 = .ok (.iload_n 0, 1) := dk_26 (dk_at dksX2_bound_0 2 rfl rfl)
theorem dX2_bound_3 : decode cX2_bound 3 = .ok (.invokestatic 92, 3) := dk_184 0 92 (dk_at dksX2_bound_0 3 rfl rfl)
theorem dX2_bound_6 : decode cX2_bound 6 = .ok (.invokestatic 98, 3) := dk_184 0 98 (dk_at dksX2_bound_0 6 rfl rfl)
theorem dX2_bound_9 : decode cX2_bound 9 = .ok (.ireturn, 1) := dk_172 (dk_at dksX2_bound_0 9 rfl rfl)
abbrev cX2_later : ByteArray := prog_31_method_39_code
def yX2_later : MethodName := ⟨RX2, "later", "(II)I"⟩
def dkwX2_later_2 : List UInt8 := [28, 6, 182, 0, 191, 62, 42, 3, 182, 0, 224, 29, 172]
abbrev dktX2_later_2 : List UInt8 := dkwX2_later_2 ++ []
def dkwX2_later_1 : List UInt8 := [172, 42, 3, 182, 0, 214, 42, 27, 182, 0, 218, 28, 2, 160, 0, 10, 42, 182, 0, 221, 167, 0, 9, 42]
abbrev dktX2_later_1 : List UInt8 := dkwX2_later_1 ++ dktX2_later_2
def dkwX2_later_0 : List UInt8 := [27, 3, 16, 40, 184, 0, 104, 153, 0, 16, 28, 2, 159, 0, 13, 42, 28, 182, 0, 116, 154, 0, 5, 2]
abbrev dktX2_later_0 : List UInt8 := dkwX2_later_0 ++ dktX2_later_1
theorem dksX2_later_0 : cX2_later.data.toList.drop 0 = dktX2_later_0 := by decide +kernel
theorem dksX2_later_1 : cX2_later.data.toList.drop 24 = dktX2_later_1 := dk_seg dksX2_later_0 24 rfl rfl
theorem dksX2_later_2 : cX2_later.data.toList.drop 48 = dktX2_later_2 := dk_seg dksX2_later_1 24 rfl rfl
theorem dX2_later_0 : decode cX2_later 0 = .ok (.iload_n 1, 1) := dk_27 (dk_at dksX2_later_0 0 rfl rfl)
theorem dX2_later_1 : decode cX2_later 1 = .ok (.iconst 0, 1) := dk_3 (dk_at dksX2_later_0 1 rfl rfl)
theorem dX2_later_2 : decode cX2_later 2 = .ok (.bipush 40, 2) := dk_16 40 (dk_at dksX2_later_0 2 rfl rfl)
theorem dX2_later_4 : decode cX2_later 4 = .ok (.invokestatic 104, 3) := dk_184 0 104 (dk_at dksX2_later_0 4 rfl rfl)
theorem dX2_later_7 : decode cX2_later 7 = .ok (.ifCond .eq 16, 3) := dk_153 0 16 (dk_at dksX2_later_0 7 rfl rfl)
theorem dX2_later_10 : decode cX2_later 10 = .ok (.iload_n 2, 1) := dk_28 (dk_at dksX2_later_0 10 rfl rfl)
theorem dX2_later_11 : decode cX2_later 11 = .ok (.iconst (-1), 1) := dk_2 (dk_at dksX2_later_0 11 rfl rfl)
theorem dX2_later_12 : decode cX2_later 12 = .ok (.if_icmp .eq 13, 3) := dk_159 0 13 (dk_at dksX2_later_0 12 rfl rfl)
theorem dX2_later_15 : decode cX2_later 15 = .ok (.aload_n 0, 1) := dk_42 (dk_at dksX2_later_0 15 rfl rfl)
theorem dX2_later_16 : decode cX2_later 16 = .ok (.iload_n 2, 1) := dk_28 (dk_at dksX2_later_0 16 rfl rfl)
theorem dX2_later_17 : decode cX2_later 17 = .ok (.invokevirtual 116, 3) := dk_182 0 116 (dk_at dksX2_later_0 17 rfl rfl)
theorem dX2_later_20 : decode cX2_later 20 = .ok (.ifCond .ne 5, 3) := dk_154 0 5 (dk_at dksX2_later_0 20 rfl rfl)
theorem dX2_later_23 : decode cX2_later 23 = .ok (.iconst (-1), 1) := dk_2 (dk_at dksX2_later_0 23 rfl rfl)
theorem dX2_later_24 : decode cX2_later 24 = .ok (.ireturn, 1) := dk_172 (dk_at dksX2_later_1 0 rfl rfl)
theorem dX2_later_25 : decode cX2_later 25 = .ok (.aload_n 0, 1) := dk_42 (dk_at dksX2_later_1 1 rfl rfl)
theorem dX2_later_26 : decode cX2_later 26 = .ok (.iconst 0, 1) := dk_3 (dk_at dksX2_later_1 2 rfl rfl)
theorem dX2_later_27 : decode cX2_later 27 = .ok (.invokevirtual 214, 3) := dk_182 0 214 (dk_at dksX2_later_1 3 rfl rfl)
theorem dX2_later_30 : decode cX2_later 30 = .ok (.aload_n 0, 1) := dk_42 (dk_at dksX2_later_1 6 rfl rfl)
theorem dX2_later_31 : decode cX2_later 31 = .ok (.iload_n 1, 1) := dk_27 (dk_at dksX2_later_1 7 rfl rfl)
theorem dX2_later_32 : decode cX2_later 32 = .ok (.invokevirtual 218, 3) := dk_182 0 218 (dk_at dksX2_later_1 8 rfl rfl)
theorem dX2_later_35 : decode cX2_later 35 = .ok (.iload_n 2, 1) := dk_28 (dk_at dksX2_later_1 11 rfl rfl)
theorem dX2_later_36 : decode cX2_later 36 = .ok (.iconst (-1), 1) := dk_2 (dk_at dksX2_later_1 12 rfl rfl)
theorem dX2_later_37 : decode cX2_later 37 = .ok (.if_icmp .ne 10, 3) := dk_160 0 10 (dk_at dksX2_later_1 13 rfl rfl)
theorem dX2_later_40 : decode cX2_later 40 = .ok (.aload_n 0, 1) := dk_42 (dk_at dksX2_later_1 16 rfl rfl)
theorem dX2_later_41 : decode cX2_later 41 = .ok (.invokevirtual 221, 3) := dk_182 0 221 (dk_at dksX2_later_1 17 rfl rfl)
theorem dX2_later_44 : decode cX2_later 44 = .ok (.goto 9, 3) := dk_167 0 9 (dk_at dksX2_later_1 20 rfl rfl)
theorem dX2_later_47 : decode cX2_later 47 = .ok (.aload_n 0, 1) := dk_42 (dk_at dksX2_later_1 23 rfl rfl)
theorem dX2_later_48 : decode cX2_later 48 = .ok (.iload_n 2, 1) := dk_28 (dk_at dksX2_later_2 0 rfl rfl)
theorem dX2_later_49 : decode cX2_later 49 = .ok (.iconst 3, 1) := dk_6 (dk_at dksX2_later_2 1 rfl rfl)
theorem dX2_later_50 : decode cX2_later 50 = .ok (.invokevirtual 191, 3) := dk_182 0 191 (dk_at dksX2_later_2 2 rfl rfl)
theorem dX2_later_53 : decode cX2_later 53 = .ok (.istore_n 3, 1) := dk_62 (dk_at dksX2_later_2 5 rfl rfl)
theorem dX2_later_54 : decode cX2_later 54 = .ok (.aload_n 0, 1) := dk_42 (dk_at dksX2_later_2 6 rfl rfl)
theorem dX2_later_55 : decode cX2_later 55 = .ok (.iconst 0, 1) := dk_3 (dk_at dksX2_later_2 7 rfl rfl)
theorem dX2_later_56 : decode cX2_later 56 = .ok (.invokevirtual 224, 3) := dk_182 0 224 (dk_at dksX2_later_2 8 rfl rfl)
theorem dX2_later_59 : decode cX2_later 59 = .ok (.iload_n 3, 1) := dk_29 (dk_at dksX2_later_2 11 rfl rfl)
theorem dX2_later_60 : decode cX2_later 60 = .ok (.ireturn, 1) := dk_172 (dk_at dksX2_later_2 12 rfl rfl)
abbrev cX2_keepAll : ByteArray := prog_31_method_5_code
def yX2_keepAll : MethodName := ⟨RX2, "keepAll", "(I)V"⟩
def dkwX2_keepAll_1 : List UInt8 := [79, 132, 2, 1, 167, 255, 230, 177]
abbrev dktX2_keepAll_1 : List UInt8 := dkwX2_keepAll_1 ++ []
def dkwX2_keepAll_0 : List UInt8 := [3, 61, 28, 16, 42, 162, 0, 26, 42, 180, 0, 17, 16, 42, 27, 104, 28, 96, 42, 180, 0, 13, 28, 46]
abbrev dktX2_keepAll_0 : List UInt8 := dkwX2_keepAll_0 ++ dktX2_keepAll_1
theorem dksX2_keepAll_0 : cX2_keepAll.data.toList.drop 0 = dktX2_keepAll_0 := by decide +kernel
theorem dksX2_keepAll_1 : cX2_keepAll.data.toList.drop 24 = dktX2_keepAll_1 := dk_seg dksX2_keepAll_0 24 rfl rfl
theorem dX2_keepAll_0 : decode cX2_keepAll 0 = .ok (.iconst 0, 1) := dk_3 (dk_at dksX2_keepAll_0 0 rfl rfl)
theorem dX2_keepAll_1 : decode cX2_keepAll 1 = .ok (.istore_n 2, 1) := dk_61 (dk_at dksX2_keepAll_0 1 rfl rfl)
theorem dX2_keepAll_2 : decode cX2_keepAll 2 = .ok (.iload_n 2, 1) := dk_28 (dk_at dksX2_keepAll_0 2 rfl rfl)
theorem dX2_keepAll_3 : decode cX2_keepAll 3 = .ok (.bipush 42, 2) := dk_16 42 (dk_at dksX2_keepAll_0 3 rfl rfl)
theorem dX2_keepAll_5 : decode cX2_keepAll 5 = .ok (.if_icmp .ge 26, 3) := dk_162 0 26 (dk_at dksX2_keepAll_0 5 rfl rfl)
theorem dX2_keepAll_8 : decode cX2_keepAll 8 = .ok (.aload_n 0, 1) := dk_42 (dk_at dksX2_keepAll_0 8 rfl rfl)
theorem dX2_keepAll_9 : decode cX2_keepAll 9 = .ok (.getfield 17, 3) := dk_180 0 17 (dk_at dksX2_keepAll_0 9 rfl rfl)
theorem dX2_keepAll_12 : decode cX2_keepAll 12 = .ok (.bipush 42, 2) := dk_16 42 (dk_at dksX2_keepAll_0 12 rfl rfl)
theorem dX2_keepAll_14 : decode cX2_keepAll 14 = .ok (.iload_n 1, 1) := dk_27 (dk_at dksX2_keepAll_0 14 rfl rfl)
theorem dX2_keepAll_15 : decode cX2_keepAll 15 = .ok (.imul, 1) := dk_104 (dk_at dksX2_keepAll_0 15 rfl rfl)
theorem dX2_keepAll_16 : decode cX2_keepAll 16 = .ok (.iload_n 2, 1) := dk_28 (dk_at dksX2_keepAll_0 16 rfl rfl)
theorem dX2_keepAll_17 : decode cX2_keepAll 17 = .ok (.iadd, 1) := dk_96 (dk_at dksX2_keepAll_0 17 rfl rfl)
theorem dX2_keepAll_18 : decode cX2_keepAll 18 = .ok (.aload_n 0, 1) := dk_42 (dk_at dksX2_keepAll_0 18 rfl rfl)
theorem dX2_keepAll_19 : decode cX2_keepAll 19 = .ok (.getfield 13, 3) := dk_180 0 13 (dk_at dksX2_keepAll_0 19 rfl rfl)
theorem dX2_keepAll_22 : decode cX2_keepAll 22 = .ok (.iload_n 2, 1) := dk_28 (dk_at dksX2_keepAll_0 22 rfl rfl)
theorem dX2_keepAll_23 : decode cX2_keepAll 23 = .ok (.iaload, 1) := dk_46 (dk_at dksX2_keepAll_0 23 rfl rfl)
theorem dX2_keepAll_24 : decode cX2_keepAll 24 = .ok (.iastore, 1) := dk_79 (dk_at dksX2_keepAll_1 0 rfl rfl)
theorem dX2_keepAll_25 : decode cX2_keepAll 25 = .ok (.iinc 2 1, 3) := dk_132 2 1 (dk_at dksX2_keepAll_1 1 rfl rfl)
theorem dX2_keepAll_28 : decode cX2_keepAll 28 = .ok (.goto (-26), 3) := dk_167 255 230 (dk_at dksX2_keepAll_1 4 rfl rfl)
theorem dX2_keepAll_31 : decode cX2_keepAll 31 = .ok (.return_, 1) := dk_177 (dk_at dksX2_keepAll_1 7 rfl rfl)
abbrev cX2_goDays : ByteArray := prog_31_method_36_code
def yX2_goDays : MethodName := ⟨RX2, "goDays", "(I)V"⟩
def dkwX2_goDays_0 : List UInt8 := [3, 61, 28, 27, 162, 0, 13, 42, 182, 0, 211, 132, 2, 1, 167, 255, 244, 177]
abbrev dktX2_goDays_0 : List UInt8 := dkwX2_goDays_0 ++ []
theorem dksX2_goDays_0 : cX2_goDays.data.toList.drop 0 = dktX2_goDays_0 := by decide +kernel
theorem dX2_goDays_0 : decode cX2_goDays 0 = .ok (.iconst 0, 1) := dk_3 (dk_at dksX2_goDays_0 0 rfl rfl)
theorem dX2_goDays_1 : decode cX2_goDays 1 = .ok (.istore_n 2, 1) := dk_61 (dk_at dksX2_goDays_0 1 rfl rfl)
theorem dX2_goDays_2 : decode cX2_goDays 2 = .ok (.iload_n 2, 1) := dk_28 (dk_at dksX2_goDays_0 2 rfl rfl)
theorem dX2_goDays_3 : decode cX2_goDays 3 = .ok (.iload_n 1, 1) := dk_27 (dk_at dksX2_goDays_0 3 rfl rfl)
theorem dX2_goDays_4 : decode cX2_goDays 4 = .ok (.if_icmp .ge 13, 3) := dk_162 0 13 (dk_at dksX2_goDays_0 4 rfl rfl)
theorem dX2_goDays_7 : decode cX2_goDays 7 = .ok (.aload_n 0, 1) := dk_42 (dk_at dksX2_goDays_0 7 rfl rfl)
theorem dX2_goDays_8 : decode cX2_goDays 8 = .ok (.invokevirtual 211, 3) := dk_182 0 211 (dk_at dksX2_goDays_0 8 rfl rfl)
theorem dX2_goDays_11 : decode cX2_goDays 11 = .ok (.iinc 2 1, 3) := dk_132 2 1 (dk_at dksX2_goDays_0 11 rfl rfl)
theorem dX2_goDays_14 : decode cX2_goDays 14 = .ok (.goto (-12), 3) := dk_167 255 244 (dk_at dksX2_goDays_0 14 rfl rfl)
theorem dX2_goDays_17 : decode cX2_goDays 17 = .ok (.return_, 1) := dk_177 (dk_at dksX2_goDays_0 17 rfl rfl)
abbrev cX2_goDay : ByteArray := prog_31_method_35_code
def yX2_goDay : MethodName := ⟨RX2, "goDay", "()V"⟩
def dkwX2_goDay_7 : List UInt8 := [16, 41, 46, 4, 96, 184, 0, 92, 79, 177]
abbrev dktX2_goDay_7 : List UInt8 := dkwX2_goDay_7 ++ []
def dkwX2_goDay_6 : List UInt8 := [184, 0, 202, 182, 0, 108, 132, 1, 1, 167, 255, 220, 42, 180, 0, 13, 16, 41, 16, 99, 42, 180, 0, 13]
abbrev dktX2_goDay_6 : List UInt8 := dkwX2_goDay_6 ++ dktX2_goDay_7
def dkwX2_goDay_5 : List UInt8 := [162, 0, 34, 42, 27, 6, 42, 27, 6, 182, 0, 191, 42, 180, 0, 49, 27, 46, 96, 3, 16, 99]
abbrev dktX2_goDay_5 : List UInt8 := dkwX2_goDay_5 ++ dktX2_goDay_6
def dkwX2_goDay_4 : List UInt8 := [42, 89, 180, 0, 208, 28, 96, 181, 0, 208, 132, 1, 1, 167, 255, 204, 3, 60, 27, 42, 180, 0, 101]
abbrev dktX2_goDay_4 : List UInt8 := dkwX2_goDay_4 ++ dktX2_goDay_5
def dkwX2_goDay_3 : List UInt8 := [27, 7, 182, 0, 191, 2, 159, 0, 28, 42, 180, 0, 49, 42, 27, 7, 182, 0, 191, 92, 46, 28, 96, 79]
abbrev dktX2_goDay_3 : List UInt8 := dkwX2_goDay_3 ++ dktX2_goDay_4
def dkwX2_goDay_2 : List UInt8 := [79, 132, 1, 1, 167, 255, 212, 3, 60, 27, 42, 180, 0, 101, 162, 0, 50, 42, 27, 182, 0, 205, 61, 42]
abbrev dktX2_goDay_2 : List UInt8 := dkwX2_goDay_2 ++ dktX2_goDay_3
def dkwX2_goDay_1 : List UInt8 := [182, 0, 191, 116, 42, 27, 182, 0, 196, 154, 0, 13, 42, 180, 0, 13, 16, 40, 46, 167, 0, 4, 3, 100]
abbrev dktX2_goDay_1 : List UInt8 := dkwX2_goDay_1 ++ dktX2_goDay_2
def dkwX2_goDay_0 : List UInt8 := [42, 3, 181, 0, 208, 3, 60, 27, 42, 180, 0, 101, 162, 0, 42, 42, 180, 0, 49, 27, 42, 27, 5]
abbrev dktX2_goDay_0 : List UInt8 := dkwX2_goDay_0 ++ dktX2_goDay_1
theorem dksX2_goDay_0 : cX2_goDay.data.toList.drop 0 = dktX2_goDay_0 := by decide +kernel
theorem dksX2_goDay_1 : cX2_goDay.data.toList.drop 23 = dktX2_goDay_1 := dk_seg dksX2_goDay_0 23 rfl rfl
theorem dksX2_goDay_2 : cX2_goDay.data.toList.drop 47 = dktX2_goDay_2 := dk_seg dksX2_goDay_1 24 rfl rfl
theorem dksX2_goDay_3 : cX2_goDay.data.toList.drop 71 = dktX2_goDay_3 := dk_seg dksX2_goDay_2 24 rfl rfl
theorem dksX2_goDay_4 : cX2_goDay.data.toList.drop 95 = dktX2_goDay_4 := dk_seg dksX2_goDay_3 24 rfl rfl
theorem dksX2_goDay_5 : cX2_goDay.data.toList.drop 118 = dktX2_goDay_5 := dk_seg dksX2_goDay_4 23 rfl rfl
theorem dksX2_goDay_6 : cX2_goDay.data.toList.drop 140 = dktX2_goDay_6 := dk_seg dksX2_goDay_5 22 rfl rfl
theorem dksX2_goDay_7 : cX2_goDay.data.toList.drop 164 = dktX2_goDay_7 := dk_seg dksX2_goDay_6 24 rfl rfl
theorem dX2_goDay_0 : decode cX2_goDay 0 = .ok (.aload_n 0, 1) := dk_42 (dk_at dksX2_goDay_0 0 rfl rfl)
theorem dX2_goDay_1 : decode cX2_goDay 1 = .ok (.iconst 0, 1) := dk_3 (dk_at dksX2_goDay_0 1 rfl rfl)
theorem dX2_goDay_2 : decode cX2_goDay 2 = .ok (.putfield 208, 3) := dk_181 0 208 (dk_at dksX2_goDay_0 2 rfl rfl)
theorem dX2_goDay_5 : decode cX2_goDay 5 = .ok (.iconst 0, 1) := dk_3 (dk_at dksX2_goDay_0 5 rfl rfl)
theorem dX2_goDay_6 : decode cX2_goDay 6 = .ok (.istore_n 1, 1) := dk_60 (dk_at dksX2_goDay_0 6 rfl rfl)
theorem dX2_goDay_7 : decode cX2_goDay 7 = .ok (.iload_n 1, 1) := dk_27 (dk_at dksX2_goDay_0 7 rfl rfl)
theorem dX2_goDay_8 : decode cX2_goDay 8 = .ok (.aload_n 0, 1) := dk_42 (dk_at dksX2_goDay_0 8 rfl rfl)
theorem dX2_goDay_9 : decode cX2_goDay 9 = .ok (.getfield 101, 3) := dk_180 0 101 (dk_at dksX2_goDay_0 9 rfl rfl)
theorem dX2_goDay_12 : decode cX2_goDay 12 = .ok (.if_icmp .ge 42, 3) := dk_162 0 42 (dk_at dksX2_goDay_0 12 rfl rfl)
theorem dX2_goDay_15 : decode cX2_goDay 15 = .ok (.aload_n 0, 1) := dk_42 (dk_at dksX2_goDay_0 15 rfl rfl)
theorem dX2_goDay_16 : decode cX2_goDay 16 = .ok (.getfield 49, 3) := dk_180 0 49 (dk_at dksX2_goDay_0 16 rfl rfl)
theorem dX2_goDay_19 : decode cX2_goDay 19 = .ok (.iload_n 1, 1) := dk_27 (dk_at dksX2_goDay_0 19 rfl rfl)
theorem dX2_goDay_20 : decode cX2_goDay 20 = .ok (.aload_n 0, 1) := dk_42 (dk_at dksX2_goDay_0 20 rfl rfl)
theorem dX2_goDay_21 : decode cX2_goDay 21 = .ok (.iload_n 1, 1) := dk_27 (dk_at dksX2_goDay_0 21 rfl rfl)
theorem dX2_goDay_22 : decode cX2_goDay 22 = .ok (.iconst 2, 1) := dk_5 (dk_at dksX2_goDay_0 22 rfl rfl)
theorem dX2_goDay_23 : decode cX2_goDay 23 = .ok (.invokevirtual 191, 3) := dk_182 0 191 (dk_at dksX2_goDay_1 0 rfl rfl)
theorem dX2_goDay_26 : decode cX2_goDay 26 = .ok (.ineg, 1) := dk_116 (dk_at dksX2_goDay_1 3 rfl rfl)
theorem dX2_goDay_27 : decode cX2_goDay 27 = .ok (.aload_n 0, 1) := dk_42 (dk_at dksX2_goDay_1 4 rfl rfl)
theorem dX2_goDay_28 : decode cX2_goDay 28 = .ok (.iload_n 1, 1) := dk_27 (dk_at dksX2_goDay_1 5 rfl rfl)
theorem dX2_goDay_29 : decode cX2_goDay 29 = .ok (.invokevirtual 196, 3) := dk_182 0 196 (dk_at dksX2_goDay_1 6 rfl rfl)
theorem dX2_goDay_32 : decode cX2_goDay 32 = .ok (.ifCond .ne 13, 3) := dk_154 0 13 (dk_at dksX2_goDay_1 9 rfl rfl)
theorem dX2_goDay_35 : decode cX2_goDay 35 = .ok (.aload_n 0, 1) := dk_42 (dk_at dksX2_goDay_1 12 rfl rfl)
theorem dX2_goDay_36 : decode cX2_goDay 36 = .ok (.getfield 13, 3) := dk_180 0 13 (dk_at dksX2_goDay_1 13 rfl rfl)
theorem dX2_goDay_39 : decode cX2_goDay 39 = .ok (.bipush 40, 2) := dk_16 40 (dk_at dksX2_goDay_1 16 rfl rfl)
theorem dX2_goDay_41 : decode cX2_goDay 41 = .ok (.iaload, 1) := dk_46 (dk_at dksX2_goDay_1 18 rfl rfl)
theorem dX2_goDay_42 : decode cX2_goDay 42 = .ok (.goto 4, 3) := dk_167 0 4 (dk_at dksX2_goDay_1 19 rfl rfl)
theorem dX2_goDay_45 : decode cX2_goDay 45 = .ok (.iconst 0, 1) := dk_3 (dk_at dksX2_goDay_1 22 rfl rfl)
theorem dX2_goDay_46 : decode cX2_goDay 46 = .ok (.isub, 1) := dk_100 (dk_at dksX2_goDay_1 23 rfl rfl)
theorem dX2_goDay_47 : decode cX2_goDay 47 = .ok (.iastore, 1) := dk_79 (dk_at dksX2_goDay_2 0 rfl rfl)
theorem dX2_goDay_48 : decode cX2_goDay 48 = .ok (.iinc 1 1, 3) := dk_132 1 1 (dk_at dksX2_goDay_2 1 rfl rfl)
theorem dX2_goDay_51 : decode cX2_goDay 51 = .ok (.goto (-44), 3) := dk_167 255 212 (dk_at dksX2_goDay_2 4 rfl rfl)
theorem dX2_goDay_54 : decode cX2_goDay 54 = .ok (.iconst 0, 1) := dk_3 (dk_at dksX2_goDay_2 7 rfl rfl)
theorem dX2_goDay_55 : decode cX2_goDay 55 = .ok (.istore_n 1, 1) := dk_60 (dk_at dksX2_goDay_2 8 rfl rfl)
theorem dX2_goDay_56 : decode cX2_goDay 56 = .ok (.iload_n 1, 1) := dk_27 (dk_at dksX2_goDay_2 9 rfl rfl)
theorem dX2_goDay_57 : decode cX2_goDay 57 = .ok (.aload_n 0, 1) := dk_42 (dk_at dksX2_goDay_2 10 rfl rfl)
theorem dX2_goDay_58 : decode cX2_goDay 58 = .ok (.getfield 101, 3) := dk_180 0 101 (dk_at dksX2_goDay_2 11 rfl rfl)
theorem dX2_goDay_61 : decode cX2_goDay 61 = .ok (.if_icmp .ge 50, 3) := dk_162 0 50 (dk_at dksX2_goDay_2 14 rfl rfl)
theorem dX2_goDay_64 : decode cX2_goDay 64 = .ok (.aload_n 0, 1) := dk_42 (dk_at dksX2_goDay_2 17 rfl rfl)
theorem dX2_goDay_65 : decode cX2_goDay 65 = .ok (.iload_n 1, 1) := dk_27 (dk_at dksX2_goDay_2 18 rfl rfl)
theorem dX2_goDay_66 : decode cX2_goDay 66 = .ok (.invokevirtual 205, 3) := dk_182 0 205 (dk_at dksX2_goDay_2 19 rfl rfl)
theorem dX2_goDay_69 : decode cX2_goDay 69 = .ok (.istore_n 2, 1) := dk_61 (dk_at dksX2_goDay_2 22 rfl rfl)
theorem dX2_goDay_70 : decode cX2_goDay 70 = .ok (.aload_n 0, 1) := dk_42 (dk_at dksX2_goDay_2 23 rfl rfl)
theorem dX2_goDay_71 : decode cX2_goDay 71 = .ok (.iload_n 1, 1) := dk_27 (dk_at dksX2_goDay_3 0 rfl rfl)
theorem dX2_goDay_72 : decode cX2_goDay 72 = .ok (.iconst 4, 1) := dk_7 (dk_at dksX2_goDay_3 1 rfl rfl)
theorem dX2_goDay_73 : decode cX2_goDay 73 = .ok (.invokevirtual 191, 3) := dk_182 0 191 (dk_at dksX2_goDay_3 2 rfl rfl)
theorem dX2_goDay_76 : decode cX2_goDay 76 = .ok (.iconst (-1), 1) := dk_2 (dk_at dksX2_goDay_3 5 rfl rfl)
theorem dX2_goDay_77 : decode cX2_goDay 77 = .ok (.if_icmp .eq 28, 3) := dk_159 0 28 (dk_at dksX2_goDay_3 6 rfl rfl)
theorem dX2_goDay_80 : decode cX2_goDay 80 = .ok (.aload_n 0, 1) := dk_42 (dk_at dksX2_goDay_3 9 rfl rfl)
theorem dX2_goDay_81 : decode cX2_goDay 81 = .ok (.getfield 49, 3) := dk_180 0 49 (dk_at dksX2_goDay_3 10 rfl rfl)
theorem dX2_goDay_84 : decode cX2_goDay 84 = .ok (.aload_n 0, 1) := dk_42 (dk_at dksX2_goDay_3 13 rfl rfl)
theorem dX2_goDay_85 : decode cX2_goDay 85 = .ok (.iload_n 1, 1) := dk_27 (dk_at dksX2_goDay_3 14 rfl rfl)
theorem dX2_goDay_86 : decode cX2_goDay 86 = .ok (.iconst 4, 1) := dk_7 (dk_at dksX2_goDay_3 15 rfl rfl)
theorem dX2_goDay_87 : decode cX2_goDay 87 = .ok (.invokevirtual 191, 3) := dk_182 0 191 (dk_at dksX2_goDay_3 16 rfl rfl)
theorem dX2_goDay_90 : decode cX2_goDay 90 = .ok (.dup2, 1) := dk_92 (dk_at dksX2_goDay_3 19 rfl rfl)
theorem dX2_goDay_91 : decode cX2_goDay 91 = .ok (.iaload, 1) := dk_46 (dk_at dksX2_goDay_3 20 rfl rfl)
theorem dX2_goDay_92 : decode cX2_goDay 92 = .ok (.iload_n 2, 1) := dk_28 (dk_at dksX2_goDay_3 21 rfl rfl)
theorem dX2_goDay_93 : decode cX2_goDay 93 = .ok (.iadd, 1) := dk_96 (dk_at dksX2_goDay_3 22 rfl rfl)
theorem dX2_goDay_94 : decode cX2_goDay 94 = .ok (.iastore, 1) := dk_79 (dk_at dksX2_goDay_3 23 rfl rfl)
theorem dX2_goDay_95 : decode cX2_goDay 95 = .ok (.aload_n 0, 1) := dk_42 (dk_at dksX2_goDay_4 0 rfl rfl)
theorem dX2_goDay_96 : decode cX2_goDay 96 = .ok (.dup, 1) := dk_89 (dk_at dksX2_goDay_4 1 rfl rfl)
theorem dX2_goDay_97 : decode cX2_goDay 97 = .ok (.getfield 208, 3) := dk_180 0 208 (dk_at dksX2_goDay_4 2 rfl rfl)
theorem dX2_goDay_100 : decode cX2_goDay 100 = .ok (.iload_n 2, 1) := dk_28 (dk_at dksX2_goDay_4 5 rfl rfl)
theorem dX2_goDay_101 : decode cX2_goDay 101 = .ok (.iadd, 1) := dk_96 (dk_at dksX2_goDay_4 6 rfl rfl)
theorem dX2_goDay_102 : decode cX2_goDay 102 = .ok (.putfield 208, 3) := dk_181 0 208 (dk_at dksX2_goDay_4 7 rfl rfl)
theorem dX2_goDay_105 : decode cX2_goDay 105 = .ok (.iinc 1 1, 3) := dk_132 1 1 (dk_at dksX2_goDay_4 10 rfl rfl)
theorem dX2_goDay_108 : decode cX2_goDay 108 = .ok (.goto (-52), 3) := dk_167 255 204 (dk_at dksX2_goDay_4 13 rfl rfl)
theorem dX2_goDay_111 : decode cX2_goDay 111 = .ok (.iconst 0, 1) := dk_3 (dk_at dksX2_goDay_4 16 rfl rfl)
theorem dX2_goDay_112 : decode cX2_goDay 112 = .ok (.istore_n 1, 1) := dk_60 (dk_at dksX2_goDay_4 17 rfl rfl)
theorem dX2_goDay_113 : decode cX2_goDay 113 = .ok (.iload_n 1, 1) := dk_27 (dk_at dksX2_goDay_4 18 rfl rfl)
theorem dX2_goDay_114 : decode cX2_goDay 114 = .ok (.aload_n 0, 1) := dk_42 (dk_at dksX2_goDay_4 19 rfl rfl)
theorem dX2_goDay_115 : decode cX2_goDay 115 = .ok (.getfield 101, 3) := dk_180 0 101 (dk_at dksX2_goDay_4 20 rfl rfl)
theorem dX2_goDay_118 : decode cX2_goDay 118 = .ok (.if_icmp .ge 34, 3) := dk_162 0 34 (dk_at dksX2_goDay_5 0 rfl rfl)
theorem dX2_goDay_121 : decode cX2_goDay 121 = .ok (.aload_n 0, 1) := dk_42 (dk_at dksX2_goDay_5 3 rfl rfl)
theorem dX2_goDay_122 : decode cX2_goDay 122 = .ok (.iload_n 1, 1) := dk_27 (dk_at dksX2_goDay_5 4 rfl rfl)
theorem dX2_goDay_123 : decode cX2_goDay 123 = .ok (.iconst 3, 1) := dk_6 (dk_at dksX2_goDay_5 5 rfl rfl)
theorem dX2_goDay_124 : decode cX2_goDay 124 = .ok (.aload_n 0, 1) := dk_42 (dk_at dksX2_goDay_5 6 rfl rfl)
theorem dX2_goDay_125 : decode cX2_goDay 125 = .ok (.iload_n 1, 1) := dk_27 (dk_at dksX2_goDay_5 7 rfl rfl)
theorem dX2_goDay_126 : decode cX2_goDay 126 = .ok (.iconst 3, 1) := dk_6 (dk_at dksX2_goDay_5 8 rfl rfl)
theorem dX2_goDay_127 : decode cX2_goDay 127 = .ok (.invokevirtual 191, 3) := dk_182 0 191 (dk_at dksX2_goDay_5 9 rfl rfl)
theorem dX2_goDay_130 : decode cX2_goDay 130 = .ok (.aload_n 0, 1) := dk_42 (dk_at dksX2_goDay_5 12 rfl rfl)
theorem dX2_goDay_131 : decode cX2_goDay 131 = .ok (.getfield 49, 3) := dk_180 0 49 (dk_at dksX2_goDay_5 13 rfl rfl)
theorem dX2_goDay_134 : decode cX2_goDay 134 = .ok (.iload_n 1, 1) := dk_27 (dk_at dksX2_goDay_5 16 rfl rfl)
theorem dX2_goDay_135 : decode cX2_goDay 135 = .ok (.iaload, 1) := dk_46 (dk_at dksX2_goDay_5 17 rfl rfl)
theorem dX2_goDay_136 : decode cX2_goDay 136 = .ok (.iadd, 1) := dk_96 (dk_at dksX2_goDay_5 18 rfl rfl)
theorem dX2_goDay_137 : decode cX2_goDay 137 = .ok (.iconst 0, 1) := dk_3 (dk_at dksX2_goDay_5 19 rfl rfl)
theorem dX2_goDay_138 : decode cX2_goDay 138 = .ok (.bipush 99, 2) := dk_16 99 (dk_at dksX2_goDay_5 20 rfl rfl)
theorem dX2_goDay_140 : decode cX2_goDay 140 = .ok (.invokestatic 202, 3) := dk_184 0 202 (dk_at dksX2_goDay_6 0 rfl rfl)
theorem dX2_goDay_143 : decode cX2_goDay 143 = .ok (.invokevirtual 108, 3) := dk_182 0 108 (dk_at dksX2_goDay_6 3 rfl rfl)
theorem dX2_goDay_146 : decode cX2_goDay 146 = .ok (.iinc 1 1, 3) := dk_132 1 1 (dk_at dksX2_goDay_6 6 rfl rfl)
theorem dX2_goDay_149 : decode cX2_goDay 149 = .ok (.goto (-36), 3) := dk_167 255 220 (dk_at dksX2_goDay_6 9 rfl rfl)
theorem dX2_goDay_152 : decode cX2_goDay 152 = .ok (.aload_n 0, 1) := dk_42 (dk_at dksX2_goDay_6 12 rfl rfl)
theorem dX2_goDay_153 : decode cX2_goDay 153 = .ok (.getfield 13, 3) := dk_180 0 13 (dk_at dksX2_goDay_6 13 rfl rfl)
theorem dX2_goDay_156 : decode cX2_goDay 156 = .ok (.bipush 41, 2) := dk_16 41 (dk_at dksX2_goDay_6 16 rfl rfl)
theorem dX2_goDay_158 : decode cX2_goDay 158 = .ok (.bipush 99, 2) := dk_16 99 (dk_at dksX2_goDay_6 18 rfl rfl)
theorem dX2_goDay_160 : decode cX2_goDay 160 = .ok (.aload_n 0, 1) := dk_42 (dk_at dksX2_goDay_6 20 rfl rfl)
theorem dX2_goDay_161 : decode cX2_goDay 161 = .ok (.getfield 13, 3) := dk_180 0 13 (dk_at dksX2_goDay_6 21 rfl rfl)
theorem dX2_goDay_164 : decode cX2_goDay 164 = .ok (.bipush 41, 2) := dk_16 41 (dk_at dksX2_goDay_7 0 rfl rfl)
theorem dX2_goDay_166 : decode cX2_goDay 166 = .ok (.iaload, 1) := dk_46 (dk_at dksX2_goDay_7 2 rfl rfl)
theorem dX2_goDay_167 : decode cX2_goDay 167 = .ok (.iconst 1, 1) := dk_4 (dk_at dksX2_goDay_7 3 rfl rfl)
theorem dX2_goDay_168 : decode cX2_goDay 168 = .ok (.iadd, 1) := dk_96 (dk_at dksX2_goDay_7 4 rfl rfl)
theorem dX2_goDay_169 : decode cX2_goDay 169 = .ok (.invokestatic 92, 3) := dk_184 0 92 (dk_at dksX2_goDay_7 5 rfl rfl)
theorem dX2_goDay_172 : decode cX2_goDay 172 = .ok (.iastore, 1) := dk_79 (dk_at dksX2_goDay_7 8 rfl rfl)
theorem dX2_goDay_173 : decode cX2_goDay 173 = .ok (.return_, 1) := dk_177 (dk_at dksX2_goDay_7 9 rfl rfl)
abbrev cX2_stores : ByteArray := prog_31_method_38_code
def yX2_stores : MethodName := ⟨RX2, "stores", "()I"⟩
def dkwX2_stores_1 : List UInt8 := [167, 255, 236, 27, 172]
abbrev dktX2_stores_1 : List UInt8 := dkwX2_stores_1 ++ []
def dkwX2_stores_0 : List UInt8 := [3, 60, 3, 61, 28, 42, 180, 0, 101, 162, 0, 18, 27, 42, 28, 6, 182, 0, 191, 96, 60, 132, 2, 1]
abbrev dktX2_stores_0 : List UInt8 := dkwX2_stores_0 ++ dktX2_stores_1
theorem dksX2_stores_0 : cX2_stores.data.toList.drop 0 = dktX2_stores_0 := by decide +kernel
theorem dksX2_stores_1 : cX2_stores.data.toList.drop 24 = dktX2_stores_1 := dk_seg dksX2_stores_0 24 rfl rfl
theorem dX2_stores_0 : decode cX2_stores 0 = .ok (.iconst 0, 1) := dk_3 (dk_at dksX2_stores_0 0 rfl rfl)
theorem dX2_stores_1 : decode cX2_stores 1 = .ok (.istore_n 1, 1) := dk_60 (dk_at dksX2_stores_0 1 rfl rfl)
theorem dX2_stores_2 : decode cX2_stores 2 = .ok (.iconst 0, 1) := dk_3 (dk_at dksX2_stores_0 2 rfl rfl)
theorem dX2_stores_3 : decode cX2_stores 3 = .ok (.istore_n 2, 1) := dk_61 (dk_at dksX2_stores_0 3 rfl rfl)
theorem dX2_stores_4 : decode cX2_stores 4 = .ok (.iload_n 2, 1) := dk_28 (dk_at dksX2_stores_0 4 rfl rfl)
theorem dX2_stores_5 : decode cX2_stores 5 = .ok (.aload_n 0, 1) := dk_42 (dk_at dksX2_stores_0 5 rfl rfl)
theorem dX2_stores_6 : decode cX2_stores 6 = .ok (.getfield 101, 3) := dk_180 0 101 (dk_at dksX2_stores_0 6 rfl rfl)
theorem dX2_stores_9 : decode cX2_stores 9 = .ok (.if_icmp .ge 18, 3) := dk_162 0 18 (dk_at dksX2_stores_0 9 rfl rfl)
theorem dX2_stores_12 : decode cX2_stores 12 = .ok (.iload_n 1, 1) := dk_27 (dk_at dksX2_stores_0 12 rfl rfl)
theorem dX2_stores_13 : decode cX2_stores 13 = .ok (.aload_n 0, 1) := dk_42 (dk_at dksX2_stores_0 13 rfl rfl)
theorem dX2_stores_14 : decode cX2_stores 14 = .ok (.iload_n 2, 1) := dk_28 (dk_at dksX2_stores_0 14 rfl rfl)
theorem dX2_stores_15 : decode cX2_stores 15 = .ok (.iconst 3, 1) := dk_6 (dk_at dksX2_stores_0 15 rfl rfl)
theorem dX2_stores_16 : decode cX2_stores 16 = .ok (.invokevirtual 191, 3) := dk_182 0 191 (dk_at dksX2_stores_0 16 rfl rfl)
theorem dX2_stores_19 : decode cX2_stores 19 = .ok (.iadd, 1) := dk_96 (dk_at dksX2_stores_0 19 rfl rfl)
theorem dX2_stores_20 : decode cX2_stores 20 = .ok (.istore_n 1, 1) := dk_60 (dk_at dksX2_stores_0 20 rfl rfl)
theorem dX2_stores_21 : decode cX2_stores 21 = .ok (.iinc 2 1, 3) := dk_132 2 1 (dk_at dksX2_stores_0 21 rfl rfl)
theorem dX2_stores_24 : decode cX2_stores 24 = .ok (.goto (-20), 3) := dk_167 255 236 (dk_at dksX2_stores_1 0 rfl rfl)
theorem dX2_stores_27 : decode cX2_stores 27 = .ok (.iload_n 1, 1) := dk_27 (dk_at dksX2_stores_1 3 rfl rfl)
theorem dX2_stores_28 : decode cX2_stores 28 = .ok (.ireturn, 1) := dk_172 (dk_at dksX2_stores_1 4 rfl rfl)
abbrev cX2_layAll : ByteArray := prog_31_method_6_code
def yX2_layAll : MethodName := ⟨RX2, "layAll", "(I)V"⟩
def dkwX2_layAll_1 : List UInt8 := [79, 132, 2, 1, 167, 255, 230, 177]
abbrev dktX2_layAll_1 : List UInt8 := dkwX2_layAll_1 ++ []
def dkwX2_layAll_0 : List UInt8 := [3, 61, 28, 16, 42, 162, 0, 26, 42, 180, 0, 13, 28, 42, 180, 0, 17, 16, 42, 27, 104, 28, 96, 46]
abbrev dktX2_layAll_0 : List UInt8 := dkwX2_layAll_0 ++ dktX2_layAll_1
theorem dksX2_layAll_0 : cX2_layAll.data.toList.drop 0 = dktX2_layAll_0 := by decide +kernel
theorem dksX2_layAll_1 : cX2_layAll.data.toList.drop 24 = dktX2_layAll_1 := dk_seg dksX2_layAll_0 24 rfl rfl
theorem dX2_layAll_0 : decode cX2_layAll 0 = .ok (.iconst 0, 1) := dk_3 (dk_at dksX2_layAll_0 0 rfl rfl)
theorem dX2_layAll_1 : decode cX2_layAll 1 = .ok (.istore_n 2, 1) := dk_61 (dk_at dksX2_layAll_0 1 rfl rfl)
theorem dX2_layAll_2 : decode cX2_layAll 2 = .ok (.iload_n 2, 1) := dk_28 (dk_at dksX2_layAll_0 2 rfl rfl)
theorem dX2_layAll_3 : decode cX2_layAll 3 = .ok (.bipush 42, 2) := dk_16 42 (dk_at dksX2_layAll_0 3 rfl rfl)
theorem dX2_layAll_5 : decode cX2_layAll 5 = .ok (.if_icmp .ge 26, 3) := dk_162 0 26 (dk_at dksX2_layAll_0 5 rfl rfl)
theorem dX2_layAll_8 : decode cX2_layAll 8 = .ok (.aload_n 0, 1) := dk_42 (dk_at dksX2_layAll_0 8 rfl rfl)
theorem dX2_layAll_9 : decode cX2_layAll 9 = .ok (.getfield 13, 3) := dk_180 0 13 (dk_at dksX2_layAll_0 9 rfl rfl)
theorem dX2_layAll_12 : decode cX2_layAll 12 = .ok (.iload_n 2, 1) := dk_28 (dk_at dksX2_layAll_0 12 rfl rfl)
theorem dX2_layAll_13 : decode cX2_layAll 13 = .ok (.aload_n 0, 1) := dk_42 (dk_at dksX2_layAll_0 13 rfl rfl)
theorem dX2_layAll_14 : decode cX2_layAll 14 = .ok (.getfield 17, 3) := dk_180 0 17 (dk_at dksX2_layAll_0 14 rfl rfl)
theorem dX2_layAll_17 : decode cX2_layAll 17 = .ok (.bipush 42, 2) := dk_16 42 (dk_at dksX2_layAll_0 17 rfl rfl)
theorem dX2_layAll_19 : decode cX2_layAll 19 = .ok (.iload_n 1, 1) := dk_27 (dk_at dksX2_layAll_0 19 rfl rfl)
theorem dX2_layAll_20 : decode cX2_layAll 20 = .ok (.imul, 1) := dk_104 (dk_at dksX2_layAll_0 20 rfl rfl)
theorem dX2_layAll_21 : decode cX2_layAll 21 = .ok (.iload_n 2, 1) := dk_28 (dk_at dksX2_layAll_0 21 rfl rfl)
theorem dX2_layAll_22 : decode cX2_layAll 22 = .ok (.iadd, 1) := dk_96 (dk_at dksX2_layAll_0 22 rfl rfl)
theorem dX2_layAll_23 : decode cX2_layAll 23 = .ok (.iaload, 1) := dk_46 (dk_at dksX2_layAll_0 23 rfl rfl)
theorem dX2_layAll_24 : decode cX2_layAll 24 = .ok (.iastore, 1) := dk_79 (dk_at dksX2_layAll_1 0 rfl rfl)
theorem dX2_layAll_25 : decode cX2_layAll 25 = .ok (.iinc 2 1, 3) := dk_132 2 1 (dk_at dksX2_layAll_1 1 rfl rfl)
theorem dX2_layAll_28 : decode cX2_layAll 28 = .ok (.goto (-26), 3) := dk_167 255 230 (dk_at dksX2_layAll_1 4 rfl rfl)
theorem dX2_layAll_31 : decode cX2_layAll 31 = .ok (.return_, 1) := dk_177 (dk_at dksX2_layAll_1 7 rfl rfl)
abbrev cX2_lacking : ByteArray := prog_31_method_40_code
def yX2_lacking : MethodName := ⟨RX2, "lacking", "(I)I"⟩
def dkwX2_lacking_1 : List UInt8 := [182, 0, 227, 61, 42, 3, 182, 0, 224, 28, 172]
abbrev dktX2_lacking_1 : List UInt8 := dkwX2_lacking_1 ++ []
def dkwX2_lacking_0 : List UInt8 := [27, 3, 16, 40, 184, 0, 104, 154, 0, 5, 2, 172, 42, 3, 182, 0, 214, 42, 27, 182, 0, 218, 42]
abbrev dktX2_lacking_0 : List UInt8 := dkwX2_lacking_0 ++ dktX2_lacking_1
theorem dksX2_lacking_0 : cX2_lacking.data.toList.drop 0 = dktX2_lacking_0 := by decide +kernel
theorem dksX2_lacking_1 : cX2_lacking.data.toList.drop 23 = dktX2_lacking_1 := dk_seg dksX2_lacking_0 23 rfl rfl
theorem dX2_lacking_0 : decode cX2_lacking 0 = .ok (.iload_n 1, 1) := dk_27 (dk_at dksX2_lacking_0 0 rfl rfl)
theorem dX2_lacking_1 : decode cX2_lacking 1 = .ok (.iconst 0, 1) := dk_3 (dk_at dksX2_lacking_0 1 rfl rfl)
theorem dX2_lacking_2 : decode cX2_lacking 2 = .ok (.bipush 40, 2) := dk_16 40 (dk_at dksX2_lacking_0 2 rfl rfl)
theorem dX2_lacking_4 : decode cX2_lacking 4 = .ok (.invokestatic 104, 3) := dk_184 0 104 (dk_at dksX2_lacking_0 4 rfl rfl)
theorem dX2_lacking_7 : decode cX2_lacking 7 = .ok (.ifCond .ne 5, 3) := dk_154 0 5 (dk_at dksX2_lacking_0 7 rfl rfl)
theorem dX2_lacking_10 : decode cX2_lacking 10 = .ok (.iconst (-1), 1) := dk_2 (dk_at dksX2_lacking_0 10 rfl rfl)
theorem dX2_lacking_11 : decode cX2_lacking 11 = .ok (.ireturn, 1) := dk_172 (dk_at dksX2_lacking_0 11 rfl rfl)
theorem dX2_lacking_12 : decode cX2_lacking 12 = .ok (.aload_n 0, 1) := dk_42 (dk_at dksX2_lacking_0 12 rfl rfl)
theorem dX2_lacking_13 : decode cX2_lacking 13 = .ok (.iconst 0, 1) := dk_3 (dk_at dksX2_lacking_0 13 rfl rfl)
theorem dX2_lacking_14 : decode cX2_lacking 14 = .ok (.invokevirtual 214, 3) := dk_182 0 214 (dk_at dksX2_lacking_0 14 rfl rfl)
theorem dX2_lacking_17 : decode cX2_lacking 17 = .ok (.aload_n 0, 1) := dk_42 (dk_at dksX2_lacking_0 17 rfl rfl)
theorem dX2_lacking_18 : decode cX2_lacking 18 = .ok (.iload_n 1, 1) := dk_27 (dk_at dksX2_lacking_0 18 rfl rfl)
theorem dX2_lacking_19 : decode cX2_lacking 19 = .ok (.invokevirtual 218, 3) := dk_182 0 218 (dk_at dksX2_lacking_0 19 rfl rfl)
theorem dX2_lacking_22 : decode cX2_lacking 22 = .ok (.aload_n 0, 1) := dk_42 (dk_at dksX2_lacking_0 22 rfl rfl)
theorem dX2_lacking_23 : decode cX2_lacking 23 = .ok (.invokevirtual 227, 3) := dk_182 0 227 (dk_at dksX2_lacking_1 0 rfl rfl)
theorem dX2_lacking_26 : decode cX2_lacking 26 = .ok (.istore_n 2, 1) := dk_61 (dk_at dksX2_lacking_1 3 rfl rfl)
theorem dX2_lacking_27 : decode cX2_lacking 27 = .ok (.aload_n 0, 1) := dk_42 (dk_at dksX2_lacking_1 4 rfl rfl)
theorem dX2_lacking_28 : decode cX2_lacking 28 = .ok (.iconst 0, 1) := dk_3 (dk_at dksX2_lacking_1 5 rfl rfl)
theorem dX2_lacking_29 : decode cX2_lacking 29 = .ok (.invokevirtual 224, 3) := dk_182 0 224 (dk_at dksX2_lacking_1 6 rfl rfl)
theorem dX2_lacking_32 : decode cX2_lacking 32 = .ok (.iload_n 2, 1) := dk_28 (dk_at dksX2_lacking_1 9 rfl rfl)
theorem dX2_lacking_33 : decode cX2_lacking 33 = .ok (.ireturn, 1) := dk_172 (dk_at dksX2_lacking_1 10 rfl rfl)
abbrev cX2_lacks : ByteArray := prog_31_method_37_code
def yX2_lacks : MethodName := ⟨RX2, "lacks", "()I"⟩
def dkwX2_lacks_1 : List UInt8 := [180, 0, 45, 159, 0, 9, 4, 28, 120, 167, 0, 4, 3, 128, 60, 132, 2, 1, 167, 255, 218, 27, 172]
abbrev dktX2_lacks_1 : List UInt8 := dkwX2_lacks_1 ++ []
def dkwX2_lacks_0 : List UInt8 := [3, 60, 3, 61, 28, 42, 180, 0, 101, 162, 0, 36, 27, 42, 28, 6, 182, 0, 191, 154, 0, 17, 28, 42]
abbrev dktX2_lacks_0 : List UInt8 := dkwX2_lacks_0 ++ dktX2_lacks_1
theorem dksX2_lacks_0 : cX2_lacks.data.toList.drop 0 = dktX2_lacks_0 := by decide +kernel
theorem dksX2_lacks_1 : cX2_lacks.data.toList.drop 24 = dktX2_lacks_1 := dk_seg dksX2_lacks_0 24 rfl rfl
theorem dX2_lacks_0 : decode cX2_lacks 0 = .ok (.iconst 0, 1) := dk_3 (dk_at dksX2_lacks_0 0 rfl rfl)
theorem dX2_lacks_1 : decode cX2_lacks 1 = .ok (.istore_n 1, 1) := dk_60 (dk_at dksX2_lacks_0 1 rfl rfl)
theorem dX2_lacks_2 : decode cX2_lacks 2 = .ok (.iconst 0, 1) := dk_3 (dk_at dksX2_lacks_0 2 rfl rfl)
theorem dX2_lacks_3 : decode cX2_lacks 3 = .ok (.istore_n 2, 1) := dk_61 (dk_at dksX2_lacks_0 3 rfl rfl)
theorem dX2_lacks_4 : decode cX2_lacks 4 = .ok (.iload_n 2, 1) := dk_28 (dk_at dksX2_lacks_0 4 rfl rfl)
theorem dX2_lacks_5 : decode cX2_lacks 5 = .ok (.aload_n 0, 1) := dk_42 (dk_at dksX2_lacks_0 5 rfl rfl)
theorem dX2_lacks_6 : decode cX2_lacks 6 = .ok (.getfield 101, 3) := dk_180 0 101 (dk_at dksX2_lacks_0 6 rfl rfl)
theorem dX2_lacks_9 : decode cX2_lacks 9 = .ok (.if_icmp .ge 36, 3) := dk_162 0 36 (dk_at dksX2_lacks_0 9 rfl rfl)
theorem dX2_lacks_12 : decode cX2_lacks 12 = .ok (.iload_n 1, 1) := dk_27 (dk_at dksX2_lacks_0 12 rfl rfl)
theorem dX2_lacks_13 : decode cX2_lacks 13 = .ok (.aload_n 0, 1) := dk_42 (dk_at dksX2_lacks_0 13 rfl rfl)
theorem dX2_lacks_14 : decode cX2_lacks 14 = .ok (.iload_n 2, 1) := dk_28 (dk_at dksX2_lacks_0 14 rfl rfl)
theorem dX2_lacks_15 : decode cX2_lacks 15 = .ok (.iconst 3, 1) := dk_6 (dk_at dksX2_lacks_0 15 rfl rfl)
theorem dX2_lacks_16 : decode cX2_lacks 16 = .ok (.invokevirtual 191, 3) := dk_182 0 191 (dk_at dksX2_lacks_0 16 rfl rfl)
theorem dX2_lacks_19 : decode cX2_lacks 19 = .ok (.ifCond .ne 17, 3) := dk_154 0 17 (dk_at dksX2_lacks_0 19 rfl rfl)
theorem dX2_lacks_22 : decode cX2_lacks 22 = .ok (.iload_n 2, 1) := dk_28 (dk_at dksX2_lacks_0 22 rfl rfl)
theorem dX2_lacks_23 : decode cX2_lacks 23 = .ok (.aload_n 0, 1) := dk_42 (dk_at dksX2_lacks_0 23 rfl rfl)
theorem dX2_lacks_24 : decode cX2_lacks 24 = .ok (.getfield 45, 3) := dk_180 0 45 (dk_at dksX2_lacks_1 0 rfl rfl)
theorem dX2_lacks_27 : decode cX2_lacks 27 = .ok (.if_icmp .eq 9, 3) := dk_159 0 9 (dk_at dksX2_lacks_1 3 rfl rfl)
theorem dX2_lacks_30 : decode cX2_lacks 30 = .ok (.iconst 1, 1) := dk_4 (dk_at dksX2_lacks_1 6 rfl rfl)
theorem dX2_lacks_31 : decode cX2_lacks 31 = .ok (.iload_n 2, 1) := dk_28 (dk_at dksX2_lacks_1 7 rfl rfl)
theorem dX2_lacks_32 : decode cX2_lacks 32 = .ok (.ishl, 1) := dk_120 (dk_at dksX2_lacks_1 8 rfl rfl)
theorem dX2_lacks_33 : decode cX2_lacks 33 = .ok (.goto 4, 3) := dk_167 0 4 (dk_at dksX2_lacks_1 9 rfl rfl)
theorem dX2_lacks_36 : decode cX2_lacks 36 = .ok (.iconst 0, 1) := dk_3 (dk_at dksX2_lacks_1 12 rfl rfl)
theorem dX2_lacks_37 : decode cX2_lacks 37 = .ok (.ior, 1) := dk_128 (dk_at dksX2_lacks_1 13 rfl rfl)
theorem dX2_lacks_38 : decode cX2_lacks 38 = .ok (.istore_n 1, 1) := dk_60 (dk_at dksX2_lacks_1 14 rfl rfl)
theorem dX2_lacks_39 : decode cX2_lacks 39 = .ok (.iinc 2 1, 3) := dk_132 2 1 (dk_at dksX2_lacks_1 15 rfl rfl)
theorem dX2_lacks_42 : decode cX2_lacks 42 = .ok (.goto (-38), 3) := dk_167 255 218 (dk_at dksX2_lacks_1 18 rfl rfl)
theorem dX2_lacks_45 : decode cX2_lacks 45 = .ok (.iload_n 1, 1) := dk_27 (dk_at dksX2_lacks_1 21 rfl rfl)
theorem dX2_lacks_46 : decode cX2_lacks 46 = .ok (.ireturn, 1) := dk_172 (dk_at dksX2_lacks_1 22 rfl rfl)
abbrev cX2_first : ByteArray := prog_31_method_41_code
def yX2_first : MethodName := ⟨RX2, "first", "(I)I"⟩
def dkwX2_first_4 : List UInt8 := [182, 0, 224, 28, 172]
abbrev dktX2_first_4 : List UInt8 := dkwX2_first_4 ++ []
def dkwX2_first_3 : List UInt8 := [4, 160, 0, 7, 29, 167, 0, 5, 16, 254, 61, 42, 182, 0, 211, 132, 3, 1, 167, 255, 191, 42, 3]
abbrev dktX2_first_3 : List UInt8 := dkwX2_first_3 ++ dktX2_first_4
def dkwX2_first_2 : List UInt8 := [21, 4, 154, 0, 8, 16, 254, 167, 0, 27, 21, 4, 184, 0, 230, 167, 0, 19, 21, 4, 27, 122, 4, 126]
abbrev dktX2_first_2 : List UInt8 := dkwX2_first_2 ++ dktX2_first_3
def dkwX2_first_1 : List UInt8 := [62, 29, 16, 40, 163, 0, 65, 28, 16, 254, 160, 0, 59, 42, 182, 0, 227, 54, 4, 27, 2, 160, 0, 21]
abbrev dktX2_first_1 : List UInt8 := dkwX2_first_1 ++ dktX2_first_2
def dkwX2_first_0 : List UInt8 := [27, 2, 159, 0, 13, 42, 27, 182, 0, 116, 154, 0, 5, 2, 172, 42, 3, 182, 0, 214, 16, 254, 61, 3]
abbrev dktX2_first_0 : List UInt8 := dkwX2_first_0 ++ dktX2_first_1
theorem dksX2_first_0 : cX2_first.data.toList.drop 0 = dktX2_first_0 := by decide +kernel
theorem dksX2_first_1 : cX2_first.data.toList.drop 24 = dktX2_first_1 := dk_seg dksX2_first_0 24 rfl rfl
theorem dksX2_first_2 : cX2_first.data.toList.drop 48 = dktX2_first_2 := dk_seg dksX2_first_1 24 rfl rfl
theorem dksX2_first_3 : cX2_first.data.toList.drop 72 = dktX2_first_3 := dk_seg dksX2_first_2 24 rfl rfl
theorem dksX2_first_4 : cX2_first.data.toList.drop 95 = dktX2_first_4 := dk_seg dksX2_first_3 23 rfl rfl
theorem dX2_first_0 : decode cX2_first 0 = .ok (.iload_n 1, 1) := dk_27 (dk_at dksX2_first_0 0 rfl rfl)
theorem dX2_first_1 : decode cX2_first 1 = .ok (.iconst (-1), 1) := dk_2 (dk_at dksX2_first_0 1 rfl rfl)
theorem dX2_first_2 : decode cX2_first 2 = .ok (.if_icmp .eq 13, 3) := dk_159 0 13 (dk_at dksX2_first_0 2 rfl rfl)
theorem dX2_first_5 : decode cX2_first 5 = .ok (.aload_n 0, 1) := dk_42 (dk_at dksX2_first_0 5 rfl rfl)
theorem dX2_first_6 : decode cX2_first 6 = .ok (.iload_n 1, 1) := dk_27 (dk_at dksX2_first_0 6 rfl rfl)
theorem dX2_first_7 : decode cX2_first 7 = .ok (.invokevirtual 116, 3) := dk_182 0 116 (dk_at dksX2_first_0 7 rfl rfl)
theorem dX2_first_10 : decode cX2_first 10 = .ok (.ifCond .ne 5, 3) := dk_154 0 5 (dk_at dksX2_first_0 10 rfl rfl)
theorem dX2_first_13 : decode cX2_first 13 = .ok (.iconst (-1), 1) := dk_2 (dk_at dksX2_first_0 13 rfl rfl)
theorem dX2_first_14 : decode cX2_first 14 = .ok (.ireturn, 1) := dk_172 (dk_at dksX2_first_0 14 rfl rfl)
theorem dX2_first_15 : decode cX2_first 15 = .ok (.aload_n 0, 1) := dk_42 (dk_at dksX2_first_0 15 rfl rfl)
theorem dX2_first_16 : decode cX2_first 16 = .ok (.iconst 0, 1) := dk_3 (dk_at dksX2_first_0 16 rfl rfl)
theorem dX2_first_17 : decode cX2_first 17 = .ok (.invokevirtual 214, 3) := dk_182 0 214 (dk_at dksX2_first_0 17 rfl rfl)
theorem dX2_first_20 : decode cX2_first 20 = .ok (.bipush (-2), 2) := dk_16 254 (dk_at dksX2_first_0 20 rfl rfl)
theorem dX2_first_22 : decode cX2_first 22 = .ok (.istore_n 2, 1) := dk_61 (dk_at dksX2_first_0 22 rfl rfl)
theorem dX2_first_23 : decode cX2_first 23 = .ok (.iconst 0, 1) := dk_3 (dk_at dksX2_first_0 23 rfl rfl)
theorem dX2_first_24 : decode cX2_first 24 = .ok (.istore_n 3, 1) := dk_62 (dk_at dksX2_first_1 0 rfl rfl)
theorem dX2_first_25 : decode cX2_first 25 = .ok (.iload_n 3, 1) := dk_29 (dk_at dksX2_first_1 1 rfl rfl)
theorem dX2_first_26 : decode cX2_first 26 = .ok (.bipush 40, 2) := dk_16 40 (dk_at dksX2_first_1 2 rfl rfl)
theorem dX2_first_28 : decode cX2_first 28 = .ok (.if_icmp .gt 65, 3) := dk_163 0 65 (dk_at dksX2_first_1 4 rfl rfl)
theorem dX2_first_31 : decode cX2_first 31 = .ok (.iload_n 2, 1) := dk_28 (dk_at dksX2_first_1 7 rfl rfl)
theorem dX2_first_32 : decode cX2_first 32 = .ok (.bipush (-2), 2) := dk_16 254 (dk_at dksX2_first_1 8 rfl rfl)
theorem dX2_first_34 : decode cX2_first 34 = .ok (.if_icmp .ne 59, 3) := dk_160 0 59 (dk_at dksX2_first_1 10 rfl rfl)
theorem dX2_first_37 : decode cX2_first 37 = .ok (.aload_n 0, 1) := dk_42 (dk_at dksX2_first_1 13 rfl rfl)
theorem dX2_first_38 : decode cX2_first 38 = .ok (.invokevirtual 227, 3) := dk_182 0 227 (dk_at dksX2_first_1 14 rfl rfl)
theorem dX2_first_41 : decode cX2_first 41 = .ok (.istore 4, 2) := dk_54 4 (dk_at dksX2_first_1 17 rfl rfl)
theorem dX2_first_43 : decode cX2_first 43 = .ok (.iload_n 1, 1) := dk_27 (dk_at dksX2_first_1 19 rfl rfl)
theorem dX2_first_44 : decode cX2_first 44 = .ok (.iconst (-1), 1) := dk_2 (dk_at dksX2_first_1 20 rfl rfl)
theorem dX2_first_45 : decode cX2_first 45 = .ok (.if_icmp .ne 21, 3) := dk_160 0 21 (dk_at dksX2_first_1 21 rfl rfl)
theorem dX2_first_48 : decode cX2_first 48 = .ok (.iload 4, 2) := dk_21 4 (dk_at dksX2_first_2 0 rfl rfl)
theorem dX2_first_50 : decode cX2_first 50 = .ok (.ifCond .ne 8, 3) := dk_154 0 8 (dk_at dksX2_first_2 2 rfl rfl)
theorem dX2_first_53 : decode cX2_first 53 = .ok (.bipush (-2), 2) := dk_16 254 (dk_at dksX2_first_2 5 rfl rfl)
theorem dX2_first_55 : decode cX2_first 55 = .ok (.goto 27, 3) := dk_167 0 27 (dk_at dksX2_first_2 7 rfl rfl)
theorem dX2_first_58 : decode cX2_first 58 = .ok (.iload 4, 2) := dk_21 4 (dk_at dksX2_first_2 10 rfl rfl)
theorem dX2_first_60 : decode cX2_first 60 = .ok (.invokestatic 230, 3) := dk_184 0 230 (dk_at dksX2_first_2 12 rfl rfl)
theorem dX2_first_63 : decode cX2_first 63 = .ok (.goto 19, 3) := dk_167 0 19 (dk_at dksX2_first_2 15 rfl rfl)
theorem dX2_first_66 : decode cX2_first 66 = .ok (.iload 4, 2) := dk_21 4 (dk_at dksX2_first_2 18 rfl rfl)
theorem dX2_first_68 : decode cX2_first 68 = .ok (.iload_n 1, 1) := dk_27 (dk_at dksX2_first_2 20 rfl rfl)
theorem dX2_first_69 : decode cX2_first 69 = .ok (.ishr, 1) := dk_122 (dk_at dksX2_first_2 21 rfl rfl)
theorem dX2_first_70 : decode cX2_first 70 = .ok (.iconst 1, 1) := dk_4 (dk_at dksX2_first_2 22 rfl rfl)
theorem dX2_first_71 : decode cX2_first 71 = .ok (.iand, 1) := dk_126 (dk_at dksX2_first_2 23 rfl rfl)
theorem dX2_first_72 : decode cX2_first 72 = .ok (.iconst 1, 1) := dk_4 (dk_at dksX2_first_3 0 rfl rfl)
theorem dX2_first_73 : decode cX2_first 73 = .ok (.if_icmp .ne 7, 3) := dk_160 0 7 (dk_at dksX2_first_3 1 rfl rfl)
theorem dX2_first_76 : decode cX2_first 76 = .ok (.iload_n 3, 1) := dk_29 (dk_at dksX2_first_3 4 rfl rfl)
theorem dX2_first_77 : decode cX2_first 77 = .ok (.goto 5, 3) := dk_167 0 5 (dk_at dksX2_first_3 5 rfl rfl)
theorem dX2_first_80 : decode cX2_first 80 = .ok (.bipush (-2), 2) := dk_16 254 (dk_at dksX2_first_3 8 rfl rfl)
theorem dX2_first_82 : decode cX2_first 82 = .ok (.istore_n 2, 1) := dk_61 (dk_at dksX2_first_3 10 rfl rfl)
theorem dX2_first_83 : decode cX2_first 83 = .ok (.aload_n 0, 1) := dk_42 (dk_at dksX2_first_3 11 rfl rfl)
theorem dX2_first_84 : decode cX2_first 84 = .ok (.invokevirtual 211, 3) := dk_182 0 211 (dk_at dksX2_first_3 12 rfl rfl)
theorem dX2_first_87 : decode cX2_first 87 = .ok (.iinc 3 1, 3) := dk_132 3 1 (dk_at dksX2_first_3 15 rfl rfl)
theorem dX2_first_90 : decode cX2_first 90 = .ok (.goto (-65), 3) := dk_167 255 191 (dk_at dksX2_first_3 18 rfl rfl)
theorem dX2_first_93 : decode cX2_first 93 = .ok (.aload_n 0, 1) := dk_42 (dk_at dksX2_first_3 21 rfl rfl)
theorem dX2_first_94 : decode cX2_first 94 = .ok (.iconst 0, 1) := dk_3 (dk_at dksX2_first_3 22 rfl rfl)
theorem dX2_first_95 : decode cX2_first 95 = .ok (.invokevirtual 224, 3) := dk_182 0 224 (dk_at dksX2_first_4 0 rfl rfl)
theorem dX2_first_98 : decode cX2_first 98 = .ok (.iload_n 2, 1) := dk_28 (dk_at dksX2_first_4 3 rfl rfl)
theorem dX2_first_99 : decode cX2_first 99 = .ok (.ireturn, 1) := dk_172 (dk_at dksX2_first_4 4 rfl rfl)
abbrev cX2_care : ByteArray := prog_31_method_42_code
def yX2_care : MethodName := ⟨RX2, "care", "(II)I"⟩
def dkwX2_care_4 : List UInt8 := [182, 0, 191, 2, 160, 0, 7, 29, 167, 0, 5, 16, 254, 172]
abbrev dktX2_care_4 : List UInt8 := dkwX2_care_4 ++ []
def dkwX2_care_3 : List UInt8 := [160, 0, 7, 29, 167, 0, 5, 21, 5, 62, 132, 4, 1, 167, 255, 197, 28, 154, 0, 17, 42, 29, 7]
abbrev dktX2_care_3 : List UInt8 := dkwX2_care_3 ++ dktX2_care_4
def dkwX2_care_2 : List UInt8 := [160, 0, 5, 29, 172, 28, 4, 160, 0, 14, 21, 5, 27, 160, 0, 8, 21, 4, 4, 96, 172, 21, 5, 2]
abbrev dktX2_care_2 : List UInt8 := dkwX2_care_2 ++ dktX2_care_3
def dkwX2_care_1 : List UInt8 := [21, 4, 16, 8, 162, 0, 58, 42, 29, 7, 182, 0, 191, 54, 5, 28, 154, 0, 11, 21, 5, 2]
abbrev dktX2_care_1 : List UInt8 := dkwX2_care_1 ++ dktX2_care_2
def dkwX2_care_0 : List UInt8 := [42, 27, 182, 0, 116, 153, 0, 12, 28, 3, 4, 184, 0, 104, 154, 0, 5, 2, 172, 27, 62, 3, 54, 4]
abbrev dktX2_care_0 : List UInt8 := dkwX2_care_0 ++ dktX2_care_1
theorem dksX2_care_0 : cX2_care.data.toList.drop 0 = dktX2_care_0 := by decide +kernel
theorem dksX2_care_1 : cX2_care.data.toList.drop 24 = dktX2_care_1 := dk_seg dksX2_care_0 24 rfl rfl
theorem dksX2_care_2 : cX2_care.data.toList.drop 46 = dktX2_care_2 := dk_seg dksX2_care_1 22 rfl rfl
theorem dksX2_care_3 : cX2_care.data.toList.drop 70 = dktX2_care_3 := dk_seg dksX2_care_2 24 rfl rfl
theorem dksX2_care_4 : cX2_care.data.toList.drop 93 = dktX2_care_4 := dk_seg dksX2_care_3 23 rfl rfl
theorem dX2_care_0 : decode cX2_care 0 = .ok (.aload_n 0, 1) := dk_42 (dk_at dksX2_care_0 0 rfl rfl)
theorem dX2_care_1 : decode cX2_care 1 = .ok (.iload_n 1, 1) := dk_27 (dk_at dksX2_care_0 1 rfl rfl)
theorem dX2_care_2 : decode cX2_care 2 = .ok (.invokevirtual 116, 3) := dk_182 0 116 (dk_at dksX2_care_0 2 rfl rfl)
theorem dX2_care_5 : decode cX2_care 5 = .ok (.ifCond .eq 12, 3) := dk_153 0 12 (dk_at dksX2_care_0 5 rfl rfl)
theorem dX2_care_8 : decode cX2_care 8 = .ok (.iload_n 2, 1) := dk_28 (dk_at dksX2_care_0 8 rfl rfl)
theorem dX2_care_9 : decode cX2_care 9 = .ok (.iconst 0, 1) := dk_3 (dk_at dksX2_care_0 9 rfl rfl)
theorem dX2_care_10 : decode cX2_care 10 = .ok (.iconst 1, 1) := dk_4 (dk_at dksX2_care_0 10 rfl rfl)
theorem dX2_care_11 : decode cX2_care 11 = .ok (.invokestatic 104, 3) := dk_184 0 104 (dk_at dksX2_care_0 11 rfl rfl)
theorem dX2_care_14 : decode cX2_care 14 = .ok (.ifCond .ne 5, 3) := dk_154 0 5 (dk_at dksX2_care_0 14 rfl rfl)
theorem dX2_care_17 : decode cX2_care 17 = .ok (.iconst (-1), 1) := dk_2 (dk_at dksX2_care_0 17 rfl rfl)
theorem dX2_care_18 : decode cX2_care 18 = .ok (.ireturn, 1) := dk_172 (dk_at dksX2_care_0 18 rfl rfl)
theorem dX2_care_19 : decode cX2_care 19 = .ok (.iload_n 1, 1) := dk_27 (dk_at dksX2_care_0 19 rfl rfl)
theorem dX2_care_20 : decode cX2_care 20 = .ok (.istore_n 3, 1) := dk_62 (dk_at dksX2_care_0 20 rfl rfl)
theorem dX2_care_21 : decode cX2_care 21 = .ok (.iconst 0, 1) := dk_3 (dk_at dksX2_care_0 21 rfl rfl)
theorem dX2_care_22 : decode cX2_care 22 = .ok (.istore 4, 2) := dk_54 4 (dk_at dksX2_care_0 22 rfl rfl)
theorem dX2_care_24 : decode cX2_care 24 = .ok (.iload 4, 2) := dk_21 4 (dk_at dksX2_care_1 0 rfl rfl)
theorem dX2_care_26 : decode cX2_care 26 = .ok (.bipush 8, 2) := dk_16 8 (dk_at dksX2_care_1 2 rfl rfl)
theorem dX2_care_28 : decode cX2_care 28 = .ok (.if_icmp .ge 58, 3) := dk_162 0 58 (dk_at dksX2_care_1 4 rfl rfl)
theorem dX2_care_31 : decode cX2_care 31 = .ok (.aload_n 0, 1) := dk_42 (dk_at dksX2_care_1 7 rfl rfl)
theorem dX2_care_32 : decode cX2_care 32 = .ok (.iload_n 3, 1) := dk_29 (dk_at dksX2_care_1 8 rfl rfl)
theorem dX2_care_33 : decode cX2_care 33 = .ok (.iconst 4, 1) := dk_7 (dk_at dksX2_care_1 9 rfl rfl)
theorem dX2_care_34 : decode cX2_care 34 = .ok (.invokevirtual 191, 3) := dk_182 0 191 (dk_at dksX2_care_1 10 rfl rfl)
theorem dX2_care_37 : decode cX2_care 37 = .ok (.istore 5, 2) := dk_54 5 (dk_at dksX2_care_1 13 rfl rfl)
theorem dX2_care_39 : decode cX2_care 39 = .ok (.iload_n 2, 1) := dk_28 (dk_at dksX2_care_1 15 rfl rfl)
theorem dX2_care_40 : decode cX2_care 40 = .ok (.ifCond .ne 11, 3) := dk_154 0 11 (dk_at dksX2_care_1 16 rfl rfl)
theorem dX2_care_43 : decode cX2_care 43 = .ok (.iload 5, 2) := dk_21 5 (dk_at dksX2_care_1 19 rfl rfl)
theorem dX2_care_45 : decode cX2_care 45 = .ok (.iconst (-1), 1) := dk_2 (dk_at dksX2_care_1 21 rfl rfl)
theorem dX2_care_46 : decode cX2_care 46 = .ok (.if_icmp .ne 5, 3) := dk_160 0 5 (dk_at dksX2_care_2 0 rfl rfl)
theorem dX2_care_49 : decode cX2_care 49 = .ok (.iload_n 3, 1) := dk_29 (dk_at dksX2_care_2 3 rfl rfl)
theorem dX2_care_50 : decode cX2_care 50 = .ok (.ireturn, 1) := dk_172 (dk_at dksX2_care_2 4 rfl rfl)
theorem dX2_care_51 : decode cX2_care 51 = .ok (.iload_n 2, 1) := dk_28 (dk_at dksX2_care_2 5 rfl rfl)
theorem dX2_care_52 : decode cX2_care 52 = .ok (.iconst 1, 1) := dk_4 (dk_at dksX2_care_2 6 rfl rfl)
theorem dX2_care_53 : decode cX2_care 53 = .ok (.if_icmp .ne 14, 3) := dk_160 0 14 (dk_at dksX2_care_2 7 rfl rfl)
theorem dX2_care_56 : decode cX2_care 56 = .ok (.iload 5, 2) := dk_21 5 (dk_at dksX2_care_2 10 rfl rfl)
theorem dX2_care_58 : decode cX2_care 58 = .ok (.iload_n 1, 1) := dk_27 (dk_at dksX2_care_2 12 rfl rfl)
theorem dX2_care_59 : decode cX2_care 59 = .ok (.if_icmp .ne 8, 3) := dk_160 0 8 (dk_at dksX2_care_2 13 rfl rfl)
theorem dX2_care_62 : decode cX2_care 62 = .ok (.iload 4, 2) := dk_21 4 (dk_at dksX2_care_2 16 rfl rfl)
theorem dX2_care_64 : decode cX2_care 64 = .ok (.iconst 1, 1) := dk_4 (dk_at dksX2_care_2 18 rfl rfl)
theorem dX2_care_65 : decode cX2_care 65 = .ok (.iadd, 1) := dk_96 (dk_at dksX2_care_2 19 rfl rfl)
theorem dX2_care_66 : decode cX2_care 66 = .ok (.ireturn, 1) := dk_172 (dk_at dksX2_care_2 20 rfl rfl)
theorem dX2_care_67 : decode cX2_care 67 = .ok (.iload 5, 2) := dk_21 5 (dk_at dksX2_care_2 21 rfl rfl)
theorem dX2_care_69 : decode cX2_care 69 = .ok (.iconst (-1), 1) := dk_2 (dk_at dksX2_care_2 23 rfl rfl)
theorem dX2_care_70 : decode cX2_care 70 = .ok (.if_icmp .ne 7, 3) := dk_160 0 7 (dk_at dksX2_care_3 0 rfl rfl)
theorem dX2_care_73 : decode cX2_care 73 = .ok (.iload_n 3, 1) := dk_29 (dk_at dksX2_care_3 3 rfl rfl)
theorem dX2_care_74 : decode cX2_care 74 = .ok (.goto 5, 3) := dk_167 0 5 (dk_at dksX2_care_3 4 rfl rfl)
theorem dX2_care_77 : decode cX2_care 77 = .ok (.iload 5, 2) := dk_21 5 (dk_at dksX2_care_3 7 rfl rfl)
theorem dX2_care_79 : decode cX2_care 79 = .ok (.istore_n 3, 1) := dk_62 (dk_at dksX2_care_3 9 rfl rfl)
theorem dX2_care_80 : decode cX2_care 80 = .ok (.iinc 4 1, 3) := dk_132 4 1 (dk_at dksX2_care_3 10 rfl rfl)
theorem dX2_care_83 : decode cX2_care 83 = .ok (.goto (-59), 3) := dk_167 255 197 (dk_at dksX2_care_3 13 rfl rfl)
theorem dX2_care_86 : decode cX2_care 86 = .ok (.iload_n 2, 1) := dk_28 (dk_at dksX2_care_3 16 rfl rfl)
theorem dX2_care_87 : decode cX2_care 87 = .ok (.ifCond .ne 17, 3) := dk_154 0 17 (dk_at dksX2_care_3 17 rfl rfl)
theorem dX2_care_90 : decode cX2_care 90 = .ok (.aload_n 0, 1) := dk_42 (dk_at dksX2_care_3 20 rfl rfl)
theorem dX2_care_91 : decode cX2_care 91 = .ok (.iload_n 3, 1) := dk_29 (dk_at dksX2_care_3 21 rfl rfl)
theorem dX2_care_92 : decode cX2_care 92 = .ok (.iconst 4, 1) := dk_7 (dk_at dksX2_care_3 22 rfl rfl)
theorem dX2_care_93 : decode cX2_care 93 = .ok (.invokevirtual 191, 3) := dk_182 0 191 (dk_at dksX2_care_4 0 rfl rfl)
theorem dX2_care_96 : decode cX2_care 96 = .ok (.iconst (-1), 1) := dk_2 (dk_at dksX2_care_4 3 rfl rfl)
theorem dX2_care_97 : decode cX2_care 97 = .ok (.if_icmp .ne 7, 3) := dk_160 0 7 (dk_at dksX2_care_4 4 rfl rfl)
theorem dX2_care_100 : decode cX2_care 100 = .ok (.iload_n 3, 1) := dk_29 (dk_at dksX2_care_4 7 rfl rfl)
theorem dX2_care_101 : decode cX2_care 101 = .ok (.goto 5, 3) := dk_167 0 5 (dk_at dksX2_care_4 8 rfl rfl)
theorem dX2_care_104 : decode cX2_care 104 = .ok (.bipush (-2), 2) := dk_16 254 (dk_at dksX2_care_4 11 rfl rfl)
theorem dX2_care_106 : decode cX2_care 106 = .ok (.ireturn, 1) := dk_172 (dk_at dksX2_care_4 13 rfl rfl)
abbrev cX2_cared : ByteArray := prog_31_method_43_code
def yX2_cared : MethodName := ⟨RX2, "cared", "(I)I"⟩
def dkwX2_cared_2 : List UInt8 := [4, 29, 120, 167, 0, 4, 3, 128, 61, 132, 3, 1, 167, 255, 211, 28, 172]
abbrev dktX2_cared_2 : List UInt8 := dkwX2_cared_2 ++ []
def dkwX2_cared_1 : List UInt8 := [27, 154, 0, 14, 42, 29, 182, 0, 196, 154, 0, 21, 167, 0, 12, 42, 29, 182, 0, 196, 4, 164, 0, 9]
abbrev dktX2_cared_1 : List UInt8 := dkwX2_cared_1 ++ dktX2_cared_2
def dkwX2_cared_0 : List UInt8 := [27, 3, 4, 184, 0, 104, 154, 0, 5, 2, 172, 3, 61, 3, 62, 29, 42, 180, 0, 101, 162, 0, 43, 28]
abbrev dktX2_cared_0 : List UInt8 := dkwX2_cared_0 ++ dktX2_cared_1
theorem dksX2_cared_0 : cX2_cared.data.toList.drop 0 = dktX2_cared_0 := by decide +kernel
theorem dksX2_cared_1 : cX2_cared.data.toList.drop 24 = dktX2_cared_1 := dk_seg dksX2_cared_0 24 rfl rfl
theorem dksX2_cared_2 : cX2_cared.data.toList.drop 48 = dktX2_cared_2 := dk_seg dksX2_cared_1 24 rfl rfl
theorem dX2_cared_0 : decode cX2_cared 0 = .ok (.iload_n 1, 1) := dk_27 (dk_at dksX2_cared_0 0 rfl rfl)
theorem dX2_cared_1 : decode cX2_cared 1 = .ok (.iconst 0, 1) := dk_3 (dk_at dksX2_cared_0 1 rfl rfl)
theorem dX2_cared_2 : decode cX2_cared 2 = .ok (.iconst 1, 1) := dk_4 (dk_at dksX2_cared_0 2 rfl rfl)
theorem dX2_cared_3 : decode cX2_cared 3 = .ok (.invokestatic 104, 3) := dk_184 0 104 (dk_at dksX2_cared_0 3 rfl rfl)
theorem dX2_cared_6 : decode cX2_cared 6 = .ok (.ifCond .ne 5, 3) := dk_154 0 5 (dk_at dksX2_cared_0 6 rfl rfl)
theorem dX2_cared_9 : decode cX2_cared 9 = .ok (.iconst (-1), 1) := dk_2 (dk_at dksX2_cared_0 9 rfl rfl)
theorem dX2_cared_10 : decode cX2_cared 10 = .ok (.ireturn, 1) := dk_172 (dk_at dksX2_cared_0 10 rfl rfl)
theorem dX2_cared_11 : decode cX2_cared 11 = .ok (.iconst 0, 1) := dk_3 (dk_at dksX2_cared_0 11 rfl rfl)
theorem dX2_cared_12 : decode cX2_cared 12 = .ok (.istore_n 2, 1) := dk_61 (dk_at dksX2_cared_0 12 rfl rfl)
theorem dX2_cared_13 : decode cX2_cared 13 = .ok (.iconst 0, 1) := dk_3 (dk_at dksX2_cared_0 13 rfl rfl)
theorem dX2_cared_14 : decode cX2_cared 14 = .ok (.istore_n 3, 1) := dk_62 (dk_at dksX2_cared_0 14 rfl rfl)
theorem dX2_cared_15 : decode cX2_cared 15 = .ok (.iload_n 3, 1) := dk_29 (dk_at dksX2_cared_0 15 rfl rfl)
theorem dX2_cared_16 : decode cX2_cared 16 = .ok (.aload_n 0, 1) := dk_42 (dk_at dksX2_cared_0 16 rfl rfl)
theorem dX2_cared_17 : decode cX2_cared 17 = .ok (.getfield 101, 3) := dk_180 0 101 (dk_at dksX2_cared_0 17 rfl rfl)
theorem dX2_cared_20 : decode cX2_cared 20 = .ok (.if_icmp .ge 43, 3) := dk_162 0 43 (dk_at dksX2_cared_0 20 rfl rfl)
theorem dX2_cared_23 : decode cX2_cared 23 = .ok (.iload_n 2, 1) := dk_28 (dk_at dksX2_cared_0 23 rfl rfl)
theorem dX2_cared_24 : decode cX2_cared 24 = .ok (.iload_n 1, 1) := dk_27 (dk_at dksX2_cared_1 0 rfl rfl)
theorem dX2_cared_25 : decode cX2_cared 25 = .ok (.ifCond .ne 14, 3) := dk_154 0 14 (dk_at dksX2_cared_1 1 rfl rfl)
theorem dX2_cared_28 : decode cX2_cared 28 = .ok (.aload_n 0, 1) := dk_42 (dk_at dksX2_cared_1 4 rfl rfl)
theorem dX2_cared_29 : decode cX2_cared 29 = .ok (.iload_n 3, 1) := dk_29 (dk_at dksX2_cared_1 5 rfl rfl)
theorem dX2_cared_30 : decode cX2_cared 30 = .ok (.invokevirtual 196, 3) := dk_182 0 196 (dk_at dksX2_cared_1 6 rfl rfl)
theorem dX2_cared_33 : decode cX2_cared 33 = .ok (.ifCond .ne 21, 3) := dk_154 0 21 (dk_at dksX2_cared_1 9 rfl rfl)
theorem dX2_cared_36 : decode cX2_cared 36 = .ok (.goto 12, 3) := dk_167 0 12 (dk_at dksX2_cared_1 12 rfl rfl)
theorem dX2_cared_39 : decode cX2_cared 39 = .ok (.aload_n 0, 1) := dk_42 (dk_at dksX2_cared_1 15 rfl rfl)
theorem dX2_cared_40 : decode cX2_cared 40 = .ok (.iload_n 3, 1) := dk_29 (dk_at dksX2_cared_1 16 rfl rfl)
theorem dX2_cared_41 : decode cX2_cared 41 = .ok (.invokevirtual 196, 3) := dk_182 0 196 (dk_at dksX2_cared_1 17 rfl rfl)
theorem dX2_cared_44 : decode cX2_cared 44 = .ok (.iconst 1, 1) := dk_4 (dk_at dksX2_cared_1 20 rfl rfl)
theorem dX2_cared_45 : decode cX2_cared 45 = .ok (.if_icmp .le 9, 3) := dk_164 0 9 (dk_at dksX2_cared_1 21 rfl rfl)
theorem dX2_cared_48 : decode cX2_cared 48 = .ok (.iconst 1, 1) := dk_4 (dk_at dksX2_cared_2 0 rfl rfl)
theorem dX2_cared_49 : decode cX2_cared 49 = .ok (.iload_n 3, 1) := dk_29 (dk_at dksX2_cared_2 1 rfl rfl)
theorem dX2_cared_50 : decode cX2_cared 50 = .ok (.ishl, 1) := dk_120 (dk_at dksX2_cared_2 2 rfl rfl)
theorem dX2_cared_51 : decode cX2_cared 51 = .ok (.goto 4, 3) := dk_167 0 4 (dk_at dksX2_cared_2 3 rfl rfl)
theorem dX2_cared_54 : decode cX2_cared 54 = .ok (.iconst 0, 1) := dk_3 (dk_at dksX2_cared_2 6 rfl rfl)
theorem dX2_cared_55 : decode cX2_cared 55 = .ok (.ior, 1) := dk_128 (dk_at dksX2_cared_2 7 rfl rfl)
theorem dX2_cared_56 : decode cX2_cared 56 = .ok (.istore_n 2, 1) := dk_61 (dk_at dksX2_cared_2 8 rfl rfl)
theorem dX2_cared_57 : decode cX2_cared 57 = .ok (.iinc 3 1, 3) := dk_132 3 1 (dk_at dksX2_cared_2 9 rfl rfl)
theorem dX2_cared_60 : decode cX2_cared 60 = .ok (.goto (-45), 3) := dk_167 255 211 (dk_at dksX2_cared_2 12 rfl rfl)
theorem dX2_cared_63 : decode cX2_cared 63 = .ok (.iload_n 2, 1) := dk_28 (dk_at dksX2_cared_2 15 rfl rfl)
theorem dX2_cared_64 : decode cX2_cared 64 = .ok (.ireturn, 1) := dk_172 (dk_at dksX2_cared_2 16 rfl rfl)
abbrev cX2_round : ByteArray := prog_31_method_49_code
def yX2_round : MethodName := ⟨RX2, "round", "(II)I"⟩
def dkwX2_round_3 : List UInt8 := [16, 254, 160, 0, 10, 42, 180, 0, 248, 167, 0, 9, 42, 180, 0, 55, 28, 46, 172]
abbrev dktX2_round_3 : List UInt8 := dkwX2_round_3 ++ []
def dkwX2_round_2 : List UInt8 := [181, 0, 235, 42, 3, 3, 4, 3, 182, 1, 1, 28, 2, 160, 0, 10, 42, 180, 0, 245, 167, 0, 22, 28]
abbrev dktX2_round_2 : List UInt8 := dkwX2_round_2 ++ dktX2_round_3
def dkwX2_round_1 : List UInt8 := [154, 0, 5, 2, 172, 42, 180, 0, 101, 5, 162, 0, 6, 16, 254, 172, 42, 182, 1, 6, 42, 27]
abbrev dktX2_round_1 : List UInt8 := dkwX2_round_1 ++ dktX2_round_2
def dkwX2_round_0 : List UInt8 := [27, 3, 16, 6, 184, 0, 104, 153, 0, 18, 28, 16, 254, 42, 180, 0, 101, 4, 100, 184, 0, 104]
abbrev dktX2_round_0 : List UInt8 := dkwX2_round_0 ++ dktX2_round_1
theorem dksX2_round_0 : cX2_round.data.toList.drop 0 = dktX2_round_0 := by decide +kernel
theorem dksX2_round_1 : cX2_round.data.toList.drop 22 = dktX2_round_1 := dk_seg dksX2_round_0 22 rfl rfl
theorem dksX2_round_2 : cX2_round.data.toList.drop 44 = dktX2_round_2 := dk_seg dksX2_round_1 22 rfl rfl
theorem dksX2_round_3 : cX2_round.data.toList.drop 68 = dktX2_round_3 := dk_seg dksX2_round_2 24 rfl rfl
theorem dX2_round_0 : decode cX2_round 0 = .ok (.iload_n 1, 1) := dk_27 (dk_at dksX2_round_0 0 rfl rfl)
theorem dX2_round_1 : decode cX2_round 1 = .ok (.iconst 0, 1) := dk_3 (dk_at dksX2_round_0 1 rfl rfl)
theorem dX2_round_2 : decode cX2_round 2 = .ok (.bipush 6, 2) := dk_16 6 (dk_at dksX2_round_0 2 rfl rfl)
theorem dX2_round_4 : decode cX2_round 4 = .ok (.invokestatic 104, 3) := dk_184 0 104 (dk_at dksX2_round_0 4 rfl rfl)
theorem dX2_round_7 : decode cX2_round 7 = .ok (.ifCond .eq 18, 3) := dk_153 0 18 (dk_at dksX2_round_0 7 rfl rfl)
theorem dX2_round_10 : decode cX2_round 10 = .ok (.iload_n 2, 1) := dk_28 (dk_at dksX2_round_0 10 rfl rfl)
theorem dX2_round_11 : decode cX2_round 11 = .ok (.bipush (-2), 2) := dk_16 254 (dk_at dksX2_round_0 11 rfl rfl)
theorem dX2_round_13 : decode cX2_round 13 = .ok (.aload_n 0, 1) := dk_42 (dk_at dksX2_round_0 13 rfl rfl)
theorem dX2_round_14 : decode cX2_round 14 = .ok (.getfield 101, 3) := dk_180 0 101 (dk_at dksX2_round_0 14 rfl rfl)
theorem dX2_round_17 : decode cX2_round 17 = .ok (.iconst 1, 1) := dk_4 (dk_at dksX2_round_0 17 rfl rfl)
theorem dX2_round_18 : decode cX2_round 18 = .ok (.isub, 1) := dk_100 (dk_at dksX2_round_0 18 rfl rfl)
theorem dX2_round_19 : decode cX2_round 19 = .ok (.invokestatic 104, 3) := dk_184 0 104 (dk_at dksX2_round_0 19 rfl rfl)
theorem dX2_round_22 : decode cX2_round 22 = .ok (.ifCond .ne 5, 3) := dk_154 0 5 (dk_at dksX2_round_1 0 rfl rfl)
theorem dX2_round_25 : decode cX2_round 25 = .ok (.iconst (-1), 1) := dk_2 (dk_at dksX2_round_1 3 rfl rfl)
theorem dX2_round_26 : decode cX2_round 26 = .ok (.ireturn, 1) := dk_172 (dk_at dksX2_round_1 4 rfl rfl)
theorem dX2_round_27 : decode cX2_round 27 = .ok (.aload_n 0, 1) := dk_42 (dk_at dksX2_round_1 5 rfl rfl)
theorem dX2_round_28 : decode cX2_round 28 = .ok (.getfield 101, 3) := dk_180 0 101 (dk_at dksX2_round_1 6 rfl rfl)
theorem dX2_round_31 : decode cX2_round 31 = .ok (.iconst 2, 1) := dk_5 (dk_at dksX2_round_1 9 rfl rfl)
theorem dX2_round_32 : decode cX2_round 32 = .ok (.if_icmp .ge 6, 3) := dk_162 0 6 (dk_at dksX2_round_1 10 rfl rfl)
theorem dX2_round_35 : decode cX2_round 35 = .ok (.bipush (-2), 2) := dk_16 254 (dk_at dksX2_round_1 13 rfl rfl)
theorem dX2_round_37 : decode cX2_round 37 = .ok (.ireturn, 1) := dk_172 (dk_at dksX2_round_1 15 rfl rfl)
theorem dX2_round_38 : decode cX2_round 38 = .ok (.aload_n 0, 1) := dk_42 (dk_at dksX2_round_1 16 rfl rfl)
theorem dX2_round_39 : decode cX2_round 39 = .ok (.invokevirtual 262, 3) := dk_182 1 6 (dk_at dksX2_round_1 17 rfl rfl)
theorem dX2_round_42 : decode cX2_round 42 = .ok (.aload_n 0, 1) := dk_42 (dk_at dksX2_round_1 20 rfl rfl)
theorem dX2_round_43 : decode cX2_round 43 = .ok (.iload_n 1, 1) := dk_27 (dk_at dksX2_round_1 21 rfl rfl)
theorem dX2_round_44 : decode cX2_round 44 = .ok (.putfield 235, 3) := dk_181 0 235 (dk_at dksX2_round_2 0 rfl rfl)
theorem dX2_round_47 : decode cX2_round 47 = .ok (.aload_n 0, 1) := dk_42 (dk_at dksX2_round_2 3 rfl rfl)
theorem dX2_round_48 : decode cX2_round 48 = .ok (.iconst 0, 1) := dk_3 (dk_at dksX2_round_2 4 rfl rfl)
theorem dX2_round_49 : decode cX2_round 49 = .ok (.iconst 0, 1) := dk_3 (dk_at dksX2_round_2 5 rfl rfl)
theorem dX2_round_50 : decode cX2_round 50 = .ok (.iconst 1, 1) := dk_4 (dk_at dksX2_round_2 6 rfl rfl)
theorem dX2_round_51 : decode cX2_round 51 = .ok (.iconst 0, 1) := dk_3 (dk_at dksX2_round_2 7 rfl rfl)
theorem dX2_round_52 : decode cX2_round 52 = .ok (.invokevirtual 257, 3) := dk_182 1 1 (dk_at dksX2_round_2 8 rfl rfl)
theorem dX2_round_55 : decode cX2_round 55 = .ok (.iload_n 2, 1) := dk_28 (dk_at dksX2_round_2 11 rfl rfl)
theorem dX2_round_56 : decode cX2_round 56 = .ok (.iconst (-1), 1) := dk_2 (dk_at dksX2_round_2 12 rfl rfl)
theorem dX2_round_57 : decode cX2_round 57 = .ok (.if_icmp .ne 10, 3) := dk_160 0 10 (dk_at dksX2_round_2 13 rfl rfl)
theorem dX2_round_60 : decode cX2_round 60 = .ok (.aload_n 0, 1) := dk_42 (dk_at dksX2_round_2 16 rfl rfl)
theorem dX2_round_61 : decode cX2_round 61 = .ok (.getfield 245, 3) := dk_180 0 245 (dk_at dksX2_round_2 17 rfl rfl)
theorem dX2_round_64 : decode cX2_round 64 = .ok (.goto 22, 3) := dk_167 0 22 (dk_at dksX2_round_2 20 rfl rfl)
theorem dX2_round_67 : decode cX2_round 67 = .ok (.iload_n 2, 1) := dk_28 (dk_at dksX2_round_2 23 rfl rfl)
theorem dX2_round_68 : decode cX2_round 68 = .ok (.bipush (-2), 2) := dk_16 254 (dk_at dksX2_round_3 0 rfl rfl)
theorem dX2_round_70 : decode cX2_round 70 = .ok (.if_icmp .ne 10, 3) := dk_160 0 10 (dk_at dksX2_round_3 2 rfl rfl)
theorem dX2_round_73 : decode cX2_round 73 = .ok (.aload_n 0, 1) := dk_42 (dk_at dksX2_round_3 5 rfl rfl)
theorem dX2_round_74 : decode cX2_round 74 = .ok (.getfield 248, 3) := dk_180 0 248 (dk_at dksX2_round_3 6 rfl rfl)
theorem dX2_round_77 : decode cX2_round 77 = .ok (.goto 9, 3) := dk_167 0 9 (dk_at dksX2_round_3 9 rfl rfl)
theorem dX2_round_80 : decode cX2_round 80 = .ok (.aload_n 0, 1) := dk_42 (dk_at dksX2_round_3 12 rfl rfl)
theorem dX2_round_81 : decode cX2_round 81 = .ok (.getfield 55, 3) := dk_180 0 55 (dk_at dksX2_round_3 13 rfl rfl)
theorem dX2_round_84 : decode cX2_round 84 = .ok (.iload_n 2, 1) := dk_28 (dk_at dksX2_round_3 16 rfl rfl)
theorem dX2_round_85 : decode cX2_round 85 = .ok (.iaload, 1) := dk_46 (dk_at dksX2_round_3 17 rfl rfl)
theorem dX2_round_86 : decode cX2_round 86 = .ok (.ireturn, 1) := dk_172 (dk_at dksX2_round_3 18 rfl rfl)
abbrev cX2_begin : ByteArray := prog_31_method_48_code
def yX2_begin : MethodName := ⟨RX2, "begin", "()V"⟩
def dkwX2_begin_0 : List UInt8 := [42, 19, 1, 5, 181, 0, 245, 42, 2, 181, 0, 248, 177]
abbrev dktX2_begin_0 : List UInt8 := dkwX2_begin_0 ++ []
theorem dksX2_begin_0 : cX2_begin.data.toList.drop 0 = dktX2_begin_0 := by decide +kernel
theorem dX2_begin_0 : decode cX2_begin 0 = .ok (.aload_n 0, 1) := dk_42 (dk_at dksX2_begin_0 0 rfl rfl)
theorem dX2_begin_1 : decode cX2_begin 1 = .ok (.ldc_w 261, 3) := dk_19 1 5 (dk_at dksX2_begin_0 1 rfl rfl)
theorem dX2_begin_4 : decode cX2_begin 4 = .ok (.putfield 245, 3) := dk_181 0 245 (dk_at dksX2_begin_0 4 rfl rfl)
theorem dX2_begin_7 : decode cX2_begin 7 = .ok (.aload_n 0, 1) := dk_42 (dk_at dksX2_begin_0 7 rfl rfl)
theorem dX2_begin_8 : decode cX2_begin 8 = .ok (.iconst (-1), 1) := dk_2 (dk_at dksX2_begin_0 8 rfl rfl)
theorem dX2_begin_9 : decode cX2_begin 9 = .ok (.putfield 248, 3) := dk_181 0 248 (dk_at dksX2_begin_0 9 rfl rfl)
theorem dX2_begin_12 : decode cX2_begin 12 = .ok (.return_, 1) := dk_177 (dk_at dksX2_begin_0 12 rfl rfl)
abbrev cX2_care_2 : ByteArray := prog_31_method_47_code
def yX2_care_2 : MethodName := ⟨RX2, "care", "(IIZI)V"⟩
def dkwX2_care_2_4 : List UInt8 := [167, 0, 4, 4, 96, 182, 1, 1, 132, 5, 1, 167, 255, 188, 177]
abbrev dktX2_care_2_4 : List UInt8 := dkwX2_care_2_4 ++ []
def dkwX2_care_2_3 : List UInt8 := [27, 4, 96, 28, 4, 21, 5, 120, 128, 29, 21, 4, 42, 27, 7, 182, 0, 191, 21, 5, 160, 0, 7, 3]
abbrev dktX2_care_2_3 : List UInt8 := dkwX2_care_2_3 ++ dktX2_care_2_4
def dkwX2_care_2_2 : List UInt8 := [21, 5, 27, 159, 0, 53, 28, 21, 5, 122, 4, 126, 154, 0, 44, 42, 180, 0, 52, 27, 21, 5, 79, 42]
abbrev dktX2_care_2_2 : List UInt8 := dkwX2_care_2_2 ++ dktX2_care_2_3
def dkwX2_care_2_1 : List UInt8 := [182, 0, 251, 153, 0, 7, 42, 182, 0, 254, 177, 3, 54, 5, 21, 5, 42, 180, 0, 101, 162, 0, 65]
abbrev dktX2_care_2_1 : List UInt8 := dkwX2_care_2_1 ++ dktX2_care_2_2
def dkwX2_care_2_0 : List UInt8 := [27, 42, 180, 0, 101, 160, 0, 29, 29, 154, 0, 13, 42, 21, 4, 3, 182, 0, 241, 167, 0, 14, 42]
abbrev dktX2_care_2_0 : List UInt8 := dkwX2_care_2_0 ++ dktX2_care_2_1
theorem dksX2_care_2_0 : cX2_care_2.data.toList.drop 0 = dktX2_care_2_0 := by decide +kernel
theorem dksX2_care_2_1 : cX2_care_2.data.toList.drop 23 = dktX2_care_2_1 := dk_seg dksX2_care_2_0 23 rfl rfl
theorem dksX2_care_2_2 : cX2_care_2.data.toList.drop 46 = dktX2_care_2_2 := dk_seg dksX2_care_2_1 23 rfl rfl
theorem dksX2_care_2_3 : cX2_care_2.data.toList.drop 70 = dktX2_care_2_3 := dk_seg dksX2_care_2_2 24 rfl rfl
theorem dksX2_care_2_4 : cX2_care_2.data.toList.drop 94 = dktX2_care_2_4 := dk_seg dksX2_care_2_3 24 rfl rfl
theorem dX2_care_2_0 : decode cX2_care_2 0 = .ok (.iload_n 1, 1) := dk_27 (dk_at dksX2_care_2_0 0 rfl rfl)
theorem dX2_care_2_1 : decode cX2_care_2 1 = .ok (.aload_n 0, 1) := dk_42 (dk_at dksX2_care_2_0 1 rfl rfl)
theorem dX2_care_2_2 : decode cX2_care_2 2 = .ok (.getfield 101, 3) := dk_180 0 101 (dk_at dksX2_care_2_0 2 rfl rfl)
theorem dX2_care_2_5 : decode cX2_care_2 5 = .ok (.if_icmp .ne 29, 3) := dk_160 0 29 (dk_at dksX2_care_2_0 5 rfl rfl)
theorem dX2_care_2_8 : decode cX2_care_2 8 = .ok (.iload_n 3, 1) := dk_29 (dk_at dksX2_care_2_0 8 rfl rfl)
theorem dX2_care_2_9 : decode cX2_care_2 9 = .ok (.ifCond .ne 13, 3) := dk_154 0 13 (dk_at dksX2_care_2_0 9 rfl rfl)
theorem dX2_care_2_12 : decode cX2_care_2 12 = .ok (.aload_n 0, 1) := dk_42 (dk_at dksX2_care_2_0 12 rfl rfl)
theorem dX2_care_2_13 : decode cX2_care_2 13 = .ok (.iload 4, 2) := dk_21 4 (dk_at dksX2_care_2_0 13 rfl rfl)
theorem dX2_care_2_15 : decode cX2_care_2 15 = .ok (.iconst 0, 1) := dk_3 (dk_at dksX2_care_2_0 15 rfl rfl)
theorem dX2_care_2_16 : decode cX2_care_2 16 = .ok (.invokevirtual 241, 3) := dk_182 0 241 (dk_at dksX2_care_2_0 16 rfl rfl)
theorem dX2_care_2_19 : decode cX2_care_2 19 = .ok (.goto 14, 3) := dk_167 0 14 (dk_at dksX2_care_2_0 19 rfl rfl)
theorem dX2_care_2_22 : decode cX2_care_2 22 = .ok (.aload_n 0, 1) := dk_42 (dk_at dksX2_care_2_0 22 rfl rfl)
theorem dX2_care_2_23 : decode cX2_care_2 23 = .ok (.invokevirtual 251, 3) := dk_182 0 251 (dk_at dksX2_care_2_1 0 rfl rfl)
theorem dX2_care_2_26 : decode cX2_care_2 26 = .ok (.ifCond .eq 7, 3) := dk_153 0 7 (dk_at dksX2_care_2_1 3 rfl rfl)
theorem dX2_care_2_29 : decode cX2_care_2 29 = .ok (.aload_n 0, 1) := dk_42 (dk_at dksX2_care_2_1 6 rfl rfl)
theorem dX2_care_2_30 : decode cX2_care_2 30 = .ok (.invokevirtual 254, 3) := dk_182 0 254 (dk_at dksX2_care_2_1 7 rfl rfl)
theorem dX2_care_2_33 : decode cX2_care_2 33 = .ok (.return_, 1) := dk_177 (dk_at dksX2_care_2_1 10 rfl rfl)
theorem dX2_care_2_34 : decode cX2_care_2 34 = .ok (.iconst 0, 1) := dk_3 (dk_at dksX2_care_2_1 11 rfl rfl)
theorem dX2_care_2_35 : decode cX2_care_2 35 = .ok (.istore 5, 2) := dk_54 5 (dk_at dksX2_care_2_1 12 rfl rfl)
theorem dX2_care_2_37 : decode cX2_care_2 37 = .ok (.iload 5, 2) := dk_21 5 (dk_at dksX2_care_2_1 14 rfl rfl)
theorem dX2_care_2_39 : decode cX2_care_2 39 = .ok (.aload_n 0, 1) := dk_42 (dk_at dksX2_care_2_1 16 rfl rfl)
theorem dX2_care_2_40 : decode cX2_care_2 40 = .ok (.getfield 101, 3) := dk_180 0 101 (dk_at dksX2_care_2_1 17 rfl rfl)
theorem dX2_care_2_43 : decode cX2_care_2 43 = .ok (.if_icmp .ge 65, 3) := dk_162 0 65 (dk_at dksX2_care_2_1 20 rfl rfl)
theorem dX2_care_2_46 : decode cX2_care_2 46 = .ok (.iload 5, 2) := dk_21 5 (dk_at dksX2_care_2_2 0 rfl rfl)
theorem dX2_care_2_48 : decode cX2_care_2 48 = .ok (.iload_n 1, 1) := dk_27 (dk_at dksX2_care_2_2 2 rfl rfl)
theorem dX2_care_2_49 : decode cX2_care_2 49 = .ok (.if_icmp .eq 53, 3) := dk_159 0 53 (dk_at dksX2_care_2_2 3 rfl rfl)
theorem dX2_care_2_52 : decode cX2_care_2 52 = .ok (.iload_n 2, 1) := dk_28 (dk_at dksX2_care_2_2 6 rfl rfl)
theorem dX2_care_2_53 : decode cX2_care_2 53 = .ok (.iload 5, 2) := dk_21 5 (dk_at dksX2_care_2_2 7 rfl rfl)
theorem dX2_care_2_55 : decode cX2_care_2 55 = .ok (.ishr, 1) := dk_122 (dk_at dksX2_care_2_2 9 rfl rfl)
theorem dX2_care_2_56 : decode cX2_care_2 56 = .ok (.iconst 1, 1) := dk_4 (dk_at dksX2_care_2_2 10 rfl rfl)
theorem dX2_care_2_57 : decode cX2_care_2 57 = .ok (.iand, 1) := dk_126 (dk_at dksX2_care_2_2 11 rfl rfl)
theorem dX2_care_2_58 : decode cX2_care_2 58 = .ok (.ifCond .ne 44, 3) := dk_154 0 44 (dk_at dksX2_care_2_2 12 rfl rfl)
theorem dX2_care_2_61 : decode cX2_care_2 61 = .ok (.aload_n 0, 1) := dk_42 (dk_at dksX2_care_2_2 15 rfl rfl)
theorem dX2_care_2_62 : decode cX2_care_2 62 = .ok (.getfield 52, 3) := dk_180 0 52 (dk_at dksX2_care_2_2 16 rfl rfl)
theorem dX2_care_2_65 : decode cX2_care_2 65 = .ok (.iload_n 1, 1) := dk_27 (dk_at dksX2_care_2_2 19 rfl rfl)
theorem dX2_care_2_66 : decode cX2_care_2 66 = .ok (.iload 5, 2) := dk_21 5 (dk_at dksX2_care_2_2 20 rfl rfl)
theorem dX2_care_2_68 : decode cX2_care_2 68 = .ok (.iastore, 1) := dk_79 (dk_at dksX2_care_2_2 22 rfl rfl)
theorem dX2_care_2_69 : decode cX2_care_2 69 = .ok (.aload_n 0, 1) := dk_42 (dk_at dksX2_care_2_2 23 rfl rfl)
theorem dX2_care_2_70 : decode cX2_care_2 70 = .ok (.iload_n 1, 1) := dk_27 (dk_at dksX2_care_2_3 0 rfl rfl)
theorem dX2_care_2_71 : decode cX2_care_2 71 = .ok (.iconst 1, 1) := dk_4 (dk_at dksX2_care_2_3 1 rfl rfl)
theorem dX2_care_2_72 : decode cX2_care_2 72 = .ok (.iadd, 1) := dk_96 (dk_at dksX2_care_2_3 2 rfl rfl)
theorem dX2_care_2_73 : decode cX2_care_2 73 = .ok (.iload_n 2, 1) := dk_28 (dk_at dksX2_care_2_3 3 rfl rfl)
theorem dX2_care_2_74 : decode cX2_care_2 74 = .ok (.iconst 1, 1) := dk_4 (dk_at dksX2_care_2_3 4 rfl rfl)
theorem dX2_care_2_75 : decode cX2_care_2 75 = .ok (.iload 5, 2) := dk_21 5 (dk_at dksX2_care_2_3 5 rfl rfl)
theorem dX2_care_2_77 : decode cX2_care_2 77 = .ok (.ishl, 1) := dk_120 (dk_at dksX2_care_2_3 7 rfl rfl)
theorem dX2_care_2_78 : decode cX2_care_2 78 = .ok (.ior, 1) := dk_128 (dk_at dksX2_care_2_3 8 rfl rfl)
theorem dX2_care_2_79 : decode cX2_care_2 79 = .ok (.iload_n 3, 1) := dk_29 (dk_at dksX2_care_2_3 9 rfl rfl)
theorem dX2_care_2_80 : decode cX2_care_2 80 = .ok (.iload 4, 2) := dk_21 4 (dk_at dksX2_care_2_3 10 rfl rfl)
theorem dX2_care_2_82 : decode cX2_care_2 82 = .ok (.aload_n 0, 1) := dk_42 (dk_at dksX2_care_2_3 12 rfl rfl)
theorem dX2_care_2_83 : decode cX2_care_2 83 = .ok (.iload_n 1, 1) := dk_27 (dk_at dksX2_care_2_3 13 rfl rfl)
theorem dX2_care_2_84 : decode cX2_care_2 84 = .ok (.iconst 4, 1) := dk_7 (dk_at dksX2_care_2_3 14 rfl rfl)
theorem dX2_care_2_85 : decode cX2_care_2 85 = .ok (.invokevirtual 191, 3) := dk_182 0 191 (dk_at dksX2_care_2_3 15 rfl rfl)
theorem dX2_care_2_88 : decode cX2_care_2 88 = .ok (.iload 5, 2) := dk_21 5 (dk_at dksX2_care_2_3 18 rfl rfl)
theorem dX2_care_2_90 : decode cX2_care_2 90 = .ok (.if_icmp .ne 7, 3) := dk_160 0 7 (dk_at dksX2_care_2_3 20 rfl rfl)
theorem dX2_care_2_93 : decode cX2_care_2 93 = .ok (.iconst 0, 1) := dk_3 (dk_at dksX2_care_2_3 23 rfl rfl)
theorem dX2_care_2_94 : decode cX2_care_2 94 = .ok (.goto 4, 3) := dk_167 0 4 (dk_at dksX2_care_2_4 0 rfl rfl)
theorem dX2_care_2_97 : decode cX2_care_2 97 = .ok (.iconst 1, 1) := dk_4 (dk_at dksX2_care_2_4 3 rfl rfl)
theorem dX2_care_2_98 : decode cX2_care_2 98 = .ok (.iadd, 1) := dk_96 (dk_at dksX2_care_2_4 4 rfl rfl)
theorem dX2_care_2_99 : decode cX2_care_2 99 = .ok (.invokevirtual 257, 3) := dk_182 1 1 (dk_at dksX2_care_2_4 5 rfl rfl)
theorem dX2_care_2_102 : decode cX2_care_2 102 = .ok (.iinc 5 1, 3) := dk_132 5 1 (dk_at dksX2_care_2_4 8 rfl rfl)
theorem dX2_care_2_105 : decode cX2_care_2 105 = .ok (.goto (-68), 3) := dk_167 255 188 (dk_at dksX2_care_2_4 11 rfl rfl)
theorem dX2_care_2_108 : decode cX2_care_2 108 = .ok (.return_, 1) := dk_177 (dk_at dksX2_care_2_4 14 rfl rfl)
abbrev cX2_take : ByteArray := prog_31_method_46_code
def yX2_take : MethodName := ⟨RX2, "take", "(II)V"⟩
def dkwX2_take_2 : List UInt8 := [29, 42, 180, 0, 52, 29, 46, 79, 132, 3, 1, 167, 255, 233, 177]
abbrev dktX2_take_2 : List UInt8 := dkwX2_take_2 ++ []
def dkwX2_take_1 : List UInt8 := [42, 27, 181, 0, 245, 42, 28, 181, 0, 248, 3, 62, 29, 42, 180, 0, 101, 162, 0, 21, 42, 180, 0, 55]
abbrev dktX2_take_1 : List UInt8 := dkwX2_take_1 ++ dktX2_take_2
def dkwX2_take_0 : List UInt8 := [27, 42, 180, 0, 245, 161, 0, 19, 27, 42, 180, 0, 245, 160, 0, 49, 28, 42, 180, 0, 248, 164, 0, 41]
abbrev dktX2_take_0 : List UInt8 := dkwX2_take_0 ++ dktX2_take_1
theorem dksX2_take_0 : cX2_take.data.toList.drop 0 = dktX2_take_0 := by decide +kernel
theorem dksX2_take_1 : cX2_take.data.toList.drop 24 = dktX2_take_1 := dk_seg dksX2_take_0 24 rfl rfl
theorem dksX2_take_2 : cX2_take.data.toList.drop 48 = dktX2_take_2 := dk_seg dksX2_take_1 24 rfl rfl
theorem dX2_take_0 : decode cX2_take 0 = .ok (.iload_n 1, 1) := dk_27 (dk_at dksX2_take_0 0 rfl rfl)
theorem dX2_take_1 : decode cX2_take 1 = .ok (.aload_n 0, 1) := dk_42 (dk_at dksX2_take_0 1 rfl rfl)
theorem dX2_take_2 : decode cX2_take 2 = .ok (.getfield 245, 3) := dk_180 0 245 (dk_at dksX2_take_0 2 rfl rfl)
theorem dX2_take_5 : decode cX2_take 5 = .ok (.if_icmp .lt 19, 3) := dk_161 0 19 (dk_at dksX2_take_0 5 rfl rfl)
theorem dX2_take_8 : decode cX2_take 8 = .ok (.iload_n 1, 1) := dk_27 (dk_at dksX2_take_0 8 rfl rfl)
theorem dX2_take_9 : decode cX2_take 9 = .ok (.aload_n 0, 1) := dk_42 (dk_at dksX2_take_0 9 rfl rfl)
theorem dX2_take_10 : decode cX2_take 10 = .ok (.getfield 245, 3) := dk_180 0 245 (dk_at dksX2_take_0 10 rfl rfl)
theorem dX2_take_13 : decode cX2_take 13 = .ok (.if_icmp .ne 49, 3) := dk_160 0 49 (dk_at dksX2_take_0 13 rfl rfl)
theorem dX2_take_16 : decode cX2_take 16 = .ok (.iload_n 2, 1) := dk_28 (dk_at dksX2_take_0 16 rfl rfl)
theorem dX2_take_17 : decode cX2_take 17 = .ok (.aload_n 0, 1) := dk_42 (dk_at dksX2_take_0 17 rfl rfl)
theorem dX2_take_18 : decode cX2_take 18 = .ok (.getfield 248, 3) := dk_180 0 248 (dk_at dksX2_take_0 18 rfl rfl)
theorem dX2_take_21 : decode cX2_take 21 = .ok (.if_icmp .le 41, 3) := dk_164 0 41 (dk_at dksX2_take_0 21 rfl rfl)
theorem dX2_take_24 : decode cX2_take 24 = .ok (.aload_n 0, 1) := dk_42 (dk_at dksX2_take_1 0 rfl rfl)
theorem dX2_take_25 : decode cX2_take 25 = .ok (.iload_n 1, 1) := dk_27 (dk_at dksX2_take_1 1 rfl rfl)
theorem dX2_take_26 : decode cX2_take 26 = .ok (.putfield 245, 3) := dk_181 0 245 (dk_at dksX2_take_1 2 rfl rfl)
theorem dX2_take_29 : decode cX2_take 29 = .ok (.aload_n 0, 1) := dk_42 (dk_at dksX2_take_1 5 rfl rfl)
theorem dX2_take_30 : decode cX2_take 30 = .ok (.iload_n 2, 1) := dk_28 (dk_at dksX2_take_1 6 rfl rfl)
theorem dX2_take_31 : decode cX2_take 31 = .ok (.putfield 248, 3) := dk_181 0 248 (dk_at dksX2_take_1 7 rfl rfl)
theorem dX2_take_34 : decode cX2_take 34 = .ok (.iconst 0, 1) := dk_3 (dk_at dksX2_take_1 10 rfl rfl)
theorem dX2_take_35 : decode cX2_take 35 = .ok (.istore_n 3, 1) := dk_62 (dk_at dksX2_take_1 11 rfl rfl)
theorem dX2_take_36 : decode cX2_take 36 = .ok (.iload_n 3, 1) := dk_29 (dk_at dksX2_take_1 12 rfl rfl)
theorem dX2_take_37 : decode cX2_take 37 = .ok (.aload_n 0, 1) := dk_42 (dk_at dksX2_take_1 13 rfl rfl)
theorem dX2_take_38 : decode cX2_take 38 = .ok (.getfield 101, 3) := dk_180 0 101 (dk_at dksX2_take_1 14 rfl rfl)
theorem dX2_take_41 : decode cX2_take 41 = .ok (.if_icmp .ge 21, 3) := dk_162 0 21 (dk_at dksX2_take_1 17 rfl rfl)
theorem dX2_take_44 : decode cX2_take 44 = .ok (.aload_n 0, 1) := dk_42 (dk_at dksX2_take_1 20 rfl rfl)
theorem dX2_take_45 : decode cX2_take 45 = .ok (.getfield 55, 3) := dk_180 0 55 (dk_at dksX2_take_1 21 rfl rfl)
theorem dX2_take_48 : decode cX2_take 48 = .ok (.iload_n 3, 1) := dk_29 (dk_at dksX2_take_2 0 rfl rfl)
theorem dX2_take_49 : decode cX2_take 49 = .ok (.aload_n 0, 1) := dk_42 (dk_at dksX2_take_2 1 rfl rfl)
theorem dX2_take_50 : decode cX2_take 50 = .ok (.getfield 52, 3) := dk_180 0 52 (dk_at dksX2_take_2 2 rfl rfl)
theorem dX2_take_53 : decode cX2_take 53 = .ok (.iload_n 3, 1) := dk_29 (dk_at dksX2_take_2 5 rfl rfl)
theorem dX2_take_54 : decode cX2_take 54 = .ok (.iaload, 1) := dk_46 (dk_at dksX2_take_2 6 rfl rfl)
theorem dX2_take_55 : decode cX2_take 55 = .ok (.iastore, 1) := dk_79 (dk_at dksX2_take_2 7 rfl rfl)
theorem dX2_take_56 : decode cX2_take 56 = .ok (.iinc 3 1, 3) := dk_132 3 1 (dk_at dksX2_take_2 8 rfl rfl)
theorem dX2_take_59 : decode cX2_take 59 = .ok (.goto (-23), 3) := dk_167 255 233 (dk_at dksX2_take_2 11 rfl rfl)
theorem dX2_take_62 : decode cX2_take 62 = .ok (.return_, 1) := dk_177 (dk_at dksX2_take_2 14 rfl rfl)
abbrev cX2_isRing : ByteArray := prog_31_method_44_code
def yX2_isRing : MethodName := ⟨RX2, "isRing", "()Z"⟩
def dkwX2_isRing_1 : List UInt8 := [172, 132, 2, 1, 167, 255, 232, 42, 180, 0, 52, 27, 46, 154, 0, 7, 4, 167, 0, 4, 3, 172]
abbrev dktX2_isRing_1 : List UInt8 := dkwX2_isRing_1 ++ []
def dkwX2_isRing_0 : List UInt8 := [3, 60, 4, 61, 28, 42, 180, 0, 101, 162, 0, 22, 42, 180, 0, 52, 27, 46, 60, 27, 154, 0, 5, 3]
abbrev dktX2_isRing_0 : List UInt8 := dkwX2_isRing_0 ++ dktX2_isRing_1
theorem dksX2_isRing_0 : cX2_isRing.data.toList.drop 0 = dktX2_isRing_0 := by decide +kernel
theorem dksX2_isRing_1 : cX2_isRing.data.toList.drop 24 = dktX2_isRing_1 := dk_seg dksX2_isRing_0 24 rfl rfl
theorem dX2_isRing_0 : decode cX2_isRing 0 = .ok (.iconst 0, 1) := dk_3 (dk_at dksX2_isRing_0 0 rfl rfl)
theorem dX2_isRing_1 : decode cX2_isRing 1 = .ok (.istore_n 1, 1) := dk_60 (dk_at dksX2_isRing_0 1 rfl rfl)
theorem dX2_isRing_2 : decode cX2_isRing 2 = .ok (.iconst 1, 1) := dk_4 (dk_at dksX2_isRing_0 2 rfl rfl)
theorem dX2_isRing_3 : decode cX2_isRing 3 = .ok (.istore_n 2, 1) := dk_61 (dk_at dksX2_isRing_0 3 rfl rfl)
theorem dX2_isRing_4 : decode cX2_isRing 4 = .ok (.iload_n 2, 1) := dk_28 (dk_at dksX2_isRing_0 4 rfl rfl)
theorem dX2_isRing_5 : decode cX2_isRing 5 = .ok (.aload_n 0, 1) := dk_42 (dk_at dksX2_isRing_0 5 rfl rfl)
theorem dX2_isRing_6 : decode cX2_isRing 6 = .ok (.getfield 101, 3) := dk_180 0 101 (dk_at dksX2_isRing_0 6 rfl rfl)
theorem dX2_isRing_9 : decode cX2_isRing 9 = .ok (.if_icmp .ge 22, 3) := dk_162 0 22 (dk_at dksX2_isRing_0 9 rfl rfl)
theorem dX2_isRing_12 : decode cX2_isRing 12 = .ok (.aload_n 0, 1) := dk_42 (dk_at dksX2_isRing_0 12 rfl rfl)
theorem dX2_isRing_13 : decode cX2_isRing 13 = .ok (.getfield 52, 3) := dk_180 0 52 (dk_at dksX2_isRing_0 13 rfl rfl)
theorem dX2_isRing_16 : decode cX2_isRing 16 = .ok (.iload_n 1, 1) := dk_27 (dk_at dksX2_isRing_0 16 rfl rfl)
theorem dX2_isRing_17 : decode cX2_isRing 17 = .ok (.iaload, 1) := dk_46 (dk_at dksX2_isRing_0 17 rfl rfl)
theorem dX2_isRing_18 : decode cX2_isRing 18 = .ok (.istore_n 1, 1) := dk_60 (dk_at dksX2_isRing_0 18 rfl rfl)
theorem dX2_isRing_19 : decode cX2_isRing 19 = .ok (.iload_n 1, 1) := dk_27 (dk_at dksX2_isRing_0 19 rfl rfl)
theorem dX2_isRing_20 : decode cX2_isRing 20 = .ok (.ifCond .ne 5, 3) := dk_154 0 5 (dk_at dksX2_isRing_0 20 rfl rfl)
theorem dX2_isRing_23 : decode cX2_isRing 23 = .ok (.iconst 0, 1) := dk_3 (dk_at dksX2_isRing_0 23 rfl rfl)
theorem dX2_isRing_24 : decode cX2_isRing 24 = .ok (.ireturn, 1) := dk_172 (dk_at dksX2_isRing_1 0 rfl rfl)
theorem dX2_isRing_25 : decode cX2_isRing 25 = .ok (.iinc 2 1, 3) := dk_132 2 1 (dk_at dksX2_isRing_1 1 rfl rfl)
theorem dX2_isRing_28 : decode cX2_isRing 28 = .ok (.goto (-24), 3) := dk_167 255 232 (dk_at dksX2_isRing_1 4 rfl rfl)
theorem dX2_isRing_31 : decode cX2_isRing 31 = .ok (.aload_n 0, 1) := dk_42 (dk_at dksX2_isRing_1 7 rfl rfl)
theorem dX2_isRing_32 : decode cX2_isRing 32 = .ok (.getfield 52, 3) := dk_180 0 52 (dk_at dksX2_isRing_1 8 rfl rfl)
theorem dX2_isRing_35 : decode cX2_isRing 35 = .ok (.iload_n 1, 1) := dk_27 (dk_at dksX2_isRing_1 11 rfl rfl)
theorem dX2_isRing_36 : decode cX2_isRing 36 = .ok (.iaload, 1) := dk_46 (dk_at dksX2_isRing_1 12 rfl rfl)
theorem dX2_isRing_37 : decode cX2_isRing 37 = .ok (.ifCond .ne 7, 3) := dk_154 0 7 (dk_at dksX2_isRing_1 13 rfl rfl)
theorem dX2_isRing_40 : decode cX2_isRing 40 = .ok (.iconst 1, 1) := dk_4 (dk_at dksX2_isRing_1 16 rfl rfl)
theorem dX2_isRing_41 : decode cX2_isRing 41 = .ok (.goto 4, 3) := dk_167 0 4 (dk_at dksX2_isRing_1 17 rfl rfl)
theorem dX2_isRing_44 : decode cX2_isRing 44 = .ok (.iconst 0, 1) := dk_3 (dk_at dksX2_isRing_1 20 rfl rfl)
theorem dX2_isRing_45 : decode cX2_isRing 45 = .ok (.ireturn, 1) := dk_172 (dk_at dksX2_isRing_1 21 rfl rfl)
abbrev cX2_tryRound : ByteArray := prog_31_method_45_code
def yX2_tryRound : MethodName := ⟨RX2, "tryRound", "()V"⟩
def dkwX2_tryRound_2 : List UInt8 := [60, 42, 182, 0, 221, 61, 42, 3, 182, 0, 224, 42, 27, 28, 182, 0, 241, 177]
abbrev dktX2_tryRound_2 : List UInt8 := dkwX2_tryRound_2 ++ []
def dkwX2_tryRound_1 : List UInt8 := [182, 0, 108, 132, 1, 1, 167, 255, 233, 42, 42, 180, 0, 235, 182, 0, 218, 42, 182, 0, 227, 184, 0, 238]
abbrev dktX2_tryRound_1 : List UInt8 := dkwX2_tryRound_1 ++ dktX2_tryRound_2
def dkwX2_tryRound_0 : List UInt8 := [42, 3, 182, 0, 214, 3, 60, 27, 42, 180, 0, 101, 162, 0, 21, 42, 27, 7, 42, 180, 0, 52, 27, 46]
abbrev dktX2_tryRound_0 : List UInt8 := dkwX2_tryRound_0 ++ dktX2_tryRound_1
theorem dksX2_tryRound_0 : cX2_tryRound.data.toList.drop 0 = dktX2_tryRound_0 := by decide +kernel
theorem dksX2_tryRound_1 : cX2_tryRound.data.toList.drop 24 = dktX2_tryRound_1 := dk_seg dksX2_tryRound_0 24 rfl rfl
theorem dksX2_tryRound_2 : cX2_tryRound.data.toList.drop 48 = dktX2_tryRound_2 := dk_seg dksX2_tryRound_1 24 rfl rfl
theorem dX2_tryRound_0 : decode cX2_tryRound 0 = .ok (.aload_n 0, 1) := dk_42 (dk_at dksX2_tryRound_0 0 rfl rfl)
theorem dX2_tryRound_1 : decode cX2_tryRound 1 = .ok (.iconst 0, 1) := dk_3 (dk_at dksX2_tryRound_0 1 rfl rfl)
theorem dX2_tryRound_2 : decode cX2_tryRound 2 = .ok (.invokevirtual 214, 3) := dk_182 0 214 (dk_at dksX2_tryRound_0 2 rfl rfl)
theorem dX2_tryRound_5 : decode cX2_tryRound 5 = .ok (.iconst 0, 1) := dk_3 (dk_at dksX2_tryRound_0 5 rfl rfl)
theorem dX2_tryRound_6 : decode cX2_tryRound 6 = .ok (.istore_n 1, 1) := dk_60 (dk_at dksX2_tryRound_0 6 rfl rfl)
theorem dX2_tryRound_7 : decode cX2_tryRound 7 = .ok (.iload_n 1, 1) := dk_27 (dk_at dksX2_tryRound_0 7 rfl rfl)
theorem dX2_tryRound_8 : decode cX2_tryRound 8 = .ok (.aload_n 0, 1) := dk_42 (dk_at dksX2_tryRound_0 8 rfl rfl)
theorem dX2_tryRound_9 : decode cX2_tryRound 9 = .ok (.getfield 101, 3) := dk_180 0 101 (dk_at dksX2_tryRound_0 9 rfl rfl)
theorem dX2_tryRound_12 : decode cX2_tryRound 12 = .ok (.if_icmp .ge 21, 3) := dk_162 0 21 (dk_at dksX2_tryRound_0 12 rfl rfl)
theorem dX2_tryRound_15 : decode cX2_tryRound 15 = .ok (.aload_n 0, 1) := dk_42 (dk_at dksX2_tryRound_0 15 rfl rfl)
theorem dX2_tryRound_16 : decode cX2_tryRound 16 = .ok (.iload_n 1, 1) := dk_27 (dk_at dksX2_tryRound_0 16 rfl rfl)
theorem dX2_tryRound_17 : decode cX2_tryRound 17 = .ok (.iconst 4, 1) := dk_7 (dk_at dksX2_tryRound_0 17 rfl rfl)
theorem dX2_tryRound_18 : decode cX2_tryRound 18 = .ok (.aload_n 0, 1) := dk_42 (dk_at dksX2_tryRound_0 18 rfl rfl)
theorem dX2_tryRound_19 : decode cX2_tryRound 19 = .ok (.getfield 52, 3) := dk_180 0 52 (dk_at dksX2_tryRound_0 19 rfl rfl)
theorem dX2_tryRound_22 : decode cX2_tryRound 22 = .ok (.iload_n 1, 1) := dk_27 (dk_at dksX2_tryRound_0 22 rfl rfl)
theorem dX2_tryRound_23 : decode cX2_tryRound 23 = .ok (.iaload, 1) := dk_46 (dk_at dksX2_tryRound_0 23 rfl rfl)
theorem dX2_tryRound_24 : decode cX2_tryRound 24 = .ok (.invokevirtual 108, 3) := dk_182 0 108 (dk_at dksX2_tryRound_1 0 rfl rfl)
theorem dX2_tryRound_27 : decode cX2_tryRound 27 = .ok (.iinc 1 1, 3) := dk_132 1 1 (dk_at dksX2_tryRound_1 3 rfl rfl)
theorem dX2_tryRound_30 : decode cX2_tryRound 30 = .ok (.goto (-23), 3) := dk_167 255 233 (dk_at dksX2_tryRound_1 6 rfl rfl)
theorem dX2_tryRound_33 : decode cX2_tryRound 33 = .ok (.aload_n 0, 1) := dk_42 (dk_at dksX2_tryRound_1 9 rfl rfl)
theorem dX2_tryRound_34 : decode cX2_tryRound 34 = .ok (.aload_n 0, 1) := dk_42 (dk_at dksX2_tryRound_1 10 rfl rfl)
theorem dX2_tryRound_35 : decode cX2_tryRound 35 = .ok (.getfield 235, 3) := dk_180 0 235 (dk_at dksX2_tryRound_1 11 rfl rfl)
theorem dX2_tryRound_38 : decode cX2_tryRound 38 = .ok (.invokevirtual 218, 3) := dk_182 0 218 (dk_at dksX2_tryRound_1 14 rfl rfl)
theorem dX2_tryRound_41 : decode cX2_tryRound 41 = .ok (.aload_n 0, 1) := dk_42 (dk_at dksX2_tryRound_1 17 rfl rfl)
theorem dX2_tryRound_42 : decode cX2_tryRound 42 = .ok (.invokevirtual 227, 3) := dk_182 0 227 (dk_at dksX2_tryRound_1 18 rfl rfl)
theorem dX2_tryRound_45 : decode cX2_tryRound 45 = .ok (.invokestatic 238, 3) := dk_184 0 238 (dk_at dksX2_tryRound_1 21 rfl rfl)
theorem dX2_tryRound_48 : decode cX2_tryRound 48 = .ok (.istore_n 1, 1) := dk_60 (dk_at dksX2_tryRound_2 0 rfl rfl)
theorem dX2_tryRound_49 : decode cX2_tryRound 49 = .ok (.aload_n 0, 1) := dk_42 (dk_at dksX2_tryRound_2 1 rfl rfl)
theorem dX2_tryRound_50 : decode cX2_tryRound 50 = .ok (.invokevirtual 221, 3) := dk_182 0 221 (dk_at dksX2_tryRound_2 2 rfl rfl)
theorem dX2_tryRound_53 : decode cX2_tryRound 53 = .ok (.istore_n 2, 1) := dk_61 (dk_at dksX2_tryRound_2 5 rfl rfl)
theorem dX2_tryRound_54 : decode cX2_tryRound 54 = .ok (.aload_n 0, 1) := dk_42 (dk_at dksX2_tryRound_2 6 rfl rfl)
theorem dX2_tryRound_55 : decode cX2_tryRound 55 = .ok (.iconst 0, 1) := dk_3 (dk_at dksX2_tryRound_2 7 rfl rfl)
theorem dX2_tryRound_56 : decode cX2_tryRound 56 = .ok (.invokevirtual 224, 3) := dk_182 0 224 (dk_at dksX2_tryRound_2 8 rfl rfl)
theorem dX2_tryRound_59 : decode cX2_tryRound 59 = .ok (.aload_n 0, 1) := dk_42 (dk_at dksX2_tryRound_2 11 rfl rfl)
theorem dX2_tryRound_60 : decode cX2_tryRound 60 = .ok (.iload_n 1, 1) := dk_27 (dk_at dksX2_tryRound_2 12 rfl rfl)
theorem dX2_tryRound_61 : decode cX2_tryRound 61 = .ok (.iload_n 2, 1) := dk_28 (dk_at dksX2_tryRound_2 13 rfl rfl)
theorem dX2_tryRound_62 : decode cX2_tryRound 62 = .ok (.invokevirtual 241, 3) := dk_182 0 241 (dk_at dksX2_tryRound_2 14 rfl rfl)
theorem dX2_tryRound_65 : decode cX2_tryRound 65 = .ok (.return_, 1) := dk_177 (dk_at dksX2_tryRound_2 17 rfl rfl)
abbrev cX2_mended : ByteArray := prog_31_method_50_code
def yX2_mended : MethodName := ⟨RX2, "mended", "(I)I"⟩
def dkwX2_mended_2 : List UInt8 := [42, 180, 0, 245, 167, 0, 9, 42, 180, 0, 55, 27, 46, 172]
abbrev dktX2_mended_2 : List UInt8 := dkwX2_mended_2 ++ []
def dkwX2_mended_1 : List UInt8 := [3, 182, 1, 1, 42, 180, 0, 245, 19, 1, 5, 160, 0, 8, 16, 254, 167, 0, 21, 27, 2, 160, 0, 10]
abbrev dktX2_mended_1 : List UInt8 := dkwX2_mended_1 ++ dktX2_mended_2
def dkwX2_mended_0 : List UInt8 := [27, 2, 42, 180, 0, 101, 4, 100, 184, 0, 104, 154, 0, 5, 2, 172, 42, 182, 1, 6, 42, 3, 3, 3]
abbrev dktX2_mended_0 : List UInt8 := dkwX2_mended_0 ++ dktX2_mended_1
theorem dksX2_mended_0 : cX2_mended.data.toList.drop 0 = dktX2_mended_0 := by decide +kernel
theorem dksX2_mended_1 : cX2_mended.data.toList.drop 24 = dktX2_mended_1 := dk_seg dksX2_mended_0 24 rfl rfl
theorem dksX2_mended_2 : cX2_mended.data.toList.drop 48 = dktX2_mended_2 := dk_seg dksX2_mended_1 24 rfl rfl
theorem dX2_mended_0 : decode cX2_mended 0 = .ok (.iload_n 1, 1) := dk_27 (dk_at dksX2_mended_0 0 rfl rfl)
theorem dX2_mended_1 : decode cX2_mended 1 = .ok (.iconst (-1), 1) := dk_2 (dk_at dksX2_mended_0 1 rfl rfl)
theorem dX2_mended_2 : decode cX2_mended 2 = .ok (.aload_n 0, 1) := dk_42 (dk_at dksX2_mended_0 2 rfl rfl)
theorem dX2_mended_3 : decode cX2_mended 3 = .ok (.getfield 101, 3) := dk_180 0 101 (dk_at dksX2_mended_0 3 rfl rfl)
theorem dX2_mended_6 : decode cX2_mended 6 = .ok (.iconst 1, 1) := dk_4 (dk_at dksX2_mended_0 6 rfl rfl)
theorem dX2_mended_7 : decode cX2_mended 7 = .ok (.isub, 1) := dk_100 (dk_at dksX2_mended_0 7 rfl rfl)
theorem dX2_mended_8 : decode cX2_mended 8 = .ok (.invokestatic 104, 3) := dk_184 0 104 (dk_at dksX2_mended_0 8 rfl rfl)
theorem dX2_mended_11 : decode cX2_mended 11 = .ok (.ifCond .ne 5, 3) := dk_154 0 5 (dk_at dksX2_mended_0 11 rfl rfl)
theorem dX2_mended_14 : decode cX2_mended 14 = .ok (.iconst (-1), 1) := dk_2 (dk_at dksX2_mended_0 14 rfl rfl)
theorem dX2_mended_15 : decode cX2_mended 15 = .ok (.ireturn, 1) := dk_172 (dk_at dksX2_mended_0 15 rfl rfl)
theorem dX2_mended_16 : decode cX2_mended 16 = .ok (.aload_n 0, 1) := dk_42 (dk_at dksX2_mended_0 16 rfl rfl)
theorem dX2_mended_17 : decode cX2_mended 17 = .ok (.invokevirtual 262, 3) := dk_182 1 6 (dk_at dksX2_mended_0 17 rfl rfl)
theorem dX2_mended_20 : decode cX2_mended 20 = .ok (.aload_n 0, 1) := dk_42 (dk_at dksX2_mended_0 20 rfl rfl)
theorem dX2_mended_21 : decode cX2_mended 21 = .ok (.iconst 0, 1) := dk_3 (dk_at dksX2_mended_0 21 rfl rfl)
theorem dX2_mended_22 : decode cX2_mended 22 = .ok (.iconst 0, 1) := dk_3 (dk_at dksX2_mended_0 22 rfl rfl)
theorem dX2_mended_23 : decode cX2_mended 23 = .ok (.iconst 0, 1) := dk_3 (dk_at dksX2_mended_0 23 rfl rfl)
theorem dX2_mended_24 : decode cX2_mended 24 = .ok (.iconst 0, 1) := dk_3 (dk_at dksX2_mended_1 0 rfl rfl)
theorem dX2_mended_25 : decode cX2_mended 25 = .ok (.invokevirtual 257, 3) := dk_182 1 1 (dk_at dksX2_mended_1 1 rfl rfl)
theorem dX2_mended_28 : decode cX2_mended 28 = .ok (.aload_n 0, 1) := dk_42 (dk_at dksX2_mended_1 4 rfl rfl)
theorem dX2_mended_29 : decode cX2_mended 29 = .ok (.getfield 245, 3) := dk_180 0 245 (dk_at dksX2_mended_1 5 rfl rfl)
theorem dX2_mended_32 : decode cX2_mended 32 = .ok (.ldc_w 261, 3) := dk_19 1 5 (dk_at dksX2_mended_1 8 rfl rfl)
theorem dX2_mended_35 : decode cX2_mended 35 = .ok (.if_icmp .ne 8, 3) := dk_160 0 8 (dk_at dksX2_mended_1 11 rfl rfl)
theorem dX2_mended_38 : decode cX2_mended 38 = .ok (.bipush (-2), 2) := dk_16 254 (dk_at dksX2_mended_1 14 rfl rfl)
theorem dX2_mended_40 : decode cX2_mended 40 = .ok (.goto 21, 3) := dk_167 0 21 (dk_at dksX2_mended_1 16 rfl rfl)
theorem dX2_mended_43 : decode cX2_mended 43 = .ok (.iload_n 1, 1) := dk_27 (dk_at dksX2_mended_1 19 rfl rfl)
theorem dX2_mended_44 : decode cX2_mended 44 = .ok (.iconst (-1), 1) := dk_2 (dk_at dksX2_mended_1 20 rfl rfl)
theorem dX2_mended_45 : decode cX2_mended 45 = .ok (.if_icmp .ne 10, 3) := dk_160 0 10 (dk_at dksX2_mended_1 21 rfl rfl)
theorem dX2_mended_48 : decode cX2_mended 48 = .ok (.aload_n 0, 1) := dk_42 (dk_at dksX2_mended_2 0 rfl rfl)
theorem dX2_mended_49 : decode cX2_mended 49 = .ok (.getfield 245, 3) := dk_180 0 245 (dk_at dksX2_mended_2 1 rfl rfl)
theorem dX2_mended_52 : decode cX2_mended 52 = .ok (.goto 9, 3) := dk_167 0 9 (dk_at dksX2_mended_2 4 rfl rfl)
theorem dX2_mended_55 : decode cX2_mended 55 = .ok (.aload_n 0, 1) := dk_42 (dk_at dksX2_mended_2 7 rfl rfl)
theorem dX2_mended_56 : decode cX2_mended 56 = .ok (.getfield 55, 3) := dk_180 0 55 (dk_at dksX2_mended_2 8 rfl rfl)
theorem dX2_mended_59 : decode cX2_mended 59 = .ok (.iload_n 1, 1) := dk_27 (dk_at dksX2_mended_2 11 rfl rfl)
theorem dX2_mended_60 : decode cX2_mended 60 = .ok (.iaload, 1) := dk_46 (dk_at dksX2_mended_2 12 rfl rfl)
theorem dX2_mended_61 : decode cX2_mended 61 = .ok (.ireturn, 1) := dk_172 (dk_at dksX2_mended_2 13 rfl rfl)
abbrev cX2_gone : ByteArray := prog_31_method_52_code
def yX2_gone : MethodName := ⟨RX2, "gone", "(II)I"⟩
def dkwX2_gone_4 : List UInt8 := [167, 255, 212, 29, 172]
abbrev dktX2_gone_4 : List UInt8 := dkwX2_gone_4 ++ []
def dkwX2_gone_3 : List UInt8 := [164, 0, 8, 21, 5, 167, 0, 4, 29, 62, 21, 6, 21, 4, 184, 0, 98, 54, 4, 132, 5, 1]
abbrev dktX2_gone_3 : List UInt8 := dkwX2_gone_3 ++ dktX2_gone_4
def dkwX2_gone_2 : List UInt8 := [21, 5, 42, 180, 0, 101, 162, 0, 41, 42, 27, 21, 5, 182, 1, 9, 54, 6, 21, 6, 21, 4]
abbrev dktX2_gone_2 : List UInt8 := dkwX2_gone_2 ++ dktX2_gone_3
def dkwX2_gone_1 : List UInt8 := [2, 172, 28, 2, 159, 0, 10, 42, 27, 28, 182, 1, 9, 172, 16, 254, 62, 2, 54, 4, 3, 54, 5]
abbrev dktX2_gone_1 : List UInt8 := dkwX2_gone_1 ++ dktX2_gone_2
def dkwX2_gone_0 : List UInt8 := [27, 3, 16, 12, 184, 0, 104, 153, 0, 17, 28, 2, 42, 180, 0, 101, 4, 100, 184, 0, 104, 154, 0, 5]
abbrev dktX2_gone_0 : List UInt8 := dkwX2_gone_0 ++ dktX2_gone_1
theorem dksX2_gone_0 : cX2_gone.data.toList.drop 0 = dktX2_gone_0 := by decide +kernel
theorem dksX2_gone_1 : cX2_gone.data.toList.drop 24 = dktX2_gone_1 := dk_seg dksX2_gone_0 24 rfl rfl
theorem dksX2_gone_2 : cX2_gone.data.toList.drop 47 = dktX2_gone_2 := dk_seg dksX2_gone_1 23 rfl rfl
theorem dksX2_gone_3 : cX2_gone.data.toList.drop 69 = dktX2_gone_3 := dk_seg dksX2_gone_2 22 rfl rfl
theorem dksX2_gone_4 : cX2_gone.data.toList.drop 91 = dktX2_gone_4 := dk_seg dksX2_gone_3 22 rfl rfl
theorem dX2_gone_0 : decode cX2_gone 0 = .ok (.iload_n 1, 1) := dk_27 (dk_at dksX2_gone_0 0 rfl rfl)
theorem dX2_gone_1 : decode cX2_gone 1 = .ok (.iconst 0, 1) := dk_3 (dk_at dksX2_gone_0 1 rfl rfl)
theorem dX2_gone_2 : decode cX2_gone 2 = .ok (.bipush 12, 2) := dk_16 12 (dk_at dksX2_gone_0 2 rfl rfl)
theorem dX2_gone_4 : decode cX2_gone 4 = .ok (.invokestatic 104, 3) := dk_184 0 104 (dk_at dksX2_gone_0 4 rfl rfl)
theorem dX2_gone_7 : decode cX2_gone 7 = .ok (.ifCond .eq 17, 3) := dk_153 0 17 (dk_at dksX2_gone_0 7 rfl rfl)
theorem dX2_gone_10 : decode cX2_gone 10 = .ok (.iload_n 2, 1) := dk_28 (dk_at dksX2_gone_0 10 rfl rfl)
theorem dX2_gone_11 : decode cX2_gone 11 = .ok (.iconst (-1), 1) := dk_2 (dk_at dksX2_gone_0 11 rfl rfl)
theorem dX2_gone_12 : decode cX2_gone 12 = .ok (.aload_n 0, 1) := dk_42 (dk_at dksX2_gone_0 12 rfl rfl)
theorem dX2_gone_13 : decode cX2_gone 13 = .ok (.getfield 101, 3) := dk_180 0 101 (dk_at dksX2_gone_0 13 rfl rfl)
theorem dX2_gone_16 : decode cX2_gone 16 = .ok (.iconst 1, 1) := dk_4 (dk_at dksX2_gone_0 16 rfl rfl)
theorem dX2_gone_17 : decode cX2_gone 17 = .ok (.isub, 1) := dk_100 (dk_at dksX2_gone_0 17 rfl rfl)
theorem dX2_gone_18 : decode cX2_gone 18 = .ok (.invokestatic 104, 3) := dk_184 0 104 (dk_at dksX2_gone_0 18 rfl rfl)
theorem dX2_gone_21 : decode cX2_gone 21 = .ok (.ifCond .ne 5, 3) := dk_154 0 5 (dk_at dksX2_gone_0 21 rfl rfl)
theorem dX2_gone_24 : decode cX2_gone 24 = .ok (.iconst (-1), 1) := dk_2 (dk_at dksX2_gone_1 0 rfl rfl)
theorem dX2_gone_25 : decode cX2_gone 25 = .ok (.ireturn, 1) := dk_172 (dk_at dksX2_gone_1 1 rfl rfl)
theorem dX2_gone_26 : decode cX2_gone 26 = .ok (.iload_n 2, 1) := dk_28 (dk_at dksX2_gone_1 2 rfl rfl)
theorem dX2_gone_27 : decode cX2_gone 27 = .ok (.iconst (-1), 1) := dk_2 (dk_at dksX2_gone_1 3 rfl rfl)
theorem dX2_gone_28 : decode cX2_gone 28 = .ok (.if_icmp .eq 10, 3) := dk_159 0 10 (dk_at dksX2_gone_1 4 rfl rfl)
theorem dX2_gone_31 : decode cX2_gone 31 = .ok (.aload_n 0, 1) := dk_42 (dk_at dksX2_gone_1 7 rfl rfl)
theorem dX2_gone_32 : decode cX2_gone 32 = .ok (.iload_n 1, 1) := dk_27 (dk_at dksX2_gone_1 8 rfl rfl)
theorem dX2_gone_33 : decode cX2_gone 33 = .ok (.iload_n 2, 1) := dk_28 (dk_at dksX2_gone_1 9 rfl rfl)
theorem dX2_gone_34 : decode cX2_gone 34 = .ok (.invokevirtual 265, 3) := dk_182 1 9 (dk_at dksX2_gone_1 10 rfl rfl)
theorem dX2_gone_37 : decode cX2_gone 37 = .ok (.ireturn, 1) := dk_172 (dk_at dksX2_gone_1 13 rfl rfl)
theorem dX2_gone_38 : decode cX2_gone 38 = .ok (.bipush (-2), 2) := dk_16 254 (dk_at dksX2_gone_1 14 rfl rfl)
theorem dX2_gone_40 : decode cX2_gone 40 = .ok (.istore_n 3, 1) := dk_62 (dk_at dksX2_gone_1 16 rfl rfl)
theorem dX2_gone_41 : decode cX2_gone 41 = .ok (.iconst (-1), 1) := dk_2 (dk_at dksX2_gone_1 17 rfl rfl)
theorem dX2_gone_42 : decode cX2_gone 42 = .ok (.istore 4, 2) := dk_54 4 (dk_at dksX2_gone_1 18 rfl rfl)
theorem dX2_gone_44 : decode cX2_gone 44 = .ok (.iconst 0, 1) := dk_3 (dk_at dksX2_gone_1 20 rfl rfl)
theorem dX2_gone_45 : decode cX2_gone 45 = .ok (.istore 5, 2) := dk_54 5 (dk_at dksX2_gone_1 21 rfl rfl)
theorem dX2_gone_47 : decode cX2_gone 47 = .ok (.iload 5, 2) := dk_21 5 (dk_at dksX2_gone_2 0 rfl rfl)
theorem dX2_gone_49 : decode cX2_gone 49 = .ok (.aload_n 0, 1) := dk_42 (dk_at dksX2_gone_2 2 rfl rfl)
theorem dX2_gone_50 : decode cX2_gone 50 = .ok (.getfield 101, 3) := dk_180 0 101 (dk_at dksX2_gone_2 3 rfl rfl)
theorem dX2_gone_53 : decode cX2_gone 53 = .ok (.if_icmp .ge 41, 3) := dk_162 0 41 (dk_at dksX2_gone_2 6 rfl rfl)
theorem dX2_gone_56 : decode cX2_gone 56 = .ok (.aload_n 0, 1) := dk_42 (dk_at dksX2_gone_2 9 rfl rfl)
theorem dX2_gone_57 : decode cX2_gone 57 = .ok (.iload_n 1, 1) := dk_27 (dk_at dksX2_gone_2 10 rfl rfl)
theorem dX2_gone_58 : decode cX2_gone 58 = .ok (.iload 5, 2) := dk_21 5 (dk_at dksX2_gone_2 11 rfl rfl)
theorem dX2_gone_60 : decode cX2_gone 60 = .ok (.invokevirtual 265, 3) := dk_182 1 9 (dk_at dksX2_gone_2 13 rfl rfl)
theorem dX2_gone_63 : decode cX2_gone 63 = .ok (.istore 6, 2) := dk_54 6 (dk_at dksX2_gone_2 16 rfl rfl)
theorem dX2_gone_65 : decode cX2_gone 65 = .ok (.iload 6, 2) := dk_21 6 (dk_at dksX2_gone_2 18 rfl rfl)
theorem dX2_gone_67 : decode cX2_gone 67 = .ok (.iload 4, 2) := dk_21 4 (dk_at dksX2_gone_2 20 rfl rfl)
theorem dX2_gone_69 : decode cX2_gone 69 = .ok (.if_icmp .le 8, 3) := dk_164 0 8 (dk_at dksX2_gone_3 0 rfl rfl)
theorem dX2_gone_72 : decode cX2_gone 72 = .ok (.iload 5, 2) := dk_21 5 (dk_at dksX2_gone_3 3 rfl rfl)
theorem dX2_gone_74 : decode cX2_gone 74 = .ok (.goto 4, 3) := dk_167 0 4 (dk_at dksX2_gone_3 5 rfl rfl)
theorem dX2_gone_77 : decode cX2_gone 77 = .ok (.iload_n 3, 1) := dk_29 (dk_at dksX2_gone_3 8 rfl rfl)
theorem dX2_gone_78 : decode cX2_gone 78 = .ok (.istore_n 3, 1) := dk_62 (dk_at dksX2_gone_3 9 rfl rfl)
theorem dX2_gone_79 : decode cX2_gone 79 = .ok (.iload 6, 2) := dk_21 6 (dk_at dksX2_gone_3 10 rfl rfl)
theorem dX2_gone_81 : decode cX2_gone 81 = .ok (.iload 4, 2) := dk_21 4 (dk_at dksX2_gone_3 12 rfl rfl)
theorem dX2_gone_83 : decode cX2_gone 83 = .ok (.invokestatic 98, 3) := dk_184 0 98 (dk_at dksX2_gone_3 14 rfl rfl)
theorem dX2_gone_86 : decode cX2_gone 86 = .ok (.istore 4, 2) := dk_54 4 (dk_at dksX2_gone_3 17 rfl rfl)
theorem dX2_gone_88 : decode cX2_gone 88 = .ok (.iinc 5 1, 3) := dk_132 5 1 (dk_at dksX2_gone_3 19 rfl rfl)
theorem dX2_gone_91 : decode cX2_gone 91 = .ok (.goto (-44), 3) := dk_167 255 212 (dk_at dksX2_gone_4 0 rfl rfl)
theorem dX2_gone_94 : decode cX2_gone 94 = .ok (.iload_n 3, 1) := dk_29 (dk_at dksX2_gone_4 3 rfl rfl)
theorem dX2_gone_95 : decode cX2_gone 95 = .ok (.ireturn, 1) := dk_172 (dk_at dksX2_gone_4 4 rfl rfl)
abbrev cX2_lackBut : ByteArray := prog_31_method_51_code
def yX2_lackBut : MethodName := ⟨RX2, "lackBut", "(II)I"⟩
def dkwX2_lackBut_3 : List UInt8 := [42, 2, 181, 0, 45, 42, 3, 182, 0, 224, 29, 172]
abbrev dktX2_lackBut_3 : List UInt8 := dkwX2_lackBut_3 ++ []
def dkwX2_lackBut_2 : List UInt8 := [132, 3, 1, 167, 255, 214, 42, 28, 181, 0, 45, 42, 27, 182, 0, 218, 42, 182, 0, 227, 184, 0, 238, 62]
abbrev dktX2_lackBut_2 : List UInt8 := dkwX2_lackBut_2 ++ dktX2_lackBut_3
def dkwX2_lackBut_1 : List UInt8 := [29, 7, 182, 0, 191, 28, 160, 0, 7, 2, 167, 0, 9, 42, 29, 7, 182, 0, 191, 182, 0, 108]
abbrev dktX2_lackBut_1 : List UInt8 := dkwX2_lackBut_1 ++ dktX2_lackBut_2
def dkwX2_lackBut_0 : List UInt8 := [42, 3, 182, 0, 214, 3, 62, 29, 42, 180, 0, 101, 162, 0, 40, 42, 29, 7, 29, 28, 159, 0, 13, 42]
abbrev dktX2_lackBut_0 : List UInt8 := dkwX2_lackBut_0 ++ dktX2_lackBut_1
theorem dksX2_lackBut_0 : cX2_lackBut.data.toList.drop 0 = dktX2_lackBut_0 := by decide +kernel
theorem dksX2_lackBut_1 : cX2_lackBut.data.toList.drop 24 = dktX2_lackBut_1 := dk_seg dksX2_lackBut_0 24 rfl rfl
theorem dksX2_lackBut_2 : cX2_lackBut.data.toList.drop 46 = dktX2_lackBut_2 := dk_seg dksX2_lackBut_1 22 rfl rfl
theorem dksX2_lackBut_3 : cX2_lackBut.data.toList.drop 70 = dktX2_lackBut_3 := dk_seg dksX2_lackBut_2 24 rfl rfl
theorem dX2_lackBut_0 : decode cX2_lackBut 0 = .ok (.aload_n 0, 1) := dk_42 (dk_at dksX2_lackBut_0 0 rfl rfl)
theorem dX2_lackBut_1 : decode cX2_lackBut 1 = .ok (.iconst 0, 1) := dk_3 (dk_at dksX2_lackBut_0 1 rfl rfl)
theorem dX2_lackBut_2 : decode cX2_lackBut 2 = .ok (.invokevirtual 214, 3) := dk_182 0 214 (dk_at dksX2_lackBut_0 2 rfl rfl)
theorem dX2_lackBut_5 : decode cX2_lackBut 5 = .ok (.iconst 0, 1) := dk_3 (dk_at dksX2_lackBut_0 5 rfl rfl)
theorem dX2_lackBut_6 : decode cX2_lackBut 6 = .ok (.istore_n 3, 1) := dk_62 (dk_at dksX2_lackBut_0 6 rfl rfl)
theorem dX2_lackBut_7 : decode cX2_lackBut 7 = .ok (.iload_n 3, 1) := dk_29 (dk_at dksX2_lackBut_0 7 rfl rfl)
theorem dX2_lackBut_8 : decode cX2_lackBut 8 = .ok (.aload_n 0, 1) := dk_42 (dk_at dksX2_lackBut_0 8 rfl rfl)
theorem dX2_lackBut_9 : decode cX2_lackBut 9 = .ok (.getfield 101, 3) := dk_180 0 101 (dk_at dksX2_lackBut_0 9 rfl rfl)
theorem dX2_lackBut_12 : decode cX2_lackBut 12 = .ok (.if_icmp .ge 40, 3) := dk_162 0 40 (dk_at dksX2_lackBut_0 12 rfl rfl)
theorem dX2_lackBut_15 : decode cX2_lackBut 15 = .ok (.aload_n 0, 1) := dk_42 (dk_at dksX2_lackBut_0 15 rfl rfl)
theorem dX2_lackBut_16 : decode cX2_lackBut 16 = .ok (.iload_n 3, 1) := dk_29 (dk_at dksX2_lackBut_0 16 rfl rfl)
theorem dX2_lackBut_17 : decode cX2_lackBut 17 = .ok (.iconst 4, 1) := dk_7 (dk_at dksX2_lackBut_0 17 rfl rfl)
theorem dX2_lackBut_18 : decode cX2_lackBut 18 = .ok (.iload_n 3, 1) := dk_29 (dk_at dksX2_lackBut_0 18 rfl rfl)
theorem dX2_lackBut_19 : decode cX2_lackBut 19 = .ok (.iload_n 2, 1) := dk_28 (dk_at dksX2_lackBut_0 19 rfl rfl)
theorem dX2_lackBut_20 : decode cX2_lackBut 20 = .ok (.if_icmp .eq 13, 3) := dk_159 0 13 (dk_at dksX2_lackBut_0 20 rfl rfl)
theorem dX2_lackBut_23 : decode cX2_lackBut 23 = .ok (.aload_n 0, 1) := dk_42 (dk_at dksX2_lackBut_0 23 rfl rfl)
theorem dX2_lackBut_24 : decode cX2_lackBut 24 = .ok (.iload_n 3, 1) := dk_29 (dk_at dksX2_lackBut_1 0 rfl rfl)
theorem dX2_lackBut_25 : decode cX2_lackBut 25 = .ok (.iconst 4, 1) := dk_7 (dk_at dksX2_lackBut_1 1 rfl rfl)
theorem dX2_lackBut_26 : decode cX2_lackBut 26 = .ok (.invokevirtual 191, 3) := dk_182 0 191 (dk_at dksX2_lackBut_1 2 rfl rfl)
theorem dX2_lackBut_29 : decode cX2_lackBut 29 = .ok (.iload_n 2, 1) := dk_28 (dk_at dksX2_lackBut_1 5 rfl rfl)
theorem dX2_lackBut_30 : decode cX2_lackBut 30 = .ok (.if_icmp .ne 7, 3) := dk_160 0 7 (dk_at dksX2_lackBut_1 6 rfl rfl)
theorem dX2_lackBut_33 : decode cX2_lackBut 33 = .ok (.iconst (-1), 1) := dk_2 (dk_at dksX2_lackBut_1 9 rfl rfl)
theorem dX2_lackBut_34 : decode cX2_lackBut 34 = .ok (.goto 9, 3) := dk_167 0 9 (dk_at dksX2_lackBut_1 10 rfl rfl)
theorem dX2_lackBut_37 : decode cX2_lackBut 37 = .ok (.aload_n 0, 1) := dk_42 (dk_at dksX2_lackBut_1 13 rfl rfl)
theorem dX2_lackBut_38 : decode cX2_lackBut 38 = .ok (.iload_n 3, 1) := dk_29 (dk_at dksX2_lackBut_1 14 rfl rfl)
theorem dX2_lackBut_39 : decode cX2_lackBut 39 = .ok (.iconst 4, 1) := dk_7 (dk_at dksX2_lackBut_1 15 rfl rfl)
theorem dX2_lackBut_40 : decode cX2_lackBut 40 = .ok (.invokevirtual 191, 3) := dk_182 0 191 (dk_at dksX2_lackBut_1 16 rfl rfl)
theorem dX2_lackBut_43 : decode cX2_lackBut 43 = .ok (.invokevirtual 108, 3) := dk_182 0 108 (dk_at dksX2_lackBut_1 19 rfl rfl)
theorem dX2_lackBut_46 : decode cX2_lackBut 46 = .ok (.iinc 3 1, 3) := dk_132 3 1 (dk_at dksX2_lackBut_2 0 rfl rfl)
theorem dX2_lackBut_49 : decode cX2_lackBut 49 = .ok (.goto (-42), 3) := dk_167 255 214 (dk_at dksX2_lackBut_2 3 rfl rfl)
theorem dX2_lackBut_52 : decode cX2_lackBut 52 = .ok (.aload_n 0, 1) := dk_42 (dk_at dksX2_lackBut_2 6 rfl rfl)
theorem dX2_lackBut_53 : decode cX2_lackBut 53 = .ok (.iload_n 2, 1) := dk_28 (dk_at dksX2_lackBut_2 7 rfl rfl)
theorem dX2_lackBut_54 : decode cX2_lackBut 54 = .ok (.putfield 45, 3) := dk_181 0 45 (dk_at dksX2_lackBut_2 8 rfl rfl)
theorem dX2_lackBut_57 : decode cX2_lackBut 57 = .ok (.aload_n 0, 1) := dk_42 (dk_at dksX2_lackBut_2 11 rfl rfl)
theorem dX2_lackBut_58 : decode cX2_lackBut 58 = .ok (.iload_n 1, 1) := dk_27 (dk_at dksX2_lackBut_2 12 rfl rfl)
theorem dX2_lackBut_59 : decode cX2_lackBut 59 = .ok (.invokevirtual 218, 3) := dk_182 0 218 (dk_at dksX2_lackBut_2 13 rfl rfl)
theorem dX2_lackBut_62 : decode cX2_lackBut 62 = .ok (.aload_n 0, 1) := dk_42 (dk_at dksX2_lackBut_2 16 rfl rfl)
theorem dX2_lackBut_63 : decode cX2_lackBut 63 = .ok (.invokevirtual 227, 3) := dk_182 0 227 (dk_at dksX2_lackBut_2 17 rfl rfl)
theorem dX2_lackBut_66 : decode cX2_lackBut 66 = .ok (.invokestatic 238, 3) := dk_184 0 238 (dk_at dksX2_lackBut_2 20 rfl rfl)
theorem dX2_lackBut_69 : decode cX2_lackBut 69 = .ok (.istore_n 3, 1) := dk_62 (dk_at dksX2_lackBut_2 23 rfl rfl)
theorem dX2_lackBut_70 : decode cX2_lackBut 70 = .ok (.aload_n 0, 1) := dk_42 (dk_at dksX2_lackBut_3 0 rfl rfl)
theorem dX2_lackBut_71 : decode cX2_lackBut 71 = .ok (.iconst (-1), 1) := dk_2 (dk_at dksX2_lackBut_3 1 rfl rfl)
theorem dX2_lackBut_72 : decode cX2_lackBut 72 = .ok (.putfield 45, 3) := dk_181 0 45 (dk_at dksX2_lackBut_3 2 rfl rfl)
theorem dX2_lackBut_75 : decode cX2_lackBut 75 = .ok (.aload_n 0, 1) := dk_42 (dk_at dksX2_lackBut_3 5 rfl rfl)
theorem dX2_lackBut_76 : decode cX2_lackBut 76 = .ok (.iconst 0, 1) := dk_3 (dk_at dksX2_lackBut_3 6 rfl rfl)
theorem dX2_lackBut_77 : decode cX2_lackBut 77 = .ok (.invokevirtual 224, 3) := dk_182 0 224 (dk_at dksX2_lackBut_3 7 rfl rfl)
theorem dX2_lackBut_80 : decode cX2_lackBut 80 = .ok (.iload_n 3, 1) := dk_29 (dk_at dksX2_lackBut_3 10 rfl rfl)
theorem dX2_lackBut_81 : decode cX2_lackBut 81 = .ok (.ireturn, 1) := dk_172 (dk_at dksX2_lackBut_3 11 rfl rfl)
abbrev cX2_people : ByteArray := prog_31_method_56_code
def yX2_people : MethodName := ⟨RX2, "people", "(III)I"⟩
def dkwX2_people_8 : List UInt8 := [167, 255, 108, 21, 4, 172]
abbrev dktX2_people_8 : List UInt8 := dkwX2_people_8 ++ []
def dkwX2_people_7 : List UInt8 := [184, 0, 104, 153, 0, 17, 42, 21, 8, 21, 9, 21, 10, 182, 0, 112, 87, 132, 4, 1, 132, 5, 1]
abbrev dktX2_people_7 : List UInt8 := dkwX2_people_7 ++ dktX2_people_8
def dkwX2_people_6 : List UInt8 := [184, 0, 104, 153, 0, 39, 21, 9, 3, 16, 9, 184, 0, 104, 153, 0, 28, 21, 10, 3, 16, 9]
abbrev dktX2_people_6 : List UInt8 := dkwX2_people_6 ++ dktX2_people_7
def dkwX2_people_5 : List UInt8 := [182, 1, 19, 54, 9, 42, 27, 22, 6, 136, 5, 96, 182, 1, 19, 54, 10, 21, 8, 3, 16, 35]
abbrev dktX2_people_5 : List UInt8 := dkwX2_people_5 ++ dktX2_people_6
def dkwX2_people_4 : List UInt8 := [46, 133, 148, 156, 0, 84, 42, 27, 22, 6, 136, 182, 1, 19, 54, 8, 42, 27, 22, 6, 136, 4, 96]
abbrev dktX2_people_4 : List UInt8 := dkwX2_people_4 ++ dktX2_people_5
def dkwX2_people_3 : List UInt8 := [42, 180, 0, 58, 27, 46, 154, 0, 105, 28, 155, 0, 101, 22, 6, 20, 1, 17, 97, 42, 180, 0, 61, 27]
abbrev dktX2_people_3 : List UInt8 := dkwX2_people_3 ++ dktX2_people_4
def dkwX2_people_2 : List UInt8 := [160, 0, 141, 42, 180, 0, 101, 16, 8, 162, 0, 132, 28, 133, 20, 1, 15, 21, 5, 133, 105, 97, 55, 6]
abbrev dktX2_people_2 : List UInt8 := dkwX2_people_2 ++ dktX2_people_3
def dkwX2_people_1 : List UInt8 := [46, 158, 0, 6, 16, 244, 172, 3, 54, 4, 3, 54, 5, 21, 5, 29, 162, 0, 148, 21, 4, 21, 5]
abbrev dktX2_people_1 : List UInt8 := dkwX2_people_1 ++ dktX2_people_2
def dkwX2_people_0 : List UInt8 := [27, 184, 1, 12, 153, 0, 13, 29, 4, 16, 8, 184, 0, 104, 154, 0, 5, 2, 172, 42, 180, 0, 58, 27]
abbrev dktX2_people_0 : List UInt8 := dkwX2_people_0 ++ dktX2_people_1
theorem dksX2_people_0 : cX2_people.data.toList.drop 0 = dktX2_people_0 := by decide +kernel
theorem dksX2_people_1 : cX2_people.data.toList.drop 24 = dktX2_people_1 := dk_seg dksX2_people_0 24 rfl rfl
theorem dksX2_people_2 : cX2_people.data.toList.drop 47 = dktX2_people_2 := dk_seg dksX2_people_1 23 rfl rfl
theorem dksX2_people_3 : cX2_people.data.toList.drop 71 = dktX2_people_3 := dk_seg dksX2_people_2 24 rfl rfl
theorem dksX2_people_4 : cX2_people.data.toList.drop 95 = dktX2_people_4 := dk_seg dksX2_people_3 24 rfl rfl
theorem dksX2_people_5 : cX2_people.data.toList.drop 118 = dktX2_people_5 := dk_seg dksX2_people_4 23 rfl rfl
theorem dksX2_people_6 : cX2_people.data.toList.drop 140 = dktX2_people_6 := dk_seg dksX2_people_5 22 rfl rfl
theorem dksX2_people_7 : cX2_people.data.toList.drop 162 = dktX2_people_7 := dk_seg dksX2_people_6 22 rfl rfl
theorem dksX2_people_8 : cX2_people.data.toList.drop 185 = dktX2_people_8 := dk_seg dksX2_people_7 23 rfl rfl
theorem dX2_people_0 : decode cX2_people 0 = .ok (.iload_n 1, 1) := dk_27 (dk_at dksX2_people_0 0 rfl rfl)
theorem dX2_people_1 : decode cX2_people 1 = .ok (.invokestatic 268, 3) := dk_184 1 12 (dk_at dksX2_people_0 1 rfl rfl)
theorem dX2_people_4 : decode cX2_people 4 = .ok (.ifCond .eq 13, 3) := dk_153 0 13 (dk_at dksX2_people_0 4 rfl rfl)
theorem dX2_people_7 : decode cX2_people 7 = .ok (.iload_n 3, 1) := dk_29 (dk_at dksX2_people_0 7 rfl rfl)
theorem dX2_people_8 : decode cX2_people 8 = .ok (.iconst 1, 1) := dk_4 (dk_at dksX2_people_0 8 rfl rfl)
theorem dX2_people_9 : decode cX2_people 9 = .ok (.bipush 8, 2) := dk_16 8 (dk_at dksX2_people_0 9 rfl rfl)
theorem dX2_people_11 : decode cX2_people 11 = .ok (.invokestatic 104, 3) := dk_184 0 104 (dk_at dksX2_people_0 11 rfl rfl)
theorem dX2_people_14 : decode cX2_people 14 = .ok (.ifCond .ne 5, 3) := dk_154 0 5 (dk_at dksX2_people_0 14 rfl rfl)
theorem dX2_people_17 : decode cX2_people 17 = .ok (.iconst (-1), 1) := dk_2 (dk_at dksX2_people_0 17 rfl rfl)
theorem dX2_people_18 : decode cX2_people 18 = .ok (.ireturn, 1) := dk_172 (dk_at dksX2_people_0 18 rfl rfl)
theorem dX2_people_19 : decode cX2_people 19 = .ok (.aload_n 0, 1) := dk_42 (dk_at dksX2_people_0 19 rfl rfl)
theorem dX2_people_20 : decode cX2_people 20 = .ok (.getfield 58, 3) := dk_180 0 58 (dk_at dksX2_people_0 20 rfl rfl)
theorem dX2_people_23 : decode cX2_people 23 = .ok (.iload_n 1, 1) := dk_27 (dk_at dksX2_people_0 23 rfl rfl)
theorem dX2_people_24 : decode cX2_people 24 = .ok (.iaload, 1) := dk_46 (dk_at dksX2_people_1 0 rfl rfl)
theorem dX2_people_25 : decode cX2_people 25 = .ok (.ifCond .le 6, 3) := dk_158 0 6 (dk_at dksX2_people_1 1 rfl rfl)
theorem dX2_people_28 : decode cX2_people 28 = .ok (.bipush (-12), 2) := dk_16 244 (dk_at dksX2_people_1 4 rfl rfl)
theorem dX2_people_30 : decode cX2_people 30 = .ok (.ireturn, 1) := dk_172 (dk_at dksX2_people_1 6 rfl rfl)
theorem dX2_people_31 : decode cX2_people 31 = .ok (.iconst 0, 1) := dk_3 (dk_at dksX2_people_1 7 rfl rfl)
theorem dX2_people_32 : decode cX2_people 32 = .ok (.istore 4, 2) := dk_54 4 (dk_at dksX2_people_1 8 rfl rfl)
theorem dX2_people_34 : decode cX2_people 34 = .ok (.iconst 0, 1) := dk_3 (dk_at dksX2_people_1 10 rfl rfl)
theorem dX2_people_35 : decode cX2_people 35 = .ok (.istore 5, 2) := dk_54 5 (dk_at dksX2_people_1 11 rfl rfl)
theorem dX2_people_37 : decode cX2_people 37 = .ok (.iload 5, 2) := dk_21 5 (dk_at dksX2_people_1 13 rfl rfl)
theorem dX2_people_39 : decode cX2_people 39 = .ok (.iload_n 3, 1) := dk_29 (dk_at dksX2_people_1 15 rfl rfl)
theorem dX2_people_40 : decode cX2_people 40 = .ok (.if_icmp .ge 148, 3) := dk_162 0 148 (dk_at dksX2_people_1 16 rfl rfl)
theorem dX2_people_43 : decode cX2_people 43 = .ok (.iload 4, 2) := dk_21 4 (dk_at dksX2_people_1 19 rfl rfl)
theorem dX2_people_45 : decode cX2_people 45 = .ok (.iload 5, 2) := dk_21 5 (dk_at dksX2_people_1 21 rfl rfl)
theorem dX2_people_47 : decode cX2_people 47 = .ok (.if_icmp .ne 141, 3) := dk_160 0 141 (dk_at dksX2_people_2 0 rfl rfl)
theorem dX2_people_50 : decode cX2_people 50 = .ok (.aload_n 0, 1) := dk_42 (dk_at dksX2_people_2 3 rfl rfl)
theorem dX2_people_51 : decode cX2_people 51 = .ok (.getfield 101, 3) := dk_180 0 101 (dk_at dksX2_people_2 4 rfl rfl)
theorem dX2_people_54 : decode cX2_people 54 = .ok (.bipush 8, 2) := dk_16 8 (dk_at dksX2_people_2 7 rfl rfl)
theorem dX2_people_56 : decode cX2_people 56 = .ok (.if_icmp .ge 132, 3) := dk_162 0 132 (dk_at dksX2_people_2 9 rfl rfl)
theorem dX2_people_59 : decode cX2_people 59 = .ok (.iload_n 2, 1) := dk_28 (dk_at dksX2_people_2 12 rfl rfl)
theorem dX2_people_60 : decode cX2_people 60 = .ok (.i2l, 1) := dk_133 (dk_at dksX2_people_2 13 rfl rfl)
theorem dX2_people_61 : decode cX2_people 61 = .ok (.ldc2_w 271, 3) := dk_20 1 15 (dk_at dksX2_people_2 14 rfl rfl)
theorem dX2_people_64 : decode cX2_people 64 = .ok (.iload 5, 2) := dk_21 5 (dk_at dksX2_people_2 17 rfl rfl)
theorem dX2_people_66 : decode cX2_people 66 = .ok (.i2l, 1) := dk_133 (dk_at dksX2_people_2 19 rfl rfl)
theorem dX2_people_67 : decode cX2_people 67 = .ok (.lmul, 1) := dk_105 (dk_at dksX2_people_2 20 rfl rfl)
theorem dX2_people_68 : decode cX2_people 68 = .ok (.ladd, 1) := dk_97 (dk_at dksX2_people_2 21 rfl rfl)
theorem dX2_people_69 : decode cX2_people 69 = .ok (.lstore 6, 2) := dk_55 6 (dk_at dksX2_people_2 22 rfl rfl)
theorem dX2_people_71 : decode cX2_people 71 = .ok (.aload_n 0, 1) := dk_42 (dk_at dksX2_people_3 0 rfl rfl)
theorem dX2_people_72 : decode cX2_people 72 = .ok (.getfield 58, 3) := dk_180 0 58 (dk_at dksX2_people_3 1 rfl rfl)
theorem dX2_people_75 : decode cX2_people 75 = .ok (.iload_n 1, 1) := dk_27 (dk_at dksX2_people_3 4 rfl rfl)
theorem dX2_people_76 : decode cX2_people 76 = .ok (.iaload, 1) := dk_46 (dk_at dksX2_people_3 5 rfl rfl)
theorem dX2_people_77 : decode cX2_people 77 = .ok (.ifCond .ne 105, 3) := dk_154 0 105 (dk_at dksX2_people_3 6 rfl rfl)
theorem dX2_people_80 : decode cX2_people 80 = .ok (.iload_n 2, 1) := dk_28 (dk_at dksX2_people_3 9 rfl rfl)
theorem dX2_people_81 : decode cX2_people 81 = .ok (.ifCond .lt 101, 3) := dk_155 0 101 (dk_at dksX2_people_3 10 rfl rfl)
theorem dX2_people_84 : decode cX2_people 84 = .ok (.lload 6, 2) := dk_22 6 (dk_at dksX2_people_3 13 rfl rfl)
theorem dX2_people_86 : decode cX2_people 86 = .ok (.ldc2_w 273, 3) := dk_20 1 17 (dk_at dksX2_people_3 15 rfl rfl)
theorem dX2_people_89 : decode cX2_people 89 = .ok (.ladd, 1) := dk_97 (dk_at dksX2_people_3 18 rfl rfl)
theorem dX2_people_90 : decode cX2_people 90 = .ok (.aload_n 0, 1) := dk_42 (dk_at dksX2_people_3 19 rfl rfl)
theorem dX2_people_91 : decode cX2_people 91 = .ok (.getfield 61, 3) := dk_180 0 61 (dk_at dksX2_people_3 20 rfl rfl)
theorem dX2_people_94 : decode cX2_people 94 = .ok (.iload_n 1, 1) := dk_27 (dk_at dksX2_people_3 23 rfl rfl)
theorem dX2_people_95 : decode cX2_people 95 = .ok (.iaload, 1) := dk_46 (dk_at dksX2_people_4 0 rfl rfl)
theorem dX2_people_96 : decode cX2_people 96 = .ok (.i2l, 1) := dk_133 (dk_at dksX2_people_4 1 rfl rfl)
theorem dX2_people_97 : decode cX2_people 97 = .ok (.lcmp, 1) := dk_148 (dk_at dksX2_people_4 2 rfl rfl)
theorem dX2_people_98 : decode cX2_people 98 = .ok (.ifCond .ge 84, 3) := dk_156 0 84 (dk_at dksX2_people_4 3 rfl rfl)
theorem dX2_people_101 : decode cX2_people 101 = .ok (.aload_n 0, 1) := dk_42 (dk_at dksX2_people_4 6 rfl rfl)
theorem dX2_people_102 : decode cX2_people 102 = .ok (.iload_n 1, 1) := dk_27 (dk_at dksX2_people_4 7 rfl rfl)
theorem dX2_people_103 : decode cX2_people 103 = .ok (.lload 6, 2) := dk_22 6 (dk_at dksX2_people_4 8 rfl rfl)
theorem dX2_people_105 : decode cX2_people 105 = .ok (.l2i, 1) := dk_136 (dk_at dksX2_people_4 10 rfl rfl)
theorem dX2_people_106 : decode cX2_people 106 = .ok (.invokevirtual 275, 3) := dk_182 1 19 (dk_at dksX2_people_4 11 rfl rfl)
theorem dX2_people_109 : decode cX2_people 109 = .ok (.istore 8, 2) := dk_54 8 (dk_at dksX2_people_4 14 rfl rfl)
theorem dX2_people_111 : decode cX2_people 111 = .ok (.aload_n 0, 1) := dk_42 (dk_at dksX2_people_4 16 rfl rfl)
theorem dX2_people_112 : decode cX2_people 112 = .ok (.iload_n 1, 1) := dk_27 (dk_at dksX2_people_4 17 rfl rfl)
theorem dX2_people_113 : decode cX2_people 113 = .ok (.lload 6, 2) := dk_22 6 (dk_at dksX2_people_4 18 rfl rfl)
theorem dX2_people_115 : decode cX2_people 115 = .ok (.l2i, 1) := dk_136 (dk_at dksX2_people_4 20 rfl rfl)
theorem dX2_people_116 : decode cX2_people 116 = .ok (.iconst 1, 1) := dk_4 (dk_at dksX2_people_4 21 rfl rfl)
theorem dX2_people_117 : decode cX2_people 117 = .ok (.iadd, 1) := dk_96 (dk_at dksX2_people_4 22 rfl rfl)
theorem dX2_people_118 : decode cX2_people 118 = .ok (.invokevirtual 275, 3) := dk_182 1 19 (dk_at dksX2_people_5 0 rfl rfl)
theorem dX2_people_121 : decode cX2_people 121 = .ok (.istore 9, 2) := dk_54 9 (dk_at dksX2_people_5 3 rfl rfl)
theorem dX2_people_123 : decode cX2_people 123 = .ok (.aload_n 0, 1) := dk_42 (dk_at dksX2_people_5 5 rfl rfl)
theorem dX2_people_124 : decode cX2_people 124 = .ok (.iload_n 1, 1) := dk_27 (dk_at dksX2_people_5 6 rfl rfl)
theorem dX2_people_125 : decode cX2_people 125 = .ok (.lload 6, 2) := dk_22 6 (dk_at dksX2_people_5 7 rfl rfl)
theorem dX2_people_127 : decode cX2_people 127 = .ok (.l2i, 1) := dk_136 (dk_at dksX2_people_5 9 rfl rfl)
theorem dX2_people_128 : decode cX2_people 128 = .ok (.iconst 2, 1) := dk_5 (dk_at dksX2_people_5 10 rfl rfl)
theorem dX2_people_129 : decode cX2_people 129 = .ok (.iadd, 1) := dk_96 (dk_at dksX2_people_5 11 rfl rfl)
theorem dX2_people_130 : decode cX2_people 130 = .ok (.invokevirtual 275, 3) := dk_182 1 19 (dk_at dksX2_people_5 12 rfl rfl)
theorem dX2_people_133 : decode cX2_people 133 = .ok (.istore 10, 2) := dk_54 10 (dk_at dksX2_people_5 15 rfl rfl)
theorem dX2_people_135 : decode cX2_people 135 = .ok (.iload 8, 2) := dk_21 8 (dk_at dksX2_people_5 17 rfl rfl)
theorem dX2_people_137 : decode cX2_people 137 = .ok (.iconst 0, 1) := dk_3 (dk_at dksX2_people_5 19 rfl rfl)
theorem dX2_people_138 : decode cX2_people 138 = .ok (.bipush 35, 2) := dk_16 35 (dk_at dksX2_people_5 20 rfl rfl)
theorem dX2_people_140 : decode cX2_people 140 = .ok (.invokestatic 104, 3) := dk_184 0 104 (dk_at dksX2_people_6 0 rfl rfl)
theorem dX2_people_143 : decode cX2_people 143 = .ok (.ifCond .eq 39, 3) := dk_153 0 39 (dk_at dksX2_people_6 3 rfl rfl)
theorem dX2_people_146 : decode cX2_people 146 = .ok (.iload 9, 2) := dk_21 9 (dk_at dksX2_people_6 6 rfl rfl)
theorem dX2_people_148 : decode cX2_people 148 = .ok (.iconst 0, 1) := dk_3 (dk_at dksX2_people_6 8 rfl rfl)
theorem dX2_people_149 : decode cX2_people 149 = .ok (.bipush 9, 2) := dk_16 9 (dk_at dksX2_people_6 9 rfl rfl)
theorem dX2_people_151 : decode cX2_people 151 = .ok (.invokestatic 104, 3) := dk_184 0 104 (dk_at dksX2_people_6 11 rfl rfl)
theorem dX2_people_154 : decode cX2_people 154 = .ok (.ifCond .eq 28, 3) := dk_153 0 28 (dk_at dksX2_people_6 14 rfl rfl)
theorem dX2_people_157 : decode cX2_people 157 = .ok (.iload 10, 2) := dk_21 10 (dk_at dksX2_people_6 17 rfl rfl)
theorem dX2_people_159 : decode cX2_people 159 = .ok (.iconst 0, 1) := dk_3 (dk_at dksX2_people_6 19 rfl rfl)
theorem dX2_people_160 : decode cX2_people 160 = .ok (.bipush 9, 2) := dk_16 9 (dk_at dksX2_people_6 20 rfl rfl)
theorem dX2_people_162 : decode cX2_people 162 = .ok (.invokestatic 104, 3) := dk_184 0 104 (dk_at dksX2_people_7 0 rfl rfl)
theorem dX2_people_165 : decode cX2_people 165 = .ok (.ifCond .eq 17, 3) := dk_153 0 17 (dk_at dksX2_people_7 3 rfl rfl)
theorem dX2_people_168 : decode cX2_people 168 = .ok (.aload_n 0, 1) := dk_42 (dk_at dksX2_people_7 6 rfl rfl)
theorem dX2_people_169 : decode cX2_people 169 = .ok (.iload 8, 2) := dk_21 8 (dk_at dksX2_people_7 7 rfl rfl)
theorem dX2_people_171 : decode cX2_people 171 = .ok (.iload 9, 2) := dk_21 9 (dk_at dksX2_people_7 9 rfl rfl)
theorem dX2_people_173 : decode cX2_people 173 = .ok (.iload 10, 2) := dk_21 10 (dk_at dksX2_people_7 11 rfl rfl)
theorem dX2_people_175 : decode cX2_people 175 = .ok (.invokevirtual 112, 3) := dk_182 0 112 (dk_at dksX2_people_7 13 rfl rfl)
theorem dX2_people_178 : decode cX2_people 178 = .ok (.pop, 1) := dk_87 (dk_at dksX2_people_7 16 rfl rfl)
theorem dX2_people_179 : decode cX2_people 179 = .ok (.iinc 4 1, 3) := dk_132 4 1 (dk_at dksX2_people_7 17 rfl rfl)
theorem dX2_people_182 : decode cX2_people 182 = .ok (.iinc 5 1, 3) := dk_132 5 1 (dk_at dksX2_people_7 20 rfl rfl)
theorem dX2_people_185 : decode cX2_people 185 = .ok (.goto (-148), 3) := dk_167 255 108 (dk_at dksX2_people_8 0 rfl rfl)
theorem dX2_people_188 : decode cX2_people 188 = .ok (.iload 4, 2) := dk_21 4 (dk_at dksX2_people_8 3 rfl rfl)
theorem dX2_people_190 : decode cX2_people 190 = .ok (.ireturn, 1) := dk_172 (dk_at dksX2_people_8 5 rfl rfl)
abbrev cX2_isShelf : ByteArray := prog_31_method_53_code
def yX2_isShelf : MethodName := ⟨RX2, "isShelf", "(I)Z"⟩
def dkwX2_isShelf_0 : List UInt8 := [26, 3, 8, 184, 0, 104, 172]
abbrev dktX2_isShelf_0 : List UInt8 := dkwX2_isShelf_0 ++ []
theorem dksX2_isShelf_0 : cX2_isShelf.data.toList.drop 0 = dktX2_isShelf_0 := by decide +kernel
theorem dX2_isShelf_0 : decode cX2_isShelf 0 = .ok (.iload_n 0, 1) := dk_26 (dk_at dksX2_isShelf_0 0 rfl rfl)
theorem dX2_isShelf_1 : decode cX2_isShelf 1 = .ok (.iconst 0, 1) := dk_3 (dk_at dksX2_isShelf_0 1 rfl rfl)
theorem dX2_isShelf_2 : decode cX2_isShelf 2 = .ok (.iconst 5, 1) := dk_8 (dk_at dksX2_isShelf_0 2 rfl rfl)
theorem dX2_isShelf_3 : decode cX2_isShelf 3 = .ok (.invokestatic 104, 3) := dk_184 0 104 (dk_at dksX2_isShelf_0 3 rfl rfl)
theorem dX2_isShelf_6 : decode cX2_isShelf 6 = .ok (.ireturn, 1) := dk_172 (dk_at dksX2_isShelf_0 6 rfl rfl)
abbrev cX2_byteAt : ByteArray := prog_31_method_55_code
def yX2_byteAt : MethodName := ⟨RX2, "byteAt", "(II)I"⟩
def dkwX2_byteAt_1 : List UInt8 := [167, 0, 4, 2, 172]
abbrev dktX2_byteAt_1 : List UInt8 := dkwX2_byteAt_1 ++ []
def dkwX2_byteAt_0 : List UInt8 := [28, 42, 180, 0, 61, 27, 46, 162, 0, 18, 42, 180, 0, 64, 16, 60, 27, 104, 28, 96, 47, 136]
abbrev dktX2_byteAt_0 : List UInt8 := dkwX2_byteAt_0 ++ dktX2_byteAt_1
theorem dksX2_byteAt_0 : cX2_byteAt.data.toList.drop 0 = dktX2_byteAt_0 := by decide +kernel
theorem dksX2_byteAt_1 : cX2_byteAt.data.toList.drop 22 = dktX2_byteAt_1 := dk_seg dksX2_byteAt_0 22 rfl rfl
theorem dX2_byteAt_0 : decode cX2_byteAt 0 = .ok (.iload_n 2, 1) := dk_28 (dk_at dksX2_byteAt_0 0 rfl rfl)
theorem dX2_byteAt_1 : decode cX2_byteAt 1 = .ok (.aload_n 0, 1) := dk_42 (dk_at dksX2_byteAt_0 1 rfl rfl)
theorem dX2_byteAt_2 : decode cX2_byteAt 2 = .ok (.getfield 61, 3) := dk_180 0 61 (dk_at dksX2_byteAt_0 2 rfl rfl)
theorem dX2_byteAt_5 : decode cX2_byteAt 5 = .ok (.iload_n 1, 1) := dk_27 (dk_at dksX2_byteAt_0 5 rfl rfl)
theorem dX2_byteAt_6 : decode cX2_byteAt 6 = .ok (.iaload, 1) := dk_46 (dk_at dksX2_byteAt_0 6 rfl rfl)
theorem dX2_byteAt_7 : decode cX2_byteAt 7 = .ok (.if_icmp .ge 18, 3) := dk_162 0 18 (dk_at dksX2_byteAt_0 7 rfl rfl)
theorem dX2_byteAt_10 : decode cX2_byteAt 10 = .ok (.aload_n 0, 1) := dk_42 (dk_at dksX2_byteAt_0 10 rfl rfl)
theorem dX2_byteAt_11 : decode cX2_byteAt 11 = .ok (.getfield 64, 3) := dk_180 0 64 (dk_at dksX2_byteAt_0 11 rfl rfl)
theorem dX2_byteAt_14 : decode cX2_byteAt 14 = .ok (.bipush 60, 2) := dk_16 60 (dk_at dksX2_byteAt_0 14 rfl rfl)
theorem dX2_byteAt_16 : decode cX2_byteAt 16 = .ok (.iload_n 1, 1) := dk_27 (dk_at dksX2_byteAt_0 16 rfl rfl)
theorem dX2_byteAt_17 : decode cX2_byteAt 17 = .ok (.imul, 1) := dk_104 (dk_at dksX2_byteAt_0 17 rfl rfl)
theorem dX2_byteAt_18 : decode cX2_byteAt 18 = .ok (.iload_n 2, 1) := dk_28 (dk_at dksX2_byteAt_0 18 rfl rfl)
theorem dX2_byteAt_19 : decode cX2_byteAt 19 = .ok (.iadd, 1) := dk_96 (dk_at dksX2_byteAt_0 19 rfl rfl)
theorem dX2_byteAt_20 : decode cX2_byteAt 20 = .ok (.laload, 1) := dk_47 (dk_at dksX2_byteAt_0 20 rfl rfl)
theorem dX2_byteAt_21 : decode cX2_byteAt 21 = .ok (.l2i, 1) := dk_136 (dk_at dksX2_byteAt_0 21 rfl rfl)
theorem dX2_byteAt_22 : decode cX2_byteAt 22 = .ok (.goto 4, 3) := dk_167 0 4 (dk_at dksX2_byteAt_1 0 rfl rfl)
theorem dX2_byteAt_25 : decode cX2_byteAt 25 = .ok (.iconst (-1), 1) := dk_2 (dk_at dksX2_byteAt_1 3 rfl rfl)
theorem dX2_byteAt_26 : decode cX2_byteAt 26 = .ok (.ireturn, 1) := dk_172 (dk_at dksX2_byteAt_1 4 rfl rfl)
abbrev cX2_judge : ByteArray := prog_31_method_58_code
def yX2_judge : MethodName := ⟨RX2, "judge", "(II)I"⟩
def dkwX2_judge_1 : List UInt8 := [162, 0, 11, 42, 27, 182, 1, 22, 167, 0, 9, 42, 27, 28, 182, 1, 25, 172]
abbrev dktX2_judge_1 : List UInt8 := dkwX2_judge_1 ++ []
def dkwX2_judge_0 : List UInt8 := [27, 184, 1, 12, 153, 0, 11, 42, 28, 182, 0, 116, 154, 0, 5, 2, 172, 42, 27, 182, 1, 22, 4]
abbrev dktX2_judge_0 : List UInt8 := dkwX2_judge_0 ++ dktX2_judge_1
theorem dksX2_judge_0 : cX2_judge.data.toList.drop 0 = dktX2_judge_0 := by decide +kernel
theorem dksX2_judge_1 : cX2_judge.data.toList.drop 23 = dktX2_judge_1 := dk_seg dksX2_judge_0 23 rfl rfl
theorem dX2_judge_0 : decode cX2_judge 0 = .ok (.iload_n 1, 1) := dk_27 (dk_at dksX2_judge_0 0 rfl rfl)
theorem dX2_judge_1 : decode cX2_judge 1 = .ok (.invokestatic 268, 3) := dk_184 1 12 (dk_at dksX2_judge_0 1 rfl rfl)
theorem dX2_judge_4 : decode cX2_judge 4 = .ok (.ifCond .eq 11, 3) := dk_153 0 11 (dk_at dksX2_judge_0 4 rfl rfl)
theorem dX2_judge_7 : decode cX2_judge 7 = .ok (.aload_n 0, 1) := dk_42 (dk_at dksX2_judge_0 7 rfl rfl)
theorem dX2_judge_8 : decode cX2_judge 8 = .ok (.iload_n 2, 1) := dk_28 (dk_at dksX2_judge_0 8 rfl rfl)
theorem dX2_judge_9 : decode cX2_judge 9 = .ok (.invokevirtual 116, 3) := dk_182 0 116 (dk_at dksX2_judge_0 9 rfl rfl)
theorem dX2_judge_12 : decode cX2_judge 12 = .ok (.ifCond .ne 5, 3) := dk_154 0 5 (dk_at dksX2_judge_0 12 rfl rfl)
theorem dX2_judge_15 : decode cX2_judge 15 = .ok (.iconst (-1), 1) := dk_2 (dk_at dksX2_judge_0 15 rfl rfl)
theorem dX2_judge_16 : decode cX2_judge 16 = .ok (.ireturn, 1) := dk_172 (dk_at dksX2_judge_0 16 rfl rfl)
theorem dX2_judge_17 : decode cX2_judge 17 = .ok (.aload_n 0, 1) := dk_42 (dk_at dksX2_judge_0 17 rfl rfl)
theorem dX2_judge_18 : decode cX2_judge 18 = .ok (.iload_n 1, 1) := dk_27 (dk_at dksX2_judge_0 18 rfl rfl)
theorem dX2_judge_19 : decode cX2_judge 19 = .ok (.invokevirtual 278, 3) := dk_182 1 22 (dk_at dksX2_judge_0 19 rfl rfl)
theorem dX2_judge_22 : decode cX2_judge 22 = .ok (.iconst 1, 1) := dk_4 (dk_at dksX2_judge_0 22 rfl rfl)
theorem dX2_judge_23 : decode cX2_judge 23 = .ok (.if_icmp .ge 11, 3) := dk_162 0 11 (dk_at dksX2_judge_1 0 rfl rfl)
theorem dX2_judge_26 : decode cX2_judge 26 = .ok (.aload_n 0, 1) := dk_42 (dk_at dksX2_judge_1 3 rfl rfl)
theorem dX2_judge_27 : decode cX2_judge 27 = .ok (.iload_n 1, 1) := dk_27 (dk_at dksX2_judge_1 4 rfl rfl)
theorem dX2_judge_28 : decode cX2_judge 28 = .ok (.invokevirtual 278, 3) := dk_182 1 22 (dk_at dksX2_judge_1 5 rfl rfl)
theorem dX2_judge_31 : decode cX2_judge 31 = .ok (.goto 9, 3) := dk_167 0 9 (dk_at dksX2_judge_1 8 rfl rfl)
theorem dX2_judge_34 : decode cX2_judge 34 = .ok (.aload_n 0, 1) := dk_42 (dk_at dksX2_judge_1 11 rfl rfl)
theorem dX2_judge_35 : decode cX2_judge 35 = .ok (.iload_n 1, 1) := dk_27 (dk_at dksX2_judge_1 12 rfl rfl)
theorem dX2_judge_36 : decode cX2_judge 36 = .ok (.iload_n 2, 1) := dk_28 (dk_at dksX2_judge_1 13 rfl rfl)
theorem dX2_judge_37 : decode cX2_judge 37 = .ok (.invokevirtual 281, 3) := dk_182 1 25 (dk_at dksX2_judge_1 14 rfl rfl)
theorem dX2_judge_40 : decode cX2_judge 40 = .ok (.ireturn, 1) := dk_172 (dk_at dksX2_judge_1 17 rfl rfl)
abbrev cX2_bytesIn : ByteArray := prog_31_method_54_code
def yX2_bytesIn : MethodName := ⟨RX2, "bytesIn", "(I)I"⟩
def dkwX2_bytesIn_1 : List UInt8 := [16, 244, 167, 0, 4, 4, 172]
abbrev dktX2_bytesIn_1 : List UInt8 := dkwX2_bytesIn_1 ++ []
def dkwX2_bytesIn_0 : List UInt8 := [42, 180, 0, 58, 27, 46, 2, 160, 0, 8, 16, 245, 167, 0, 18, 42, 180, 0, 58, 27, 46, 153, 0, 8]
abbrev dktX2_bytesIn_0 : List UInt8 := dkwX2_bytesIn_0 ++ dktX2_bytesIn_1
theorem dksX2_bytesIn_0 : cX2_bytesIn.data.toList.drop 0 = dktX2_bytesIn_0 := by decide +kernel
theorem dksX2_bytesIn_1 : cX2_bytesIn.data.toList.drop 24 = dktX2_bytesIn_1 := dk_seg dksX2_bytesIn_0 24 rfl rfl
theorem dX2_bytesIn_0 : decode cX2_bytesIn 0 = .ok (.aload_n 0, 1) := dk_42 (dk_at dksX2_bytesIn_0 0 rfl rfl)
theorem dX2_bytesIn_1 : decode cX2_bytesIn 1 = .ok (.getfield 58, 3) := dk_180 0 58 (dk_at dksX2_bytesIn_0 1 rfl rfl)
theorem dX2_bytesIn_4 : decode cX2_bytesIn 4 = .ok (.iload_n 1, 1) := dk_27 (dk_at dksX2_bytesIn_0 4 rfl rfl)
theorem dX2_bytesIn_5 : decode cX2_bytesIn 5 = .ok (.iaload, 1) := dk_46 (dk_at dksX2_bytesIn_0 5 rfl rfl)
theorem dX2_bytesIn_6 : decode cX2_bytesIn 6 = .ok (.iconst (-1), 1) := dk_2 (dk_at dksX2_bytesIn_0 6 rfl rfl)
theorem dX2_bytesIn_7 : decode cX2_bytesIn 7 = .ok (.if_icmp .ne 8, 3) := dk_160 0 8 (dk_at dksX2_bytesIn_0 7 rfl rfl)
theorem dX2_bytesIn_10 : decode cX2_bytesIn 10 = .ok (.bipush (-11), 2) := dk_16 245 (dk_at dksX2_bytesIn_0 10 rfl rfl)
theorem dX2_bytesIn_12 : decode cX2_bytesIn 12 = .ok (.goto 18, 3) := dk_167 0 18 (dk_at dksX2_bytesIn_0 12 rfl rfl)
theorem dX2_bytesIn_15 : decode cX2_bytesIn 15 = .ok (.aload_n 0, 1) := dk_42 (dk_at dksX2_bytesIn_0 15 rfl rfl)
theorem dX2_bytesIn_16 : decode cX2_bytesIn 16 = .ok (.getfield 58, 3) := dk_180 0 58 (dk_at dksX2_bytesIn_0 16 rfl rfl)
theorem dX2_bytesIn_19 : decode cX2_bytesIn 19 = .ok (.iload_n 1, 1) := dk_27 (dk_at dksX2_bytesIn_0 19 rfl rfl)
theorem dX2_bytesIn_20 : decode cX2_bytesIn 20 = .ok (.iaload, 1) := dk_46 (dk_at dksX2_bytesIn_0 20 rfl rfl)
theorem dX2_bytesIn_21 : decode cX2_bytesIn 21 = .ok (.ifCond .eq 8, 3) := dk_153 0 8 (dk_at dksX2_bytesIn_0 21 rfl rfl)
theorem dX2_bytesIn_24 : decode cX2_bytesIn 24 = .ok (.bipush (-12), 2) := dk_16 244 (dk_at dksX2_bytesIn_1 0 rfl rfl)
theorem dX2_bytesIn_26 : decode cX2_bytesIn 26 = .ok (.goto 4, 3) := dk_167 0 4 (dk_at dksX2_bytesIn_1 2 rfl rfl)
theorem dX2_bytesIn_29 : decode cX2_bytesIn 29 = .ok (.iconst 1, 1) := dk_4 (dk_at dksX2_bytesIn_1 5 rfl rfl)
theorem dX2_bytesIn_30 : decode cX2_bytesIn 30 = .ok (.ireturn, 1) := dk_172 (dk_at dksX2_bytesIn_1 6 rfl rfl)
abbrev cX2_wrong : ByteArray := prog_31_method_57_code
def yX2_wrong : MethodName := ⟨RX2, "wrong", "(II)I"⟩
def dkwX2_wrong_3 : List UInt8 := [182, 0, 224, 29, 172]
abbrev dktX2_wrong_3 : List UInt8 := dkwX2_wrong_3 ++ []
def dkwX2_wrong_2 : List UInt8 := [160, 0, 8, 16, 254, 167, 0, 5, 21, 4, 62, 42, 182, 0, 211, 132, 4, 1, 167, 255, 203, 42, 3]
abbrev dktX2_wrong_2 : List UInt8 := dkwX2_wrong_2 ++ dktX2_wrong_3
def dkwX2_wrong_1 : List UInt8 := [162, 0, 43, 29, 16, 254, 160, 0, 37, 42, 28, 6, 182, 0, 191, 42, 27, 21, 4, 182, 1, 19]
abbrev dktX2_wrong_1 : List UInt8 := dkwX2_wrong_1 ++ dktX2_wrong_2
def dkwX2_wrong_0 : List UInt8 := [42, 3, 182, 0, 214, 16, 254, 62, 3, 54, 4, 21, 4, 16, 41, 42, 180, 0, 61, 27, 46, 184, 0, 92]
abbrev dktX2_wrong_0 : List UInt8 := dkwX2_wrong_0 ++ dktX2_wrong_1
theorem dksX2_wrong_0 : cX2_wrong.data.toList.drop 0 = dktX2_wrong_0 := by decide +kernel
theorem dksX2_wrong_1 : cX2_wrong.data.toList.drop 24 = dktX2_wrong_1 := dk_seg dksX2_wrong_0 24 rfl rfl
theorem dksX2_wrong_2 : cX2_wrong.data.toList.drop 46 = dktX2_wrong_2 := dk_seg dksX2_wrong_1 22 rfl rfl
theorem dksX2_wrong_3 : cX2_wrong.data.toList.drop 69 = dktX2_wrong_3 := dk_seg dksX2_wrong_2 23 rfl rfl
theorem dX2_wrong_0 : decode cX2_wrong 0 = .ok (.aload_n 0, 1) := dk_42 (dk_at dksX2_wrong_0 0 rfl rfl)
theorem dX2_wrong_1 : decode cX2_wrong 1 = .ok (.iconst 0, 1) := dk_3 (dk_at dksX2_wrong_0 1 rfl rfl)
theorem dX2_wrong_2 : decode cX2_wrong 2 = .ok (.invokevirtual 214, 3) := dk_182 0 214 (dk_at dksX2_wrong_0 2 rfl rfl)
theorem dX2_wrong_5 : decode cX2_wrong 5 = .ok (.bipush (-2), 2) := dk_16 254 (dk_at dksX2_wrong_0 5 rfl rfl)
theorem dX2_wrong_7 : decode cX2_wrong 7 = .ok (.istore_n 3, 1) := dk_62 (dk_at dksX2_wrong_0 7 rfl rfl)
theorem dX2_wrong_8 : decode cX2_wrong 8 = .ok (.iconst 0, 1) := dk_3 (dk_at dksX2_wrong_0 8 rfl rfl)
theorem dX2_wrong_9 : decode cX2_wrong 9 = .ok (.istore 4, 2) := dk_54 4 (dk_at dksX2_wrong_0 9 rfl rfl)
theorem dX2_wrong_11 : decode cX2_wrong 11 = .ok (.iload 4, 2) := dk_21 4 (dk_at dksX2_wrong_0 11 rfl rfl)
theorem dX2_wrong_13 : decode cX2_wrong 13 = .ok (.bipush 41, 2) := dk_16 41 (dk_at dksX2_wrong_0 13 rfl rfl)
theorem dX2_wrong_15 : decode cX2_wrong 15 = .ok (.aload_n 0, 1) := dk_42 (dk_at dksX2_wrong_0 15 rfl rfl)
theorem dX2_wrong_16 : decode cX2_wrong 16 = .ok (.getfield 61, 3) := dk_180 0 61 (dk_at dksX2_wrong_0 16 rfl rfl)
theorem dX2_wrong_19 : decode cX2_wrong 19 = .ok (.iload_n 1, 1) := dk_27 (dk_at dksX2_wrong_0 19 rfl rfl)
theorem dX2_wrong_20 : decode cX2_wrong 20 = .ok (.iaload, 1) := dk_46 (dk_at dksX2_wrong_0 20 rfl rfl)
theorem dX2_wrong_21 : decode cX2_wrong 21 = .ok (.invokestatic 92, 3) := dk_184 0 92 (dk_at dksX2_wrong_0 21 rfl rfl)
theorem dX2_wrong_24 : decode cX2_wrong 24 = .ok (.if_icmp .ge 43, 3) := dk_162 0 43 (dk_at dksX2_wrong_1 0 rfl rfl)
theorem dX2_wrong_27 : decode cX2_wrong 27 = .ok (.iload_n 3, 1) := dk_29 (dk_at dksX2_wrong_1 3 rfl rfl)
theorem dX2_wrong_28 : decode cX2_wrong 28 = .ok (.bipush (-2), 2) := dk_16 254 (dk_at dksX2_wrong_1 4 rfl rfl)
theorem dX2_wrong_30 : decode cX2_wrong 30 = .ok (.if_icmp .ne 37, 3) := dk_160 0 37 (dk_at dksX2_wrong_1 6 rfl rfl)
theorem dX2_wrong_33 : decode cX2_wrong 33 = .ok (.aload_n 0, 1) := dk_42 (dk_at dksX2_wrong_1 9 rfl rfl)
theorem dX2_wrong_34 : decode cX2_wrong 34 = .ok (.iload_n 2, 1) := dk_28 (dk_at dksX2_wrong_1 10 rfl rfl)
theorem dX2_wrong_35 : decode cX2_wrong 35 = .ok (.iconst 3, 1) := dk_6 (dk_at dksX2_wrong_1 11 rfl rfl)
theorem dX2_wrong_36 : decode cX2_wrong 36 = .ok (.invokevirtual 191, 3) := dk_182 0 191 (dk_at dksX2_wrong_1 12 rfl rfl)
theorem dX2_wrong_39 : decode cX2_wrong 39 = .ok (.aload_n 0, 1) := dk_42 (dk_at dksX2_wrong_1 15 rfl rfl)
theorem dX2_wrong_40 : decode cX2_wrong 40 = .ok (.iload_n 1, 1) := dk_27 (dk_at dksX2_wrong_1 16 rfl rfl)
theorem dX2_wrong_41 : decode cX2_wrong 41 = .ok (.iload 4, 2) := dk_21 4 (dk_at dksX2_wrong_1 17 rfl rfl)
theorem dX2_wrong_43 : decode cX2_wrong 43 = .ok (.invokevirtual 275, 3) := dk_182 1 19 (dk_at dksX2_wrong_1 19 rfl rfl)
theorem dX2_wrong_46 : decode cX2_wrong 46 = .ok (.if_icmp .ne 8, 3) := dk_160 0 8 (dk_at dksX2_wrong_2 0 rfl rfl)
theorem dX2_wrong_49 : decode cX2_wrong 49 = .ok (.bipush (-2), 2) := dk_16 254 (dk_at dksX2_wrong_2 3 rfl rfl)
theorem dX2_wrong_51 : decode cX2_wrong 51 = .ok (.goto 5, 3) := dk_167 0 5 (dk_at dksX2_wrong_2 5 rfl rfl)
theorem dX2_wrong_54 : decode cX2_wrong 54 = .ok (.iload 4, 2) := dk_21 4 (dk_at dksX2_wrong_2 8 rfl rfl)
theorem dX2_wrong_56 : decode cX2_wrong 56 = .ok (.istore_n 3, 1) := dk_62 (dk_at dksX2_wrong_2 10 rfl rfl)
theorem dX2_wrong_57 : decode cX2_wrong 57 = .ok (.aload_n 0, 1) := dk_42 (dk_at dksX2_wrong_2 11 rfl rfl)
theorem dX2_wrong_58 : decode cX2_wrong 58 = .ok (.invokevirtual 211, 3) := dk_182 0 211 (dk_at dksX2_wrong_2 12 rfl rfl)
theorem dX2_wrong_61 : decode cX2_wrong 61 = .ok (.iinc 4 1, 3) := dk_132 4 1 (dk_at dksX2_wrong_2 15 rfl rfl)
theorem dX2_wrong_64 : decode cX2_wrong 64 = .ok (.goto (-53), 3) := dk_167 255 203 (dk_at dksX2_wrong_2 18 rfl rfl)
theorem dX2_wrong_67 : decode cX2_wrong 67 = .ok (.aload_n 0, 1) := dk_42 (dk_at dksX2_wrong_2 21 rfl rfl)
theorem dX2_wrong_68 : decode cX2_wrong 68 = .ok (.iconst 0, 1) := dk_3 (dk_at dksX2_wrong_2 22 rfl rfl)
theorem dX2_wrong_69 : decode cX2_wrong 69 = .ok (.invokevirtual 224, 3) := dk_182 0 224 (dk_at dksX2_wrong_3 0 rfl rfl)
theorem dX2_wrong_72 : decode cX2_wrong 72 = .ok (.iload_n 3, 1) := dk_29 (dk_at dksX2_wrong_3 3 rfl rfl)
theorem dX2_wrong_73 : decode cX2_wrong 73 = .ok (.ireturn, 1) := dk_172 (dk_at dksX2_wrong_3 4 rfl rfl)
abbrev cX2_fits : ByteArray := prog_31_method_59_code
def yX2_fits : MethodName := ⟨RX2, "fits", "(III)I"⟩
def dkwX2_fits_10 : List UInt8 := [160, 0, 8, 21, 9, 167, 0, 5, 21, 10, 172]
abbrev dktX2_fits_10 : List UInt8 := dkwX2_fits_10 ++ []
def dkwX2_fits_9 : List UInt8 := [167, 255, 158, 42, 21, 5, 21, 6, 21, 7, 182, 0, 108, 29, 154, 0, 8, 21, 8, 167, 0, 15, 29, 4]
abbrev dktX2_fits_9 : List UInt8 := dkwX2_fits_9 ++ dktX2_fits_10
def dkwX2_fits_8 : List UInt8 := [21, 10, 21, 11, 2, 160, 0, 9, 17, 1, 0, 167, 0, 7, 4, 21, 11, 120, 128, 54, 10, 132, 11, 1]
abbrev dktX2_fits_8 : List UInt8 := dkwX2_fits_8 ++ dktX2_fits_9
def dkwX2_fits_7 : List UInt8 := [16, 254, 160, 0, 43, 132, 8, 1, 21, 9, 16, 254, 160, 0, 8, 21, 11, 167, 0, 5, 21, 9, 54, 9]
abbrev dktX2_fits_7 : List UInt8 := dkwX2_fits_7 ++ dktX2_fits_8
def dkwX2_fits_6 : List UInt8 := [21, 11, 182, 0, 108, 29, 5, 161, 0, 10, 21, 11, 21, 5, 159, 0, 55, 42, 27, 21, 4, 182, 1, 25]
abbrev dktX2_fits_6 : List UInt8 := dkwX2_fits_6 ++ dktX2_fits_7
def dkwX2_fits_5 : List UInt8 := [29, 5, 160, 0, 12, 42, 180, 0, 101, 4, 100, 167, 0, 5, 16, 9, 163, 0, 83, 42, 21, 5, 21, 6]
abbrev dktX2_fits_5 : List UInt8 := dkwX2_fits_5 ++ dktX2_fits_6
def dkwX2_fits_4 : List UInt8 := [3, 54, 8, 16, 254, 54, 9, 3, 54, 10, 29, 5, 160, 0, 7, 2, 167, 0, 4, 3, 54, 11, 21, 11]
abbrev dktX2_fits_4 : List UInt8 := dkwX2_fits_4 ++ dktX2_fits_5
def dkwX2_fits_3 : List UInt8 := [54, 5, 29, 5, 160, 0, 7, 7, 167, 0, 4, 4, 54, 6, 42, 21, 5, 21, 6, 182, 0, 191, 54, 7]
abbrev dktX2_fits_3 : List UInt8 := dkwX2_fits_3 ++ dktX2_fits_4
def dkwX2_fits_2 : List UInt8 := [182, 1, 22, 4, 162, 0, 9, 42, 27, 182, 1, 22, 172, 28, 16, 10, 108, 54, 4, 28, 16, 10, 112]
abbrev dktX2_fits_2 : List UInt8 := dkwX2_fits_2 ++ dktX2_fits_3
def dkwX2_fits_1 : List UInt8 := [16, 10, 112, 182, 0, 116, 153, 0, 12, 29, 3, 5, 184, 0, 104, 154, 0, 5, 2, 172, 42, 27]
abbrev dktX2_fits_1 : List UInt8 := dkwX2_fits_1 ++ dktX2_fits_2
def dkwX2_fits_0 : List UInt8 := [27, 184, 1, 12, 153, 0, 38, 28, 155, 0, 34, 42, 28, 16, 10, 108, 182, 0, 116, 153, 0, 23, 42, 28]
abbrev dktX2_fits_0 : List UInt8 := dkwX2_fits_0 ++ dktX2_fits_1
theorem dksX2_fits_0 : cX2_fits.data.toList.drop 0 = dktX2_fits_0 := by decide +kernel
theorem dksX2_fits_1 : cX2_fits.data.toList.drop 24 = dktX2_fits_1 := dk_seg dksX2_fits_0 24 rfl rfl
theorem dksX2_fits_2 : cX2_fits.data.toList.drop 46 = dktX2_fits_2 := dk_seg dksX2_fits_1 22 rfl rfl
theorem dksX2_fits_3 : cX2_fits.data.toList.drop 69 = dktX2_fits_3 := dk_seg dksX2_fits_2 23 rfl rfl
theorem dksX2_fits_4 : cX2_fits.data.toList.drop 93 = dktX2_fits_4 := dk_seg dksX2_fits_3 24 rfl rfl
theorem dksX2_fits_5 : cX2_fits.data.toList.drop 117 = dktX2_fits_5 := dk_seg dksX2_fits_4 24 rfl rfl
theorem dksX2_fits_6 : cX2_fits.data.toList.drop 141 = dktX2_fits_6 := dk_seg dksX2_fits_5 24 rfl rfl
theorem dksX2_fits_7 : cX2_fits.data.toList.drop 165 = dktX2_fits_7 := dk_seg dksX2_fits_6 24 rfl rfl
theorem dksX2_fits_8 : cX2_fits.data.toList.drop 189 = dktX2_fits_8 := dk_seg dksX2_fits_7 24 rfl rfl
theorem dksX2_fits_9 : cX2_fits.data.toList.drop 213 = dktX2_fits_9 := dk_seg dksX2_fits_8 24 rfl rfl
theorem dksX2_fits_10 : cX2_fits.data.toList.drop 237 = dktX2_fits_10 := dk_seg dksX2_fits_9 24 rfl rfl
theorem dX2_fits_0 : decode cX2_fits 0 = .ok (.iload_n 1, 1) := dk_27 (dk_at dksX2_fits_0 0 rfl rfl)
theorem dX2_fits_1 : decode cX2_fits 1 = .ok (.invokestatic 268, 3) := dk_184 1 12 (dk_at dksX2_fits_0 1 rfl rfl)
theorem dX2_fits_4 : decode cX2_fits 4 = .ok (.ifCond .eq 38, 3) := dk_153 0 38 (dk_at dksX2_fits_0 4 rfl rfl)
theorem dX2_fits_7 : decode cX2_fits 7 = .ok (.iload_n 2, 1) := dk_28 (dk_at dksX2_fits_0 7 rfl rfl)
theorem dX2_fits_8 : decode cX2_fits 8 = .ok (.ifCond .lt 34, 3) := dk_155 0 34 (dk_at dksX2_fits_0 8 rfl rfl)
theorem dX2_fits_11 : decode cX2_fits 11 = .ok (.aload_n 0, 1) := dk_42 (dk_at dksX2_fits_0 11 rfl rfl)
theorem dX2_fits_12 : decode cX2_fits 12 = .ok (.iload_n 2, 1) := dk_28 (dk_at dksX2_fits_0 12 rfl rfl)
theorem dX2_fits_13 : decode cX2_fits 13 = .ok (.bipush 10, 2) := dk_16 10 (dk_at dksX2_fits_0 13 rfl rfl)
theorem dX2_fits_15 : decode cX2_fits 15 = .ok (.idiv, 1) := dk_108 (dk_at dksX2_fits_0 15 rfl rfl)
theorem dX2_fits_16 : decode cX2_fits 16 = .ok (.invokevirtual 116, 3) := dk_182 0 116 (dk_at dksX2_fits_0 16 rfl rfl)
theorem dX2_fits_19 : decode cX2_fits 19 = .ok (.ifCond .eq 23, 3) := dk_153 0 23 (dk_at dksX2_fits_0 19 rfl rfl)
theorem dX2_fits_22 : decode cX2_fits 22 = .ok (.aload_n 0, 1) := dk_42 (dk_at dksX2_fits_0 22 rfl rfl)
theorem dX2_fits_23 : decode cX2_fits 23 = .ok (.iload_n 2, 1) := dk_28 (dk_at dksX2_fits_0 23 rfl rfl)
theorem dX2_fits_24 : decode cX2_fits 24 = .ok (.bipush 10, 2) := dk_16 10 (dk_at dksX2_fits_1 0 rfl rfl)
theorem dX2_fits_26 : decode cX2_fits 26 = .ok (.irem, 1) := dk_112 (dk_at dksX2_fits_1 2 rfl rfl)
theorem dX2_fits_27 : decode cX2_fits 27 = .ok (.invokevirtual 116, 3) := dk_182 0 116 (dk_at dksX2_fits_1 3 rfl rfl)
theorem dX2_fits_30 : decode cX2_fits 30 = .ok (.ifCond .eq 12, 3) := dk_153 0 12 (dk_at dksX2_fits_1 6 rfl rfl)
theorem dX2_fits_33 : decode cX2_fits 33 = .ok (.iload_n 3, 1) := dk_29 (dk_at dksX2_fits_1 9 rfl rfl)
theorem dX2_fits_34 : decode cX2_fits 34 = .ok (.iconst 0, 1) := dk_3 (dk_at dksX2_fits_1 10 rfl rfl)
theorem dX2_fits_35 : decode cX2_fits 35 = .ok (.iconst 2, 1) := dk_5 (dk_at dksX2_fits_1 11 rfl rfl)
theorem dX2_fits_36 : decode cX2_fits 36 = .ok (.invokestatic 104, 3) := dk_184 0 104 (dk_at dksX2_fits_1 12 rfl rfl)
theorem dX2_fits_39 : decode cX2_fits 39 = .ok (.ifCond .ne 5, 3) := dk_154 0 5 (dk_at dksX2_fits_1 15 rfl rfl)
theorem dX2_fits_42 : decode cX2_fits 42 = .ok (.iconst (-1), 1) := dk_2 (dk_at dksX2_fits_1 18 rfl rfl)
theorem dX2_fits_43 : decode cX2_fits 43 = .ok (.ireturn, 1) := dk_172 (dk_at dksX2_fits_1 19 rfl rfl)
theorem dX2_fits_44 : decode cX2_fits 44 = .ok (.aload_n 0, 1) := dk_42 (dk_at dksX2_fits_1 20 rfl rfl)
theorem dX2_fits_45 : decode cX2_fits 45 = .ok (.iload_n 1, 1) := dk_27 (dk_at dksX2_fits_1 21 rfl rfl)
theorem dX2_fits_46 : decode cX2_fits 46 = .ok (.invokevirtual 278, 3) := dk_182 1 22 (dk_at dksX2_fits_2 0 rfl rfl)
theorem dX2_fits_49 : decode cX2_fits 49 = .ok (.iconst 1, 1) := dk_4 (dk_at dksX2_fits_2 3 rfl rfl)
theorem dX2_fits_50 : decode cX2_fits 50 = .ok (.if_icmp .ge 9, 3) := dk_162 0 9 (dk_at dksX2_fits_2 4 rfl rfl)
theorem dX2_fits_53 : decode cX2_fits 53 = .ok (.aload_n 0, 1) := dk_42 (dk_at dksX2_fits_2 7 rfl rfl)
theorem dX2_fits_54 : decode cX2_fits 54 = .ok (.iload_n 1, 1) := dk_27 (dk_at dksX2_fits_2 8 rfl rfl)
theorem dX2_fits_55 : decode cX2_fits 55 = .ok (.invokevirtual 278, 3) := dk_182 1 22 (dk_at dksX2_fits_2 9 rfl rfl)
theorem dX2_fits_58 : decode cX2_fits 58 = .ok (.ireturn, 1) := dk_172 (dk_at dksX2_fits_2 12 rfl rfl)
theorem dX2_fits_59 : decode cX2_fits 59 = .ok (.iload_n 2, 1) := dk_28 (dk_at dksX2_fits_2 13 rfl rfl)
theorem dX2_fits_60 : decode cX2_fits 60 = .ok (.bipush 10, 2) := dk_16 10 (dk_at dksX2_fits_2 14 rfl rfl)
theorem dX2_fits_62 : decode cX2_fits 62 = .ok (.idiv, 1) := dk_108 (dk_at dksX2_fits_2 16 rfl rfl)
theorem dX2_fits_63 : decode cX2_fits 63 = .ok (.istore 4, 2) := dk_54 4 (dk_at dksX2_fits_2 17 rfl rfl)
theorem dX2_fits_65 : decode cX2_fits 65 = .ok (.iload_n 2, 1) := dk_28 (dk_at dksX2_fits_2 19 rfl rfl)
theorem dX2_fits_66 : decode cX2_fits 66 = .ok (.bipush 10, 2) := dk_16 10 (dk_at dksX2_fits_2 20 rfl rfl)
theorem dX2_fits_68 : decode cX2_fits 68 = .ok (.irem, 1) := dk_112 (dk_at dksX2_fits_2 22 rfl rfl)
theorem dX2_fits_69 : decode cX2_fits 69 = .ok (.istore 5, 2) := dk_54 5 (dk_at dksX2_fits_3 0 rfl rfl)
theorem dX2_fits_71 : decode cX2_fits 71 = .ok (.iload_n 3, 1) := dk_29 (dk_at dksX2_fits_3 2 rfl rfl)
theorem dX2_fits_72 : decode cX2_fits 72 = .ok (.iconst 2, 1) := dk_5 (dk_at dksX2_fits_3 3 rfl rfl)
theorem dX2_fits_73 : decode cX2_fits 73 = .ok (.if_icmp .ne 7, 3) := dk_160 0 7 (dk_at dksX2_fits_3 4 rfl rfl)
theorem dX2_fits_76 : decode cX2_fits 76 = .ok (.iconst 4, 1) := dk_7 (dk_at dksX2_fits_3 7 rfl rfl)
theorem dX2_fits_77 : decode cX2_fits 77 = .ok (.goto 4, 3) := dk_167 0 4 (dk_at dksX2_fits_3 8 rfl rfl)
theorem dX2_fits_80 : decode cX2_fits 80 = .ok (.iconst 1, 1) := dk_4 (dk_at dksX2_fits_3 11 rfl rfl)
theorem dX2_fits_81 : decode cX2_fits 81 = .ok (.istore 6, 2) := dk_54 6 (dk_at dksX2_fits_3 12 rfl rfl)
theorem dX2_fits_83 : decode cX2_fits 83 = .ok (.aload_n 0, 1) := dk_42 (dk_at dksX2_fits_3 14 rfl rfl)
theorem dX2_fits_84 : decode cX2_fits 84 = .ok (.iload 5, 2) := dk_21 5 (dk_at dksX2_fits_3 15 rfl rfl)
theorem dX2_fits_86 : decode cX2_fits 86 = .ok (.iload 6, 2) := dk_21 6 (dk_at dksX2_fits_3 17 rfl rfl)
theorem dX2_fits_88 : decode cX2_fits 88 = .ok (.invokevirtual 191, 3) := dk_182 0 191 (dk_at dksX2_fits_3 19 rfl rfl)
theorem dX2_fits_91 : decode cX2_fits 91 = .ok (.istore 7, 2) := dk_54 7 (dk_at dksX2_fits_3 22 rfl rfl)
theorem dX2_fits_93 : decode cX2_fits 93 = .ok (.iconst 0, 1) := dk_3 (dk_at dksX2_fits_4 0 rfl rfl)
theorem dX2_fits_94 : decode cX2_fits 94 = .ok (.istore 8, 2) := dk_54 8 (dk_at dksX2_fits_4 1 rfl rfl)
theorem dX2_fits_96 : decode cX2_fits 96 = .ok (.bipush (-2), 2) := dk_16 254 (dk_at dksX2_fits_4 3 rfl rfl)
theorem dX2_fits_98 : decode cX2_fits 98 = .ok (.istore 9, 2) := dk_54 9 (dk_at dksX2_fits_4 5 rfl rfl)
theorem dX2_fits_100 : decode cX2_fits 100 = .ok (.iconst 0, 1) := dk_3 (dk_at dksX2_fits_4 7 rfl rfl)
theorem dX2_fits_101 : decode cX2_fits 101 = .ok (.istore 10, 2) := dk_54 10 (dk_at dksX2_fits_4 8 rfl rfl)
theorem dX2_fits_103 : decode cX2_fits 103 = .ok (.iload_n 3, 1) := dk_29 (dk_at dksX2_fits_4 10 rfl rfl)
theorem dX2_fits_104 : decode cX2_fits 104 = .ok (.iconst 2, 1) := dk_5 (dk_at dksX2_fits_4 11 rfl rfl)
theorem dX2_fits_105 : decode cX2_fits 105 = .ok (.if_icmp .ne 7, 3) := dk_160 0 7 (dk_at dksX2_fits_4 12 rfl rfl)
theorem dX2_fits_108 : decode cX2_fits 108 = .ok (.iconst (-1), 1) := dk_2 (dk_at dksX2_fits_4 15 rfl rfl)
theorem dX2_fits_109 : decode cX2_fits 109 = .ok (.goto 4, 3) := dk_167 0 4 (dk_at dksX2_fits_4 16 rfl rfl)
theorem dX2_fits_112 : decode cX2_fits 112 = .ok (.iconst 0, 1) := dk_3 (dk_at dksX2_fits_4 19 rfl rfl)
theorem dX2_fits_113 : decode cX2_fits 113 = .ok (.istore 11, 2) := dk_54 11 (dk_at dksX2_fits_4 20 rfl rfl)
theorem dX2_fits_115 : decode cX2_fits 115 = .ok (.iload 11, 2) := dk_21 11 (dk_at dksX2_fits_4 22 rfl rfl)
theorem dX2_fits_117 : decode cX2_fits 117 = .ok (.iload_n 3, 1) := dk_29 (dk_at dksX2_fits_5 0 rfl rfl)
theorem dX2_fits_118 : decode cX2_fits 118 = .ok (.iconst 2, 1) := dk_5 (dk_at dksX2_fits_5 1 rfl rfl)
theorem dX2_fits_119 : decode cX2_fits 119 = .ok (.if_icmp .ne 12, 3) := dk_160 0 12 (dk_at dksX2_fits_5 2 rfl rfl)
theorem dX2_fits_122 : decode cX2_fits 122 = .ok (.aload_n 0, 1) := dk_42 (dk_at dksX2_fits_5 5 rfl rfl)
theorem dX2_fits_123 : decode cX2_fits 123 = .ok (.getfield 101, 3) := dk_180 0 101 (dk_at dksX2_fits_5 6 rfl rfl)
theorem dX2_fits_126 : decode cX2_fits 126 = .ok (.iconst 1, 1) := dk_4 (dk_at dksX2_fits_5 9 rfl rfl)
theorem dX2_fits_127 : decode cX2_fits 127 = .ok (.isub, 1) := dk_100 (dk_at dksX2_fits_5 10 rfl rfl)
theorem dX2_fits_128 : decode cX2_fits 128 = .ok (.goto 5, 3) := dk_167 0 5 (dk_at dksX2_fits_5 11 rfl rfl)
theorem dX2_fits_131 : decode cX2_fits 131 = .ok (.bipush 9, 2) := dk_16 9 (dk_at dksX2_fits_5 14 rfl rfl)
theorem dX2_fits_133 : decode cX2_fits 133 = .ok (.if_icmp .gt 83, 3) := dk_163 0 83 (dk_at dksX2_fits_5 16 rfl rfl)
theorem dX2_fits_136 : decode cX2_fits 136 = .ok (.aload_n 0, 1) := dk_42 (dk_at dksX2_fits_5 19 rfl rfl)
theorem dX2_fits_137 : decode cX2_fits 137 = .ok (.iload 5, 2) := dk_21 5 (dk_at dksX2_fits_5 20 rfl rfl)
theorem dX2_fits_139 : decode cX2_fits 139 = .ok (.iload 6, 2) := dk_21 6 (dk_at dksX2_fits_5 22 rfl rfl)
theorem dX2_fits_141 : decode cX2_fits 141 = .ok (.iload 11, 2) := dk_21 11 (dk_at dksX2_fits_6 0 rfl rfl)
theorem dX2_fits_143 : decode cX2_fits 143 = .ok (.invokevirtual 108, 3) := dk_182 0 108 (dk_at dksX2_fits_6 2 rfl rfl)
theorem dX2_fits_146 : decode cX2_fits 146 = .ok (.iload_n 3, 1) := dk_29 (dk_at dksX2_fits_6 5 rfl rfl)
theorem dX2_fits_147 : decode cX2_fits 147 = .ok (.iconst 2, 1) := dk_5 (dk_at dksX2_fits_6 6 rfl rfl)
theorem dX2_fits_148 : decode cX2_fits 148 = .ok (.if_icmp .lt 10, 3) := dk_161 0 10 (dk_at dksX2_fits_6 7 rfl rfl)
theorem dX2_fits_151 : decode cX2_fits 151 = .ok (.iload 11, 2) := dk_21 11 (dk_at dksX2_fits_6 10 rfl rfl)
theorem dX2_fits_153 : decode cX2_fits 153 = .ok (.iload 5, 2) := dk_21 5 (dk_at dksX2_fits_6 12 rfl rfl)
theorem dX2_fits_155 : decode cX2_fits 155 = .ok (.if_icmp .eq 55, 3) := dk_159 0 55 (dk_at dksX2_fits_6 14 rfl rfl)
theorem dX2_fits_158 : decode cX2_fits 158 = .ok (.aload_n 0, 1) := dk_42 (dk_at dksX2_fits_6 17 rfl rfl)
theorem dX2_fits_159 : decode cX2_fits 159 = .ok (.iload_n 1, 1) := dk_27 (dk_at dksX2_fits_6 18 rfl rfl)
theorem dX2_fits_160 : decode cX2_fits 160 = .ok (.iload 4, 2) := dk_21 4 (dk_at dksX2_fits_6 19 rfl rfl)
theorem dX2_fits_162 : decode cX2_fits 162 = .ok (.invokevirtual 281, 3) := dk_182 1 25 (dk_at dksX2_fits_6 21 rfl rfl)
theorem dX2_fits_165 : decode cX2_fits 165 = .ok (.bipush (-2), 2) := dk_16 254 (dk_at dksX2_fits_7 0 rfl rfl)
theorem dX2_fits_167 : decode cX2_fits 167 = .ok (.if_icmp .ne 43, 3) := dk_160 0 43 (dk_at dksX2_fits_7 2 rfl rfl)
theorem dX2_fits_170 : decode cX2_fits 170 = .ok (.iinc 8 1, 3) := dk_132 8 1 (dk_at dksX2_fits_7 5 rfl rfl)
theorem dX2_fits_173 : decode cX2_fits 173 = .ok (.iload 9, 2) := dk_21 9 (dk_at dksX2_fits_7 8 rfl rfl)
theorem dX2_fits_175 : decode cX2_fits 175 = .ok (.bipush (-2), 2) := dk_16 254 (dk_at dksX2_fits_7 10 rfl rfl)
theorem dX2_fits_177 : decode cX2_fits 177 = .ok (.if_icmp .ne 8, 3) := dk_160 0 8 (dk_at dksX2_fits_7 12 rfl rfl)
theorem dX2_fits_180 : decode cX2_fits 180 = .ok (.iload 11, 2) := dk_21 11 (dk_at dksX2_fits_7 15 rfl rfl)
theorem dX2_fits_182 : decode cX2_fits 182 = .ok (.goto 5, 3) := dk_167 0 5 (dk_at dksX2_fits_7 17 rfl rfl)
theorem dX2_fits_185 : decode cX2_fits 185 = .ok (.iload 9, 2) := dk_21 9 (dk_at dksX2_fits_7 20 rfl rfl)
theorem dX2_fits_187 : decode cX2_fits 187 = .ok (.istore 9, 2) := dk_54 9 (dk_at dksX2_fits_7 22 rfl rfl)
theorem dX2_fits_189 : decode cX2_fits 189 = .ok (.iload 10, 2) := dk_21 10 (dk_at dksX2_fits_8 0 rfl rfl)
theorem dX2_fits_191 : decode cX2_fits 191 = .ok (.iload 11, 2) := dk_21 11 (dk_at dksX2_fits_8 2 rfl rfl)
theorem dX2_fits_193 : decode cX2_fits 193 = .ok (.iconst (-1), 1) := dk_2 (dk_at dksX2_fits_8 4 rfl rfl)
theorem dX2_fits_194 : decode cX2_fits 194 = .ok (.if_icmp .ne 9, 3) := dk_160 0 9 (dk_at dksX2_fits_8 5 rfl rfl)
theorem dX2_fits_197 : decode cX2_fits 197 = .ok (.sipush 256, 3) := dk_17 1 0 (dk_at dksX2_fits_8 8 rfl rfl)
theorem dX2_fits_200 : decode cX2_fits 200 = .ok (.goto 7, 3) := dk_167 0 7 (dk_at dksX2_fits_8 11 rfl rfl)
theorem dX2_fits_203 : decode cX2_fits 203 = .ok (.iconst 1, 1) := dk_4 (dk_at dksX2_fits_8 14 rfl rfl)
theorem dX2_fits_204 : decode cX2_fits 204 = .ok (.iload 11, 2) := dk_21 11 (dk_at dksX2_fits_8 15 rfl rfl)
theorem dX2_fits_206 : decode cX2_fits 206 = .ok (.ishl, 1) := dk_120 (dk_at dksX2_fits_8 17 rfl rfl)
theorem dX2_fits_207 : decode cX2_fits 207 = .ok (.ior, 1) := dk_128 (dk_at dksX2_fits_8 18 rfl rfl)
theorem dX2_fits_208 : decode cX2_fits 208 = .ok (.istore 10, 2) := dk_54 10 (dk_at dksX2_fits_8 19 rfl rfl)
theorem dX2_fits_210 : decode cX2_fits 210 = .ok (.iinc 11 1, 3) := dk_132 11 1 (dk_at dksX2_fits_8 21 rfl rfl)
theorem dX2_fits_213 : decode cX2_fits 213 = .ok (.goto (-98), 3) := dk_167 255 158 (dk_at dksX2_fits_9 0 rfl rfl)
theorem dX2_fits_216 : decode cX2_fits 216 = .ok (.aload_n 0, 1) := dk_42 (dk_at dksX2_fits_9 3 rfl rfl)
theorem dX2_fits_217 : decode cX2_fits 217 = .ok (.iload 5, 2) := dk_21 5 (dk_at dksX2_fits_9 4 rfl rfl)
theorem dX2_fits_219 : decode cX2_fits 219 = .ok (.iload 6, 2) := dk_21 6 (dk_at dksX2_fits_9 6 rfl rfl)
theorem dX2_fits_221 : decode cX2_fits 221 = .ok (.iload 7, 2) := dk_21 7 (dk_at dksX2_fits_9 8 rfl rfl)
theorem dX2_fits_223 : decode cX2_fits 223 = .ok (.invokevirtual 108, 3) := dk_182 0 108 (dk_at dksX2_fits_9 10 rfl rfl)
theorem dX2_fits_226 : decode cX2_fits 226 = .ok (.iload_n 3, 1) := dk_29 (dk_at dksX2_fits_9 13 rfl rfl)
theorem dX2_fits_227 : decode cX2_fits 227 = .ok (.ifCond .ne 8, 3) := dk_154 0 8 (dk_at dksX2_fits_9 14 rfl rfl)
theorem dX2_fits_230 : decode cX2_fits 230 = .ok (.iload 8, 2) := dk_21 8 (dk_at dksX2_fits_9 17 rfl rfl)
theorem dX2_fits_232 : decode cX2_fits 232 = .ok (.goto 15, 3) := dk_167 0 15 (dk_at dksX2_fits_9 19 rfl rfl)
theorem dX2_fits_235 : decode cX2_fits 235 = .ok (.iload_n 3, 1) := dk_29 (dk_at dksX2_fits_9 22 rfl rfl)
theorem dX2_fits_236 : decode cX2_fits 236 = .ok (.iconst 1, 1) := dk_4 (dk_at dksX2_fits_9 23 rfl rfl)
theorem dX2_fits_237 : decode cX2_fits 237 = .ok (.if_icmp .ne 8, 3) := dk_160 0 8 (dk_at dksX2_fits_10 0 rfl rfl)
theorem dX2_fits_240 : decode cX2_fits 240 = .ok (.iload 9, 2) := dk_21 9 (dk_at dksX2_fits_10 3 rfl rfl)
theorem dX2_fits_242 : decode cX2_fits 242 = .ok (.goto 5, 3) := dk_167 0 5 (dk_at dksX2_fits_10 5 rfl rfl)
theorem dX2_fits_245 : decode cX2_fits 245 = .ok (.iload 10, 2) := dk_21 10 (dk_at dksX2_fits_10 8 rfl rfl)
theorem dX2_fits_247 : decode cX2_fits 247 = .ok (.ireturn, 1) := dk_172 (dk_at dksX2_fits_10 10 rfl rfl)
abbrev cX2_can : ByteArray := prog_31_method_60_code
def yX2_can : MethodName := ⟨RX2, "can", "(II)J"⟩
def dkwX2_can_5 : List UInt8 := [10, 97, 167, 0, 13, 29, 155, 0, 8, 22, 4, 167, 0, 4, 10, 173]
abbrev dktX2_can_5 : List UInt8 := dkwX2_can_5 ++ []
def dkwX2_can_4 : List UInt8 := [162, 0, 17, 22, 4, 20, 1, 15, 105, 55, 4, 132, 6, 1, 167, 255, 236, 28, 4, 160, 0, 10, 22, 4]
abbrev dktX2_can_4 : List UInt8 := dkwX2_can_4 ++ dktX2_can_5
def dkwX2_can_3 : List UInt8 := [167, 0, 4, 2, 96, 62, 132, 4, 1, 167, 255, 212, 10, 55, 4, 3, 54, 6, 21, 6, 29, 184, 0, 187]
abbrev dktX2_can_3 : List UInt8 := dkwX2_can_3 ++ dktX2_can_4
def dkwX2_can_2 : List UInt8 := [182, 1, 19, 3, 4, 184, 0, 104, 153, 0, 28, 29, 42, 27, 21, 4, 182, 1, 19, 4, 160, 0, 7, 4]
abbrev dktX2_can_2 : List UInt8 := dkwX2_can_2 ++ dktX2_can_3
def dkwX2_can_1 : List UInt8 := [162, 0, 7, 20, 1, 30, 173, 3, 62, 3, 54, 4, 21, 4, 16, 30, 162, 0, 43, 42, 27, 21, 4]
abbrev dktX2_can_1 : List UInt8 := dkwX2_can_1 ++ dktX2_can_2
def dkwX2_can_0 : List UInt8 := [27, 184, 1, 12, 153, 0, 21, 28, 3, 4, 184, 0, 104, 153, 0, 12, 42, 27, 182, 1, 22, 4]
abbrev dktX2_can_0 : List UInt8 := dkwX2_can_0 ++ dktX2_can_1
theorem dksX2_can_0 : cX2_can.data.toList.drop 0 = dktX2_can_0 := by decide +kernel
theorem dksX2_can_1 : cX2_can.data.toList.drop 22 = dktX2_can_1 := dk_seg dksX2_can_0 22 rfl rfl
theorem dksX2_can_2 : cX2_can.data.toList.drop 45 = dktX2_can_2 := dk_seg dksX2_can_1 23 rfl rfl
theorem dksX2_can_3 : cX2_can.data.toList.drop 69 = dktX2_can_3 := dk_seg dksX2_can_2 24 rfl rfl
theorem dksX2_can_4 : cX2_can.data.toList.drop 93 = dktX2_can_4 := dk_seg dksX2_can_3 24 rfl rfl
theorem dksX2_can_5 : cX2_can.data.toList.drop 117 = dktX2_can_5 := dk_seg dksX2_can_4 24 rfl rfl
theorem dX2_can_0 : decode cX2_can 0 = .ok (.iload_n 1, 1) := dk_27 (dk_at dksX2_can_0 0 rfl rfl)
theorem dX2_can_1 : decode cX2_can 1 = .ok (.invokestatic 268, 3) := dk_184 1 12 (dk_at dksX2_can_0 1 rfl rfl)
theorem dX2_can_4 : decode cX2_can 4 = .ok (.ifCond .eq 21, 3) := dk_153 0 21 (dk_at dksX2_can_0 4 rfl rfl)
theorem dX2_can_7 : decode cX2_can 7 = .ok (.iload_n 2, 1) := dk_28 (dk_at dksX2_can_0 7 rfl rfl)
theorem dX2_can_8 : decode cX2_can 8 = .ok (.iconst 0, 1) := dk_3 (dk_at dksX2_can_0 8 rfl rfl)
theorem dX2_can_9 : decode cX2_can 9 = .ok (.iconst 1, 1) := dk_4 (dk_at dksX2_can_0 9 rfl rfl)
theorem dX2_can_10 : decode cX2_can 10 = .ok (.invokestatic 104, 3) := dk_184 0 104 (dk_at dksX2_can_0 10 rfl rfl)
theorem dX2_can_13 : decode cX2_can 13 = .ok (.ifCond .eq 12, 3) := dk_153 0 12 (dk_at dksX2_can_0 13 rfl rfl)
theorem dX2_can_16 : decode cX2_can 16 = .ok (.aload_n 0, 1) := dk_42 (dk_at dksX2_can_0 16 rfl rfl)
theorem dX2_can_17 : decode cX2_can 17 = .ok (.iload_n 1, 1) := dk_27 (dk_at dksX2_can_0 17 rfl rfl)
theorem dX2_can_18 : decode cX2_can 18 = .ok (.invokevirtual 278, 3) := dk_182 1 22 (dk_at dksX2_can_0 18 rfl rfl)
theorem dX2_can_21 : decode cX2_can 21 = .ok (.iconst 1, 1) := dk_4 (dk_at dksX2_can_0 21 rfl rfl)
theorem dX2_can_22 : decode cX2_can 22 = .ok (.if_icmp .ge 7, 3) := dk_162 0 7 (dk_at dksX2_can_1 0 rfl rfl)
theorem dX2_can_25 : decode cX2_can 25 = .ok (.ldc2_w 286, 3) := dk_20 1 30 (dk_at dksX2_can_1 3 rfl rfl)
theorem dX2_can_28 : decode cX2_can 28 = .ok (.lreturn, 1) := dk_173 (dk_at dksX2_can_1 6 rfl rfl)
theorem dX2_can_29 : decode cX2_can 29 = .ok (.iconst 0, 1) := dk_3 (dk_at dksX2_can_1 7 rfl rfl)
theorem dX2_can_30 : decode cX2_can 30 = .ok (.istore_n 3, 1) := dk_62 (dk_at dksX2_can_1 8 rfl rfl)
theorem dX2_can_31 : decode cX2_can 31 = .ok (.iconst 0, 1) := dk_3 (dk_at dksX2_can_1 9 rfl rfl)
theorem dX2_can_32 : decode cX2_can 32 = .ok (.istore 4, 2) := dk_54 4 (dk_at dksX2_can_1 10 rfl rfl)
theorem dX2_can_34 : decode cX2_can 34 = .ok (.iload 4, 2) := dk_21 4 (dk_at dksX2_can_1 12 rfl rfl)
theorem dX2_can_36 : decode cX2_can 36 = .ok (.bipush 30, 2) := dk_16 30 (dk_at dksX2_can_1 14 rfl rfl)
theorem dX2_can_38 : decode cX2_can 38 = .ok (.if_icmp .ge 43, 3) := dk_162 0 43 (dk_at dksX2_can_1 16 rfl rfl)
theorem dX2_can_41 : decode cX2_can 41 = .ok (.aload_n 0, 1) := dk_42 (dk_at dksX2_can_1 19 rfl rfl)
theorem dX2_can_42 : decode cX2_can 42 = .ok (.iload_n 1, 1) := dk_27 (dk_at dksX2_can_1 20 rfl rfl)
theorem dX2_can_43 : decode cX2_can 43 = .ok (.iload 4, 2) := dk_21 4 (dk_at dksX2_can_1 21 rfl rfl)
theorem dX2_can_45 : decode cX2_can 45 = .ok (.invokevirtual 275, 3) := dk_182 1 19 (dk_at dksX2_can_2 0 rfl rfl)
theorem dX2_can_48 : decode cX2_can 48 = .ok (.iconst 0, 1) := dk_3 (dk_at dksX2_can_2 3 rfl rfl)
theorem dX2_can_49 : decode cX2_can 49 = .ok (.iconst 1, 1) := dk_4 (dk_at dksX2_can_2 4 rfl rfl)
theorem dX2_can_50 : decode cX2_can 50 = .ok (.invokestatic 104, 3) := dk_184 0 104 (dk_at dksX2_can_2 5 rfl rfl)
theorem dX2_can_53 : decode cX2_can 53 = .ok (.ifCond .eq 28, 3) := dk_153 0 28 (dk_at dksX2_can_2 8 rfl rfl)
theorem dX2_can_56 : decode cX2_can 56 = .ok (.iload_n 3, 1) := dk_29 (dk_at dksX2_can_2 11 rfl rfl)
theorem dX2_can_57 : decode cX2_can 57 = .ok (.aload_n 0, 1) := dk_42 (dk_at dksX2_can_2 12 rfl rfl)
theorem dX2_can_58 : decode cX2_can 58 = .ok (.iload_n 1, 1) := dk_27 (dk_at dksX2_can_2 13 rfl rfl)
theorem dX2_can_59 : decode cX2_can 59 = .ok (.iload 4, 2) := dk_21 4 (dk_at dksX2_can_2 14 rfl rfl)
theorem dX2_can_61 : decode cX2_can 61 = .ok (.invokevirtual 275, 3) := dk_182 1 19 (dk_at dksX2_can_2 16 rfl rfl)
theorem dX2_can_64 : decode cX2_can 64 = .ok (.iconst 1, 1) := dk_4 (dk_at dksX2_can_2 19 rfl rfl)
theorem dX2_can_65 : decode cX2_can 65 = .ok (.if_icmp .ne 7, 3) := dk_160 0 7 (dk_at dksX2_can_2 20 rfl rfl)
theorem dX2_can_68 : decode cX2_can 68 = .ok (.iconst 1, 1) := dk_4 (dk_at dksX2_can_2 23 rfl rfl)
theorem dX2_can_69 : decode cX2_can 69 = .ok (.goto 4, 3) := dk_167 0 4 (dk_at dksX2_can_3 0 rfl rfl)
theorem dX2_can_72 : decode cX2_can 72 = .ok (.iconst (-1), 1) := dk_2 (dk_at dksX2_can_3 3 rfl rfl)
theorem dX2_can_73 : decode cX2_can 73 = .ok (.iadd, 1) := dk_96 (dk_at dksX2_can_3 4 rfl rfl)
theorem dX2_can_74 : decode cX2_can 74 = .ok (.istore_n 3, 1) := dk_62 (dk_at dksX2_can_3 5 rfl rfl)
theorem dX2_can_75 : decode cX2_can 75 = .ok (.iinc 4 1, 3) := dk_132 4 1 (dk_at dksX2_can_3 6 rfl rfl)
theorem dX2_can_78 : decode cX2_can 78 = .ok (.goto (-44), 3) := dk_167 255 212 (dk_at dksX2_can_3 9 rfl rfl)
theorem dX2_can_81 : decode cX2_can 81 = .ok (.lconst 1, 1) := dk_10 (dk_at dksX2_can_3 12 rfl rfl)
theorem dX2_can_82 : decode cX2_can 82 = .ok (.lstore 4, 2) := dk_55 4 (dk_at dksX2_can_3 13 rfl rfl)
theorem dX2_can_84 : decode cX2_can 84 = .ok (.iconst 0, 1) := dk_3 (dk_at dksX2_can_3 15 rfl rfl)
theorem dX2_can_85 : decode cX2_can 85 = .ok (.istore 6, 2) := dk_54 6 (dk_at dksX2_can_3 16 rfl rfl)
theorem dX2_can_87 : decode cX2_can 87 = .ok (.iload 6, 2) := dk_21 6 (dk_at dksX2_can_3 18 rfl rfl)
theorem dX2_can_89 : decode cX2_can 89 = .ok (.iload_n 3, 1) := dk_29 (dk_at dksX2_can_3 20 rfl rfl)
theorem dX2_can_90 : decode cX2_can 90 = .ok (.invokestatic 187, 3) := dk_184 0 187 (dk_at dksX2_can_3 21 rfl rfl)
theorem dX2_can_93 : decode cX2_can 93 = .ok (.if_icmp .ge 17, 3) := dk_162 0 17 (dk_at dksX2_can_4 0 rfl rfl)
theorem dX2_can_96 : decode cX2_can 96 = .ok (.lload 4, 2) := dk_22 4 (dk_at dksX2_can_4 3 rfl rfl)
theorem dX2_can_98 : decode cX2_can 98 = .ok (.ldc2_w 271, 3) := dk_20 1 15 (dk_at dksX2_can_4 5 rfl rfl)
theorem dX2_can_101 : decode cX2_can 101 = .ok (.lmul, 1) := dk_105 (dk_at dksX2_can_4 8 rfl rfl)
theorem dX2_can_102 : decode cX2_can 102 = .ok (.lstore 4, 2) := dk_55 4 (dk_at dksX2_can_4 9 rfl rfl)
theorem dX2_can_104 : decode cX2_can 104 = .ok (.iinc 6 1, 3) := dk_132 6 1 (dk_at dksX2_can_4 11 rfl rfl)
theorem dX2_can_107 : decode cX2_can 107 = .ok (.goto (-20), 3) := dk_167 255 236 (dk_at dksX2_can_4 14 rfl rfl)
theorem dX2_can_110 : decode cX2_can 110 = .ok (.iload_n 2, 1) := dk_28 (dk_at dksX2_can_4 17 rfl rfl)
theorem dX2_can_111 : decode cX2_can 111 = .ok (.iconst 1, 1) := dk_4 (dk_at dksX2_can_4 18 rfl rfl)
theorem dX2_can_112 : decode cX2_can 112 = .ok (.if_icmp .ne 10, 3) := dk_160 0 10 (dk_at dksX2_can_4 19 rfl rfl)
theorem dX2_can_115 : decode cX2_can 115 = .ok (.lload 4, 2) := dk_22 4 (dk_at dksX2_can_4 22 rfl rfl)
theorem dX2_can_117 : decode cX2_can 117 = .ok (.lconst 1, 1) := dk_10 (dk_at dksX2_can_5 0 rfl rfl)
theorem dX2_can_118 : decode cX2_can 118 = .ok (.ladd, 1) := dk_97 (dk_at dksX2_can_5 1 rfl rfl)
theorem dX2_can_119 : decode cX2_can 119 = .ok (.goto 13, 3) := dk_167 0 13 (dk_at dksX2_can_5 2 rfl rfl)
theorem dX2_can_122 : decode cX2_can 122 = .ok (.iload_n 3, 1) := dk_29 (dk_at dksX2_can_5 5 rfl rfl)
theorem dX2_can_123 : decode cX2_can 123 = .ok (.ifCond .lt 8, 3) := dk_155 0 8 (dk_at dksX2_can_5 6 rfl rfl)
theorem dX2_can_126 : decode cX2_can 126 = .ok (.lload 4, 2) := dk_22 4 (dk_at dksX2_can_5 9 rfl rfl)
theorem dX2_can_128 : decode cX2_can 128 = .ok (.goto 4, 3) := dk_167 0 4 (dk_at dksX2_can_5 11 rfl rfl)
theorem dX2_can_131 : decode cX2_can 131 = .ok (.lconst 1, 1) := dk_10 (dk_at dksX2_can_5 14 rfl rfl)
theorem dX2_can_132 : decode cX2_can 132 = .ok (.lreturn, 1) := dk_173 (dk_at dksX2_can_5 15 rfl rfl)
abbrev cX2_paid : ByteArray := prog_31_method_61_code
def yX2_paid : MethodName := ⟨RX2, "paid", "(II)I"⟩
def dkwX2_paid_5 : List UInt8 := [132, 5, 1, 167, 255, 167, 29, 154, 0, 7, 3, 167, 0, 9, 28, 21, 4, 104, 29, 108, 172]
abbrev dktX2_paid_5 : List UInt8 := dkwX2_paid_5 ++ []
def dkwX2_paid_4 : List UInt8 := [153, 0, 19, 21, 5, 27, 160, 0, 13, 42, 21, 5, 4, 182, 0, 191, 167, 0, 5, 21, 4, 54, 4]
abbrev dktX2_paid_4 : List UInt8 := dkwX2_paid_4 ++ dktX2_paid_5
def dkwX2_paid_3 : List UInt8 := [54, 6, 29, 21, 6, 153, 0, 13, 42, 21, 5, 4, 182, 0, 191, 167, 0, 4, 3, 96, 62, 21, 6]
abbrev dktX2_paid_3 : List UInt8 := dkwX2_paid_3 ++ dktX2_paid_4
def dkwX2_paid_2 : List UInt8 := [159, 0, 22, 42, 42, 21, 5, 7, 182, 0, 191, 182, 0, 196, 4, 160, 0, 7, 4, 167, 0, 4, 3]
abbrev dktX2_paid_2 : List UInt8 := dkwX2_paid_2 ++ dktX2_paid_3
def dkwX2_paid_1 : List UInt8 := [54, 4, 3, 54, 5, 21, 5, 42, 180, 0, 101, 162, 0, 86, 42, 21, 5, 7, 182, 0, 191, 2]
abbrev dktX2_paid_1 : List UInt8 := dkwX2_paid_1 ++ dktX2_paid_2
def dkwX2_paid_0 : List UInt8 := [42, 27, 182, 0, 116, 153, 0, 14, 28, 3, 17, 39, 15, 184, 0, 104, 154, 0, 5, 2, 172, 3, 62, 3]
abbrev dktX2_paid_0 : List UInt8 := dkwX2_paid_0 ++ dktX2_paid_1
theorem dksX2_paid_0 : cX2_paid.data.toList.drop 0 = dktX2_paid_0 := by decide +kernel
theorem dksX2_paid_1 : cX2_paid.data.toList.drop 24 = dktX2_paid_1 := dk_seg dksX2_paid_0 24 rfl rfl
theorem dksX2_paid_2 : cX2_paid.data.toList.drop 46 = dktX2_paid_2 := dk_seg dksX2_paid_1 22 rfl rfl
theorem dksX2_paid_3 : cX2_paid.data.toList.drop 69 = dktX2_paid_3 := dk_seg dksX2_paid_2 23 rfl rfl
theorem dksX2_paid_4 : cX2_paid.data.toList.drop 92 = dktX2_paid_4 := dk_seg dksX2_paid_3 23 rfl rfl
theorem dksX2_paid_5 : cX2_paid.data.toList.drop 115 = dktX2_paid_5 := dk_seg dksX2_paid_4 23 rfl rfl
theorem dX2_paid_0 : decode cX2_paid 0 = .ok (.aload_n 0, 1) := dk_42 (dk_at dksX2_paid_0 0 rfl rfl)
theorem dX2_paid_1 : decode cX2_paid 1 = .ok (.iload_n 1, 1) := dk_27 (dk_at dksX2_paid_0 1 rfl rfl)
theorem dX2_paid_2 : decode cX2_paid 2 = .ok (.invokevirtual 116, 3) := dk_182 0 116 (dk_at dksX2_paid_0 2 rfl rfl)
theorem dX2_paid_5 : decode cX2_paid 5 = .ok (.ifCond .eq 14, 3) := dk_153 0 14 (dk_at dksX2_paid_0 5 rfl rfl)
theorem dX2_paid_8 : decode cX2_paid 8 = .ok (.iload_n 2, 1) := dk_28 (dk_at dksX2_paid_0 8 rfl rfl)
theorem dX2_paid_9 : decode cX2_paid 9 = .ok (.iconst 0, 1) := dk_3 (dk_at dksX2_paid_0 9 rfl rfl)
theorem dX2_paid_10 : decode cX2_paid 10 = .ok (.sipush 9999, 3) := dk_17 39 15 (dk_at dksX2_paid_0 10 rfl rfl)
theorem dX2_paid_13 : decode cX2_paid 13 = .ok (.invokestatic 104, 3) := dk_184 0 104 (dk_at dksX2_paid_0 13 rfl rfl)
theorem dX2_paid_16 : decode cX2_paid 16 = .ok (.ifCond .ne 5, 3) := dk_154 0 5 (dk_at dksX2_paid_0 16 rfl rfl)
theorem dX2_paid_19 : decode cX2_paid 19 = .ok (.iconst (-1), 1) := dk_2 (dk_at dksX2_paid_0 19 rfl rfl)
theorem dX2_paid_20 : decode cX2_paid 20 = .ok (.ireturn, 1) := dk_172 (dk_at dksX2_paid_0 20 rfl rfl)
theorem dX2_paid_21 : decode cX2_paid 21 = .ok (.iconst 0, 1) := dk_3 (dk_at dksX2_paid_0 21 rfl rfl)
theorem dX2_paid_22 : decode cX2_paid 22 = .ok (.istore_n 3, 1) := dk_62 (dk_at dksX2_paid_0 22 rfl rfl)
theorem dX2_paid_23 : decode cX2_paid 23 = .ok (.iconst 0, 1) := dk_3 (dk_at dksX2_paid_0 23 rfl rfl)
theorem dX2_paid_24 : decode cX2_paid 24 = .ok (.istore 4, 2) := dk_54 4 (dk_at dksX2_paid_1 0 rfl rfl)
theorem dX2_paid_26 : decode cX2_paid 26 = .ok (.iconst 0, 1) := dk_3 (dk_at dksX2_paid_1 2 rfl rfl)
theorem dX2_paid_27 : decode cX2_paid 27 = .ok (.istore 5, 2) := dk_54 5 (dk_at dksX2_paid_1 3 rfl rfl)
theorem dX2_paid_29 : decode cX2_paid 29 = .ok (.iload 5, 2) := dk_21 5 (dk_at dksX2_paid_1 5 rfl rfl)
theorem dX2_paid_31 : decode cX2_paid 31 = .ok (.aload_n 0, 1) := dk_42 (dk_at dksX2_paid_1 7 rfl rfl)
theorem dX2_paid_32 : decode cX2_paid 32 = .ok (.getfield 101, 3) := dk_180 0 101 (dk_at dksX2_paid_1 8 rfl rfl)
theorem dX2_paid_35 : decode cX2_paid 35 = .ok (.if_icmp .ge 86, 3) := dk_162 0 86 (dk_at dksX2_paid_1 11 rfl rfl)
theorem dX2_paid_38 : decode cX2_paid 38 = .ok (.aload_n 0, 1) := dk_42 (dk_at dksX2_paid_1 14 rfl rfl)
theorem dX2_paid_39 : decode cX2_paid 39 = .ok (.iload 5, 2) := dk_21 5 (dk_at dksX2_paid_1 15 rfl rfl)
theorem dX2_paid_41 : decode cX2_paid 41 = .ok (.iconst 4, 1) := dk_7 (dk_at dksX2_paid_1 17 rfl rfl)
theorem dX2_paid_42 : decode cX2_paid 42 = .ok (.invokevirtual 191, 3) := dk_182 0 191 (dk_at dksX2_paid_1 18 rfl rfl)
theorem dX2_paid_45 : decode cX2_paid 45 = .ok (.iconst (-1), 1) := dk_2 (dk_at dksX2_paid_1 21 rfl rfl)
theorem dX2_paid_46 : decode cX2_paid 46 = .ok (.if_icmp .eq 22, 3) := dk_159 0 22 (dk_at dksX2_paid_2 0 rfl rfl)
theorem dX2_paid_49 : decode cX2_paid 49 = .ok (.aload_n 0, 1) := dk_42 (dk_at dksX2_paid_2 3 rfl rfl)
theorem dX2_paid_50 : decode cX2_paid 50 = .ok (.aload_n 0, 1) := dk_42 (dk_at dksX2_paid_2 4 rfl rfl)
theorem dX2_paid_51 : decode cX2_paid 51 = .ok (.iload 5, 2) := dk_21 5 (dk_at dksX2_paid_2 5 rfl rfl)
theorem dX2_paid_53 : decode cX2_paid 53 = .ok (.iconst 4, 1) := dk_7 (dk_at dksX2_paid_2 7 rfl rfl)
theorem dX2_paid_54 : decode cX2_paid 54 = .ok (.invokevirtual 191, 3) := dk_182 0 191 (dk_at dksX2_paid_2 8 rfl rfl)
theorem dX2_paid_57 : decode cX2_paid 57 = .ok (.invokevirtual 196, 3) := dk_182 0 196 (dk_at dksX2_paid_2 11 rfl rfl)
theorem dX2_paid_60 : decode cX2_paid 60 = .ok (.iconst 1, 1) := dk_4 (dk_at dksX2_paid_2 14 rfl rfl)
theorem dX2_paid_61 : decode cX2_paid 61 = .ok (.if_icmp .ne 7, 3) := dk_160 0 7 (dk_at dksX2_paid_2 15 rfl rfl)
theorem dX2_paid_64 : decode cX2_paid 64 = .ok (.iconst 1, 1) := dk_4 (dk_at dksX2_paid_2 18 rfl rfl)
theorem dX2_paid_65 : decode cX2_paid 65 = .ok (.goto 4, 3) := dk_167 0 4 (dk_at dksX2_paid_2 19 rfl rfl)
theorem dX2_paid_68 : decode cX2_paid 68 = .ok (.iconst 0, 1) := dk_3 (dk_at dksX2_paid_2 22 rfl rfl)
theorem dX2_paid_69 : decode cX2_paid 69 = .ok (.istore 6, 2) := dk_54 6 (dk_at dksX2_paid_3 0 rfl rfl)
theorem dX2_paid_71 : decode cX2_paid 71 = .ok (.iload_n 3, 1) := dk_29 (dk_at dksX2_paid_3 2 rfl rfl)
theorem dX2_paid_72 : decode cX2_paid 72 = .ok (.iload 6, 2) := dk_21 6 (dk_at dksX2_paid_3 3 rfl rfl)
theorem dX2_paid_74 : decode cX2_paid 74 = .ok (.ifCond .eq 13, 3) := dk_153 0 13 (dk_at dksX2_paid_3 5 rfl rfl)
theorem dX2_paid_77 : decode cX2_paid 77 = .ok (.aload_n 0, 1) := dk_42 (dk_at dksX2_paid_3 8 rfl rfl)
theorem dX2_paid_78 : decode cX2_paid 78 = .ok (.iload 5, 2) := dk_21 5 (dk_at dksX2_paid_3 9 rfl rfl)
theorem dX2_paid_80 : decode cX2_paid 80 = .ok (.iconst 1, 1) := dk_4 (dk_at dksX2_paid_3 11 rfl rfl)
theorem dX2_paid_81 : decode cX2_paid 81 = .ok (.invokevirtual 191, 3) := dk_182 0 191 (dk_at dksX2_paid_3 12 rfl rfl)
theorem dX2_paid_84 : decode cX2_paid 84 = .ok (.goto 4, 3) := dk_167 0 4 (dk_at dksX2_paid_3 15 rfl rfl)
theorem dX2_paid_87 : decode cX2_paid 87 = .ok (.iconst 0, 1) := dk_3 (dk_at dksX2_paid_3 18 rfl rfl)
theorem dX2_paid_88 : decode cX2_paid 88 = .ok (.iadd, 1) := dk_96 (dk_at dksX2_paid_3 19 rfl rfl)
theorem dX2_paid_89 : decode cX2_paid 89 = .ok (.istore_n 3, 1) := dk_62 (dk_at dksX2_paid_3 20 rfl rfl)
theorem dX2_paid_90 : decode cX2_paid 90 = .ok (.iload 6, 2) := dk_21 6 (dk_at dksX2_paid_3 21 rfl rfl)
theorem dX2_paid_92 : decode cX2_paid 92 = .ok (.ifCond .eq 19, 3) := dk_153 0 19 (dk_at dksX2_paid_4 0 rfl rfl)
theorem dX2_paid_95 : decode cX2_paid 95 = .ok (.iload 5, 2) := dk_21 5 (dk_at dksX2_paid_4 3 rfl rfl)
theorem dX2_paid_97 : decode cX2_paid 97 = .ok (.iload_n 1, 1) := dk_27 (dk_at dksX2_paid_4 5 rfl rfl)
theorem dX2_paid_98 : decode cX2_paid 98 = .ok (.if_icmp .ne 13, 3) := dk_160 0 13 (dk_at dksX2_paid_4 6 rfl rfl)
theorem dX2_paid_101 : decode cX2_paid 101 = .ok (.aload_n 0, 1) := dk_42 (dk_at dksX2_paid_4 9 rfl rfl)
theorem dX2_paid_102 : decode cX2_paid 102 = .ok (.iload 5, 2) := dk_21 5 (dk_at dksX2_paid_4 10 rfl rfl)
theorem dX2_paid_104 : decode cX2_paid 104 = .ok (.iconst 1, 1) := dk_4 (dk_at dksX2_paid_4 12 rfl rfl)
theorem dX2_paid_105 : decode cX2_paid 105 = .ok (.invokevirtual 191, 3) := dk_182 0 191 (dk_at dksX2_paid_4 13 rfl rfl)
theorem dX2_paid_108 : decode cX2_paid 108 = .ok (.goto 5, 3) := dk_167 0 5 (dk_at dksX2_paid_4 16 rfl rfl)
theorem dX2_paid_111 : decode cX2_paid 111 = .ok (.iload 4, 2) := dk_21 4 (dk_at dksX2_paid_4 19 rfl rfl)
theorem dX2_paid_113 : decode cX2_paid 113 = .ok (.istore 4, 2) := dk_54 4 (dk_at dksX2_paid_4 21 rfl rfl)
theorem dX2_paid_115 : decode cX2_paid 115 = .ok (.iinc 5 1, 3) := dk_132 5 1 (dk_at dksX2_paid_5 0 rfl rfl)
theorem dX2_paid_118 : decode cX2_paid 118 = .ok (.goto (-89), 3) := dk_167 255 167 (dk_at dksX2_paid_5 3 rfl rfl)
theorem dX2_paid_121 : decode cX2_paid 121 = .ok (.iload_n 3, 1) := dk_29 (dk_at dksX2_paid_5 6 rfl rfl)
theorem dX2_paid_122 : decode cX2_paid 122 = .ok (.ifCond .ne 7, 3) := dk_154 0 7 (dk_at dksX2_paid_5 7 rfl rfl)
theorem dX2_paid_125 : decode cX2_paid 125 = .ok (.iconst 0, 1) := dk_3 (dk_at dksX2_paid_5 10 rfl rfl)
theorem dX2_paid_126 : decode cX2_paid 126 = .ok (.goto 9, 3) := dk_167 0 9 (dk_at dksX2_paid_5 11 rfl rfl)
theorem dX2_paid_129 : decode cX2_paid 129 = .ok (.iload_n 2, 1) := dk_28 (dk_at dksX2_paid_5 14 rfl rfl)
theorem dX2_paid_130 : decode cX2_paid 130 = .ok (.iload 4, 2) := dk_21 4 (dk_at dksX2_paid_5 15 rfl rfl)
theorem dX2_paid_132 : decode cX2_paid 132 = .ok (.imul, 1) := dk_104 (dk_at dksX2_paid_5 17 rfl rfl)
theorem dX2_paid_133 : decode cX2_paid 133 = .ok (.iload_n 3, 1) := dk_29 (dk_at dksX2_paid_5 18 rfl rfl)
theorem dX2_paid_134 : decode cX2_paid 134 = .ok (.idiv, 1) := dk_108 (dk_at dksX2_paid_5 19 rfl rfl)
theorem dX2_paid_135 : decode cX2_paid 135 = .ok (.ireturn, 1) := dk_172 (dk_at dksX2_paid_5 20 rfl rfl)
abbrev cX2_byTurns : ByteArray := prog_31_method_64_code
def yX2_byTurns : MethodName := ⟨RX2, "byTurns", "(II)I"⟩
def dkwX2_byTurns_2 : List UInt8 := [16, 10, 112, 182, 1, 35, 62, 28, 154, 0, 7, 29, 167, 0, 7, 42, 180, 1, 38, 172]
abbrev dktX2_byTurns_2 : List UInt8 := dkwX2_byTurns_2 ++ []
def dkwX2_byTurns_1 : List UInt8 := [184, 0, 104, 153, 0, 12, 28, 3, 4, 184, 0, 104, 154, 0, 5, 2, 172, 42, 3, 27, 16, 10, 108, 27]
abbrev dktX2_byTurns_1 : List UInt8 := dkwX2_byTurns_1 ++ dktX2_byTurns_2
def dkwX2_byTurns_0 : List UInt8 := [27, 155, 0, 37, 27, 16, 10, 108, 4, 6, 184, 0, 104, 153, 0, 25, 27, 16, 10, 112, 3, 16, 6]
abbrev dktX2_byTurns_0 : List UInt8 := dkwX2_byTurns_0 ++ dktX2_byTurns_1
theorem dksX2_byTurns_0 : cX2_byTurns.data.toList.drop 0 = dktX2_byTurns_0 := by decide +kernel
theorem dksX2_byTurns_1 : cX2_byTurns.data.toList.drop 23 = dktX2_byTurns_1 := dk_seg dksX2_byTurns_0 23 rfl rfl
theorem dksX2_byTurns_2 : cX2_byTurns.data.toList.drop 47 = dktX2_byTurns_2 := dk_seg dksX2_byTurns_1 24 rfl rfl
theorem dX2_byTurns_0 : decode cX2_byTurns 0 = .ok (.iload_n 1, 1) := dk_27 (dk_at dksX2_byTurns_0 0 rfl rfl)
theorem dX2_byTurns_1 : decode cX2_byTurns 1 = .ok (.ifCond .lt 37, 3) := dk_155 0 37 (dk_at dksX2_byTurns_0 1 rfl rfl)
theorem dX2_byTurns_4 : decode cX2_byTurns 4 = .ok (.iload_n 1, 1) := dk_27 (dk_at dksX2_byTurns_0 4 rfl rfl)
theorem dX2_byTurns_5 : decode cX2_byTurns 5 = .ok (.bipush 10, 2) := dk_16 10 (dk_at dksX2_byTurns_0 5 rfl rfl)
theorem dX2_byTurns_7 : decode cX2_byTurns 7 = .ok (.idiv, 1) := dk_108 (dk_at dksX2_byTurns_0 7 rfl rfl)
theorem dX2_byTurns_8 : decode cX2_byTurns 8 = .ok (.iconst 1, 1) := dk_4 (dk_at dksX2_byTurns_0 8 rfl rfl)
theorem dX2_byTurns_9 : decode cX2_byTurns 9 = .ok (.iconst 3, 1) := dk_6 (dk_at dksX2_byTurns_0 9 rfl rfl)
theorem dX2_byTurns_10 : decode cX2_byTurns 10 = .ok (.invokestatic 104, 3) := dk_184 0 104 (dk_at dksX2_byTurns_0 10 rfl rfl)
theorem dX2_byTurns_13 : decode cX2_byTurns 13 = .ok (.ifCond .eq 25, 3) := dk_153 0 25 (dk_at dksX2_byTurns_0 13 rfl rfl)
theorem dX2_byTurns_16 : decode cX2_byTurns 16 = .ok (.iload_n 1, 1) := dk_27 (dk_at dksX2_byTurns_0 16 rfl rfl)
theorem dX2_byTurns_17 : decode cX2_byTurns 17 = .ok (.bipush 10, 2) := dk_16 10 (dk_at dksX2_byTurns_0 17 rfl rfl)
theorem dX2_byTurns_19 : decode cX2_byTurns 19 = .ok (.irem, 1) := dk_112 (dk_at dksX2_byTurns_0 19 rfl rfl)
theorem dX2_byTurns_20 : decode cX2_byTurns 20 = .ok (.iconst 0, 1) := dk_3 (dk_at dksX2_byTurns_0 20 rfl rfl)
theorem dX2_byTurns_21 : decode cX2_byTurns 21 = .ok (.bipush 6, 2) := dk_16 6 (dk_at dksX2_byTurns_0 21 rfl rfl)
theorem dX2_byTurns_23 : decode cX2_byTurns 23 = .ok (.invokestatic 104, 3) := dk_184 0 104 (dk_at dksX2_byTurns_1 0 rfl rfl)
theorem dX2_byTurns_26 : decode cX2_byTurns 26 = .ok (.ifCond .eq 12, 3) := dk_153 0 12 (dk_at dksX2_byTurns_1 3 rfl rfl)
theorem dX2_byTurns_29 : decode cX2_byTurns 29 = .ok (.iload_n 2, 1) := dk_28 (dk_at dksX2_byTurns_1 6 rfl rfl)
theorem dX2_byTurns_30 : decode cX2_byTurns 30 = .ok (.iconst 0, 1) := dk_3 (dk_at dksX2_byTurns_1 7 rfl rfl)
theorem dX2_byTurns_31 : decode cX2_byTurns 31 = .ok (.iconst 1, 1) := dk_4 (dk_at dksX2_byTurns_1 8 rfl rfl)
theorem dX2_byTurns_32 : decode cX2_byTurns 32 = .ok (.invokestatic 104, 3) := dk_184 0 104 (dk_at dksX2_byTurns_1 9 rfl rfl)
theorem dX2_byTurns_35 : decode cX2_byTurns 35 = .ok (.ifCond .ne 5, 3) := dk_154 0 5 (dk_at dksX2_byTurns_1 12 rfl rfl)
theorem dX2_byTurns_38 : decode cX2_byTurns 38 = .ok (.iconst (-1), 1) := dk_2 (dk_at dksX2_byTurns_1 15 rfl rfl)
theorem dX2_byTurns_39 : decode cX2_byTurns 39 = .ok (.ireturn, 1) := dk_172 (dk_at dksX2_byTurns_1 16 rfl rfl)
theorem dX2_byTurns_40 : decode cX2_byTurns 40 = .ok (.aload_n 0, 1) := dk_42 (dk_at dksX2_byTurns_1 17 rfl rfl)
theorem dX2_byTurns_41 : decode cX2_byTurns 41 = .ok (.iconst 0, 1) := dk_3 (dk_at dksX2_byTurns_1 18 rfl rfl)
theorem dX2_byTurns_42 : decode cX2_byTurns 42 = .ok (.iload_n 1, 1) := dk_27 (dk_at dksX2_byTurns_1 19 rfl rfl)
theorem dX2_byTurns_43 : decode cX2_byTurns 43 = .ok (.bipush 10, 2) := dk_16 10 (dk_at dksX2_byTurns_1 20 rfl rfl)
theorem dX2_byTurns_45 : decode cX2_byTurns 45 = .ok (.idiv, 1) := dk_108 (dk_at dksX2_byTurns_1 22 rfl rfl)
theorem dX2_byTurns_46 : decode cX2_byTurns 46 = .ok (.iload_n 1, 1) := dk_27 (dk_at dksX2_byTurns_1 23 rfl rfl)
theorem dX2_byTurns_47 : decode cX2_byTurns 47 = .ok (.bipush 10, 2) := dk_16 10 (dk_at dksX2_byTurns_2 0 rfl rfl)
theorem dX2_byTurns_49 : decode cX2_byTurns 49 = .ok (.irem, 1) := dk_112 (dk_at dksX2_byTurns_2 2 rfl rfl)
theorem dX2_byTurns_50 : decode cX2_byTurns 50 = .ok (.invokevirtual 291, 3) := dk_182 1 35 (dk_at dksX2_byTurns_2 3 rfl rfl)
theorem dX2_byTurns_53 : decode cX2_byTurns 53 = .ok (.istore_n 3, 1) := dk_62 (dk_at dksX2_byTurns_2 6 rfl rfl)
theorem dX2_byTurns_54 : decode cX2_byTurns 54 = .ok (.iload_n 2, 1) := dk_28 (dk_at dksX2_byTurns_2 7 rfl rfl)
theorem dX2_byTurns_55 : decode cX2_byTurns 55 = .ok (.ifCond .ne 7, 3) := dk_154 0 7 (dk_at dksX2_byTurns_2 8 rfl rfl)
theorem dX2_byTurns_58 : decode cX2_byTurns 58 = .ok (.iload_n 3, 1) := dk_29 (dk_at dksX2_byTurns_2 11 rfl rfl)
theorem dX2_byTurns_59 : decode cX2_byTurns 59 = .ok (.goto 7, 3) := dk_167 0 7 (dk_at dksX2_byTurns_2 12 rfl rfl)
theorem dX2_byTurns_62 : decode cX2_byTurns 62 = .ok (.aload_n 0, 1) := dk_42 (dk_at dksX2_byTurns_2 15 rfl rfl)
theorem dX2_byTurns_63 : decode cX2_byTurns 63 = .ok (.getfield 294, 3) := dk_180 1 38 (dk_at dksX2_byTurns_2 16 rfl rfl)
theorem dX2_byTurns_66 : decode cX2_byTurns 66 = .ok (.ireturn, 1) := dk_172 (dk_at dksX2_byTurns_2 19 rfl rfl)
abbrev cX2_turns : ByteArray := prog_31_method_63_code
def yX2_turns : MethodName := ⟨RX2, "turns", "(III)I"⟩
def dkwX2_turns_9 : List UInt8 := [96, 182, 0, 224, 132, 7, 1, 167, 255, 109, 42, 21, 6, 181, 1, 38, 21, 5, 172]
abbrev dktX2_turns_9 : List UInt8 := dkwX2_turns_9 ++ []
def dkwX2_turns_8 : List UInt8 := [167, 0, 5, 21, 6, 54, 6, 21, 9, 153, 0, 8, 21, 8, 167, 0, 5, 21, 5, 54, 5, 42, 4, 27]
abbrev dktX2_turns_8 : List UInt8 := dkwX2_turns_8 ++ dktX2_turns_9
def dkwX2_turns_7 : List UInt8 := [167, 0, 4, 3, 54, 9, 21, 9, 153, 0, 19, 21, 7, 2, 160, 0, 8, 16, 8, 167, 0, 10, 21, 7]
abbrev dktX2_turns_7 : List UInt8 := dkwX2_turns_7 ++ dktX2_turns_8
def dkwX2_turns_6 : List UInt8 := [21, 8, 21, 5, 162, 0, 7, 4, 167, 0, 19, 3, 167, 0, 15, 21, 8, 21, 5, 164, 0, 7, 4]
abbrev dktX2_turns_6 : List UInt8 := dkwX2_turns_6 ++ dktX2_turns_7
def dkwX2_turns_5 : List UInt8 := [100, 184, 0, 98, 182, 0, 108, 42, 27, 4, 96, 28, 29, 182, 1, 35, 54, 8, 21, 4, 153, 0, 18]
abbrev dktX2_turns_5 : List UInt8 := dkwX2_turns_5 ++ dktX2_turns_6
def dkwX2_turns_4 : List UInt8 := [182, 1, 32, 167, 0, 28, 21, 7, 155, 0, 23, 42, 21, 7, 6, 3, 42, 21, 7, 6, 182, 0, 191, 8]
abbrev dktX2_turns_4 : List UInt8 := dkwX2_turns_4 ++ dktX2_turns_5
def dkwX2_turns_3 : List UInt8 := [21, 7, 42, 180, 0, 101, 162, 0, 144, 21, 7, 155, 0, 17, 21, 4, 153, 0, 12, 42, 21, 7]
abbrev dktX2_turns_3 : List UInt8 := dkwX2_turns_3 ++ dktX2_turns_4
def dkwX2_turns_2 : List UInt8 := [54, 4, 21, 4, 153, 0, 9, 19, 1, 5, 167, 0, 4, 2, 54, 5, 16, 8, 54, 6, 2, 54, 7]
abbrev dktX2_turns_2 : List UInt8 := dkwX2_turns_2 ++ dktX2_turns_3
def dkwX2_turns_1 : List UInt8 := [54, 4, 42, 4, 27, 96, 182, 0, 224, 21, 4, 172, 27, 5, 112, 154, 0, 7, 4, 167, 0, 4, 3]
abbrev dktX2_turns_1 : List UInt8 := dkwX2_turns_1 ++ dktX2_turns_2
def dkwX2_turns_0 : List UInt8 := [42, 4, 27, 96, 182, 0, 214, 27, 28, 160, 0, 27, 42, 29, 182, 0, 218, 42, 182, 0, 227, 184, 0, 238]
abbrev dktX2_turns_0 : List UInt8 := dkwX2_turns_0 ++ dktX2_turns_1
theorem dksX2_turns_0 : cX2_turns.data.toList.drop 0 = dktX2_turns_0 := by decide +kernel
theorem dksX2_turns_1 : cX2_turns.data.toList.drop 24 = dktX2_turns_1 := dk_seg dksX2_turns_0 24 rfl rfl
theorem dksX2_turns_2 : cX2_turns.data.toList.drop 47 = dktX2_turns_2 := dk_seg dksX2_turns_1 23 rfl rfl
theorem dksX2_turns_3 : cX2_turns.data.toList.drop 70 = dktX2_turns_3 := dk_seg dksX2_turns_2 23 rfl rfl
theorem dksX2_turns_4 : cX2_turns.data.toList.drop 92 = dktX2_turns_4 := dk_seg dksX2_turns_3 22 rfl rfl
theorem dksX2_turns_5 : cX2_turns.data.toList.drop 116 = dktX2_turns_5 := dk_seg dksX2_turns_4 24 rfl rfl
theorem dksX2_turns_6 : cX2_turns.data.toList.drop 139 = dktX2_turns_6 := dk_seg dksX2_turns_5 23 rfl rfl
theorem dksX2_turns_7 : cX2_turns.data.toList.drop 162 = dktX2_turns_7 := dk_seg dksX2_turns_6 23 rfl rfl
theorem dksX2_turns_8 : cX2_turns.data.toList.drop 186 = dktX2_turns_8 := dk_seg dksX2_turns_7 24 rfl rfl
theorem dksX2_turns_9 : cX2_turns.data.toList.drop 210 = dktX2_turns_9 := dk_seg dksX2_turns_8 24 rfl rfl
theorem dX2_turns_0 : decode cX2_turns 0 = .ok (.aload_n 0, 1) := dk_42 (dk_at dksX2_turns_0 0 rfl rfl)
theorem dX2_turns_1 : decode cX2_turns 1 = .ok (.iconst 1, 1) := dk_4 (dk_at dksX2_turns_0 1 rfl rfl)
theorem dX2_turns_2 : decode cX2_turns 2 = .ok (.iload_n 1, 1) := dk_27 (dk_at dksX2_turns_0 2 rfl rfl)
theorem dX2_turns_3 : decode cX2_turns 3 = .ok (.iadd, 1) := dk_96 (dk_at dksX2_turns_0 3 rfl rfl)
theorem dX2_turns_4 : decode cX2_turns 4 = .ok (.invokevirtual 214, 3) := dk_182 0 214 (dk_at dksX2_turns_0 4 rfl rfl)
theorem dX2_turns_7 : decode cX2_turns 7 = .ok (.iload_n 1, 1) := dk_27 (dk_at dksX2_turns_0 7 rfl rfl)
theorem dX2_turns_8 : decode cX2_turns 8 = .ok (.iload_n 2, 1) := dk_28 (dk_at dksX2_turns_0 8 rfl rfl)
theorem dX2_turns_9 : decode cX2_turns 9 = .ok (.if_icmp .ne 27, 3) := dk_160 0 27 (dk_at dksX2_turns_0 9 rfl rfl)
theorem dX2_turns_12 : decode cX2_turns 12 = .ok (.aload_n 0, 1) := dk_42 (dk_at dksX2_turns_0 12 rfl rfl)
theorem dX2_turns_13 : decode cX2_turns 13 = .ok (.iload_n 3, 1) := dk_29 (dk_at dksX2_turns_0 13 rfl rfl)
theorem dX2_turns_14 : decode cX2_turns 14 = .ok (.invokevirtual 218, 3) := dk_182 0 218 (dk_at dksX2_turns_0 14 rfl rfl)
theorem dX2_turns_17 : decode cX2_turns 17 = .ok (.aload_n 0, 1) := dk_42 (dk_at dksX2_turns_0 17 rfl rfl)
theorem dX2_turns_18 : decode cX2_turns 18 = .ok (.invokevirtual 227, 3) := dk_182 0 227 (dk_at dksX2_turns_0 18 rfl rfl)
theorem dX2_turns_21 : decode cX2_turns 21 = .ok (.invokestatic 238, 3) := dk_184 0 238 (dk_at dksX2_turns_0 21 rfl rfl)
theorem dX2_turns_24 : decode cX2_turns 24 = .ok (.istore 4, 2) := dk_54 4 (dk_at dksX2_turns_1 0 rfl rfl)
theorem dX2_turns_26 : decode cX2_turns 26 = .ok (.aload_n 0, 1) := dk_42 (dk_at dksX2_turns_1 2 rfl rfl)
theorem dX2_turns_27 : decode cX2_turns 27 = .ok (.iconst 1, 1) := dk_4 (dk_at dksX2_turns_1 3 rfl rfl)
theorem dX2_turns_28 : decode cX2_turns 28 = .ok (.iload_n 1, 1) := dk_27 (dk_at dksX2_turns_1 4 rfl rfl)
theorem dX2_turns_29 : decode cX2_turns 29 = .ok (.iadd, 1) := dk_96 (dk_at dksX2_turns_1 5 rfl rfl)
theorem dX2_turns_30 : decode cX2_turns 30 = .ok (.invokevirtual 224, 3) := dk_182 0 224 (dk_at dksX2_turns_1 6 rfl rfl)
theorem dX2_turns_33 : decode cX2_turns 33 = .ok (.iload 4, 2) := dk_21 4 (dk_at dksX2_turns_1 9 rfl rfl)
theorem dX2_turns_35 : decode cX2_turns 35 = .ok (.ireturn, 1) := dk_172 (dk_at dksX2_turns_1 11 rfl rfl)
theorem dX2_turns_36 : decode cX2_turns 36 = .ok (.iload_n 1, 1) := dk_27 (dk_at dksX2_turns_1 12 rfl rfl)
theorem dX2_turns_37 : decode cX2_turns 37 = .ok (.iconst 2, 1) := dk_5 (dk_at dksX2_turns_1 13 rfl rfl)
theorem dX2_turns_38 : decode cX2_turns 38 = .ok (.irem, 1) := dk_112 (dk_at dksX2_turns_1 14 rfl rfl)
theorem dX2_turns_39 : decode cX2_turns 39 = .ok (.ifCond .ne 7, 3) := dk_154 0 7 (dk_at dksX2_turns_1 15 rfl rfl)
theorem dX2_turns_42 : decode cX2_turns 42 = .ok (.iconst 1, 1) := dk_4 (dk_at dksX2_turns_1 18 rfl rfl)
theorem dX2_turns_43 : decode cX2_turns 43 = .ok (.goto 4, 3) := dk_167 0 4 (dk_at dksX2_turns_1 19 rfl rfl)
theorem dX2_turns_46 : decode cX2_turns 46 = .ok (.iconst 0, 1) := dk_3 (dk_at dksX2_turns_1 22 rfl rfl)
theorem dX2_turns_47 : decode cX2_turns 47 = .ok (.istore 4, 2) := dk_54 4 (dk_at dksX2_turns_2 0 rfl rfl)
theorem dX2_turns_49 : decode cX2_turns 49 = .ok (.iload 4, 2) := dk_21 4 (dk_at dksX2_turns_2 2 rfl rfl)
theorem dX2_turns_51 : decode cX2_turns 51 = .ok (.ifCond .eq 9, 3) := dk_153 0 9 (dk_at dksX2_turns_2 4 rfl rfl)
theorem dX2_turns_54 : decode cX2_turns 54 = .ok (.ldc_w 261, 3) := dk_19 1 5 (dk_at dksX2_turns_2 7 rfl rfl)
theorem dX2_turns_57 : decode cX2_turns 57 = .ok (.goto 4, 3) := dk_167 0 4 (dk_at dksX2_turns_2 10 rfl rfl)
theorem dX2_turns_60 : decode cX2_turns 60 = .ok (.iconst (-1), 1) := dk_2 (dk_at dksX2_turns_2 13 rfl rfl)
theorem dX2_turns_61 : decode cX2_turns 61 = .ok (.istore 5, 2) := dk_54 5 (dk_at dksX2_turns_2 14 rfl rfl)
theorem dX2_turns_63 : decode cX2_turns 63 = .ok (.bipush 8, 2) := dk_16 8 (dk_at dksX2_turns_2 16 rfl rfl)
theorem dX2_turns_65 : decode cX2_turns 65 = .ok (.istore 6, 2) := dk_54 6 (dk_at dksX2_turns_2 18 rfl rfl)
theorem dX2_turns_67 : decode cX2_turns 67 = .ok (.iconst (-1), 1) := dk_2 (dk_at dksX2_turns_2 20 rfl rfl)
theorem dX2_turns_68 : decode cX2_turns 68 = .ok (.istore 7, 2) := dk_54 7 (dk_at dksX2_turns_2 21 rfl rfl)
theorem dX2_turns_70 : decode cX2_turns 70 = .ok (.iload 7, 2) := dk_21 7 (dk_at dksX2_turns_3 0 rfl rfl)
theorem dX2_turns_72 : decode cX2_turns 72 = .ok (.aload_n 0, 1) := dk_42 (dk_at dksX2_turns_3 2 rfl rfl)
theorem dX2_turns_73 : decode cX2_turns 73 = .ok (.getfield 101, 3) := dk_180 0 101 (dk_at dksX2_turns_3 3 rfl rfl)
theorem dX2_turns_76 : decode cX2_turns 76 = .ok (.if_icmp .ge 144, 3) := dk_162 0 144 (dk_at dksX2_turns_3 6 rfl rfl)
theorem dX2_turns_79 : decode cX2_turns 79 = .ok (.iload 7, 2) := dk_21 7 (dk_at dksX2_turns_3 9 rfl rfl)
theorem dX2_turns_81 : decode cX2_turns 81 = .ok (.ifCond .lt 17, 3) := dk_155 0 17 (dk_at dksX2_turns_3 11 rfl rfl)
theorem dX2_turns_84 : decode cX2_turns 84 = .ok (.iload 4, 2) := dk_21 4 (dk_at dksX2_turns_3 14 rfl rfl)
theorem dX2_turns_86 : decode cX2_turns 86 = .ok (.ifCond .eq 12, 3) := dk_153 0 12 (dk_at dksX2_turns_3 16 rfl rfl)
theorem dX2_turns_89 : decode cX2_turns 89 = .ok (.aload_n 0, 1) := dk_42 (dk_at dksX2_turns_3 19 rfl rfl)
theorem dX2_turns_90 : decode cX2_turns 90 = .ok (.iload 7, 2) := dk_21 7 (dk_at dksX2_turns_3 20 rfl rfl)
theorem dX2_turns_92 : decode cX2_turns 92 = .ok (.invokevirtual 288, 3) := dk_182 1 32 (dk_at dksX2_turns_4 0 rfl rfl)
theorem dX2_turns_95 : decode cX2_turns 95 = .ok (.goto 28, 3) := dk_167 0 28 (dk_at dksX2_turns_4 3 rfl rfl)
theorem dX2_turns_98 : decode cX2_turns 98 = .ok (.iload 7, 2) := dk_21 7 (dk_at dksX2_turns_4 6 rfl rfl)
theorem dX2_turns_100 : decode cX2_turns 100 = .ok (.ifCond .lt 23, 3) := dk_155 0 23 (dk_at dksX2_turns_4 8 rfl rfl)
theorem dX2_turns_103 : decode cX2_turns 103 = .ok (.aload_n 0, 1) := dk_42 (dk_at dksX2_turns_4 11 rfl rfl)
theorem dX2_turns_104 : decode cX2_turns 104 = .ok (.iload 7, 2) := dk_21 7 (dk_at dksX2_turns_4 12 rfl rfl)
theorem dX2_turns_106 : decode cX2_turns 106 = .ok (.iconst 3, 1) := dk_6 (dk_at dksX2_turns_4 14 rfl rfl)
theorem dX2_turns_107 : decode cX2_turns 107 = .ok (.iconst 0, 1) := dk_3 (dk_at dksX2_turns_4 15 rfl rfl)
theorem dX2_turns_108 : decode cX2_turns 108 = .ok (.aload_n 0, 1) := dk_42 (dk_at dksX2_turns_4 16 rfl rfl)
theorem dX2_turns_109 : decode cX2_turns 109 = .ok (.iload 7, 2) := dk_21 7 (dk_at dksX2_turns_4 17 rfl rfl)
theorem dX2_turns_111 : decode cX2_turns 111 = .ok (.iconst 3, 1) := dk_6 (dk_at dksX2_turns_4 19 rfl rfl)
theorem dX2_turns_112 : decode cX2_turns 112 = .ok (.invokevirtual 191, 3) := dk_182 0 191 (dk_at dksX2_turns_4 20 rfl rfl)
theorem dX2_turns_115 : decode cX2_turns 115 = .ok (.iconst 5, 1) := dk_8 (dk_at dksX2_turns_4 23 rfl rfl)
theorem dX2_turns_116 : decode cX2_turns 116 = .ok (.isub, 1) := dk_100 (dk_at dksX2_turns_5 0 rfl rfl)
theorem dX2_turns_117 : decode cX2_turns 117 = .ok (.invokestatic 98, 3) := dk_184 0 98 (dk_at dksX2_turns_5 1 rfl rfl)
theorem dX2_turns_120 : decode cX2_turns 120 = .ok (.invokevirtual 108, 3) := dk_182 0 108 (dk_at dksX2_turns_5 4 rfl rfl)
theorem dX2_turns_123 : decode cX2_turns 123 = .ok (.aload_n 0, 1) := dk_42 (dk_at dksX2_turns_5 7 rfl rfl)
theorem dX2_turns_124 : decode cX2_turns 124 = .ok (.iload_n 1, 1) := dk_27 (dk_at dksX2_turns_5 8 rfl rfl)
theorem dX2_turns_125 : decode cX2_turns 125 = .ok (.iconst 1, 1) := dk_4 (dk_at dksX2_turns_5 9 rfl rfl)
theorem dX2_turns_126 : decode cX2_turns 126 = .ok (.iadd, 1) := dk_96 (dk_at dksX2_turns_5 10 rfl rfl)
theorem dX2_turns_127 : decode cX2_turns 127 = .ok (.iload_n 2, 1) := dk_28 (dk_at dksX2_turns_5 11 rfl rfl)
theorem dX2_turns_128 : decode cX2_turns 128 = .ok (.iload_n 3, 1) := dk_29 (dk_at dksX2_turns_5 12 rfl rfl)
theorem dX2_turns_129 : decode cX2_turns 129 = .ok (.invokevirtual 291, 3) := dk_182 1 35 (dk_at dksX2_turns_5 13 rfl rfl)
theorem dX2_turns_132 : decode cX2_turns 132 = .ok (.istore 8, 2) := dk_54 8 (dk_at dksX2_turns_5 16 rfl rfl)
theorem dX2_turns_134 : decode cX2_turns 134 = .ok (.iload 4, 2) := dk_21 4 (dk_at dksX2_turns_5 18 rfl rfl)
theorem dX2_turns_136 : decode cX2_turns 136 = .ok (.ifCond .eq 18, 3) := dk_153 0 18 (dk_at dksX2_turns_5 20 rfl rfl)
theorem dX2_turns_139 : decode cX2_turns 139 = .ok (.iload 8, 2) := dk_21 8 (dk_at dksX2_turns_6 0 rfl rfl)
theorem dX2_turns_141 : decode cX2_turns 141 = .ok (.iload 5, 2) := dk_21 5 (dk_at dksX2_turns_6 2 rfl rfl)
theorem dX2_turns_143 : decode cX2_turns 143 = .ok (.if_icmp .ge 7, 3) := dk_162 0 7 (dk_at dksX2_turns_6 4 rfl rfl)
theorem dX2_turns_146 : decode cX2_turns 146 = .ok (.iconst 1, 1) := dk_4 (dk_at dksX2_turns_6 7 rfl rfl)
theorem dX2_turns_147 : decode cX2_turns 147 = .ok (.goto 19, 3) := dk_167 0 19 (dk_at dksX2_turns_6 8 rfl rfl)
theorem dX2_turns_150 : decode cX2_turns 150 = .ok (.iconst 0, 1) := dk_3 (dk_at dksX2_turns_6 11 rfl rfl)
theorem dX2_turns_151 : decode cX2_turns 151 = .ok (.goto 15, 3) := dk_167 0 15 (dk_at dksX2_turns_6 12 rfl rfl)
theorem dX2_turns_154 : decode cX2_turns 154 = .ok (.iload 8, 2) := dk_21 8 (dk_at dksX2_turns_6 15 rfl rfl)
theorem dX2_turns_156 : decode cX2_turns 156 = .ok (.iload 5, 2) := dk_21 5 (dk_at dksX2_turns_6 17 rfl rfl)
theorem dX2_turns_158 : decode cX2_turns 158 = .ok (.if_icmp .le 7, 3) := dk_164 0 7 (dk_at dksX2_turns_6 19 rfl rfl)
theorem dX2_turns_161 : decode cX2_turns 161 = .ok (.iconst 1, 1) := dk_4 (dk_at dksX2_turns_6 22 rfl rfl)
theorem dX2_turns_162 : decode cX2_turns 162 = .ok (.goto 4, 3) := dk_167 0 4 (dk_at dksX2_turns_7 0 rfl rfl)
theorem dX2_turns_165 : decode cX2_turns 165 = .ok (.iconst 0, 1) := dk_3 (dk_at dksX2_turns_7 3 rfl rfl)
theorem dX2_turns_166 : decode cX2_turns 166 = .ok (.istore 9, 2) := dk_54 9 (dk_at dksX2_turns_7 4 rfl rfl)
theorem dX2_turns_168 : decode cX2_turns 168 = .ok (.iload 9, 2) := dk_21 9 (dk_at dksX2_turns_7 6 rfl rfl)
theorem dX2_turns_170 : decode cX2_turns 170 = .ok (.ifCond .eq 19, 3) := dk_153 0 19 (dk_at dksX2_turns_7 8 rfl rfl)
theorem dX2_turns_173 : decode cX2_turns 173 = .ok (.iload 7, 2) := dk_21 7 (dk_at dksX2_turns_7 11 rfl rfl)
theorem dX2_turns_175 : decode cX2_turns 175 = .ok (.iconst (-1), 1) := dk_2 (dk_at dksX2_turns_7 13 rfl rfl)
theorem dX2_turns_176 : decode cX2_turns 176 = .ok (.if_icmp .ne 8, 3) := dk_160 0 8 (dk_at dksX2_turns_7 14 rfl rfl)
theorem dX2_turns_179 : decode cX2_turns 179 = .ok (.bipush 8, 2) := dk_16 8 (dk_at dksX2_turns_7 17 rfl rfl)
theorem dX2_turns_181 : decode cX2_turns 181 = .ok (.goto 10, 3) := dk_167 0 10 (dk_at dksX2_turns_7 19 rfl rfl)
theorem dX2_turns_184 : decode cX2_turns 184 = .ok (.iload 7, 2) := dk_21 7 (dk_at dksX2_turns_7 22 rfl rfl)
theorem dX2_turns_186 : decode cX2_turns 186 = .ok (.goto 5, 3) := dk_167 0 5 (dk_at dksX2_turns_8 0 rfl rfl)
theorem dX2_turns_189 : decode cX2_turns 189 = .ok (.iload 6, 2) := dk_21 6 (dk_at dksX2_turns_8 3 rfl rfl)
theorem dX2_turns_191 : decode cX2_turns 191 = .ok (.istore 6, 2) := dk_54 6 (dk_at dksX2_turns_8 5 rfl rfl)
theorem dX2_turns_193 : decode cX2_turns 193 = .ok (.iload 9, 2) := dk_21 9 (dk_at dksX2_turns_8 7 rfl rfl)
theorem dX2_turns_195 : decode cX2_turns 195 = .ok (.ifCond .eq 8, 3) := dk_153 0 8 (dk_at dksX2_turns_8 9 rfl rfl)
theorem dX2_turns_198 : decode cX2_turns 198 = .ok (.iload 8, 2) := dk_21 8 (dk_at dksX2_turns_8 12 rfl rfl)
theorem dX2_turns_200 : decode cX2_turns 200 = .ok (.goto 5, 3) := dk_167 0 5 (dk_at dksX2_turns_8 14 rfl rfl)
theorem dX2_turns_203 : decode cX2_turns 203 = .ok (.iload 5, 2) := dk_21 5 (dk_at dksX2_turns_8 17 rfl rfl)
theorem dX2_turns_205 : decode cX2_turns 205 = .ok (.istore 5, 2) := dk_54 5 (dk_at dksX2_turns_8 19 rfl rfl)
theorem dX2_turns_207 : decode cX2_turns 207 = .ok (.aload_n 0, 1) := dk_42 (dk_at dksX2_turns_8 21 rfl rfl)
theorem dX2_turns_208 : decode cX2_turns 208 = .ok (.iconst 1, 1) := dk_4 (dk_at dksX2_turns_8 22 rfl rfl)
theorem dX2_turns_209 : decode cX2_turns 209 = .ok (.iload_n 1, 1) := dk_27 (dk_at dksX2_turns_8 23 rfl rfl)
theorem dX2_turns_210 : decode cX2_turns 210 = .ok (.iadd, 1) := dk_96 (dk_at dksX2_turns_9 0 rfl rfl)
theorem dX2_turns_211 : decode cX2_turns 211 = .ok (.invokevirtual 224, 3) := dk_182 0 224 (dk_at dksX2_turns_9 1 rfl rfl)
theorem dX2_turns_214 : decode cX2_turns 214 = .ok (.iinc 7 1, 3) := dk_132 7 1 (dk_at dksX2_turns_9 4 rfl rfl)
theorem dX2_turns_217 : decode cX2_turns 217 = .ok (.goto (-147), 3) := dk_167 255 109 (dk_at dksX2_turns_9 7 rfl rfl)
theorem dX2_turns_220 : decode cX2_turns 220 = .ok (.aload_n 0, 1) := dk_42 (dk_at dksX2_turns_9 10 rfl rfl)
theorem dX2_turns_221 : decode cX2_turns 221 = .ok (.iload 6, 2) := dk_21 6 (dk_at dksX2_turns_9 11 rfl rfl)
theorem dX2_turns_223 : decode cX2_turns 223 = .ok (.putfield 294, 3) := dk_181 1 38 (dk_at dksX2_turns_9 13 rfl rfl)
theorem dX2_turns_226 : decode cX2_turns 226 = .ok (.iload 5, 2) := dk_21 5 (dk_at dksX2_turns_9 16 rfl rfl)
theorem dX2_turns_228 : decode cX2_turns 228 = .ok (.ireturn, 1) := dk_172 (dk_at dksX2_turns_9 18 rfl rfl)
abbrev cX2_passOn : ByteArray := prog_31_method_62_code
def yX2_passOn : MethodName := ⟨RX2, "passOn", "(I)V"⟩
def dkwX2_passOn_2 : List UInt8 := [182, 0, 108, 177]
abbrev dktX2_passOn_2 : List UInt8 := dkwX2_passOn_2 ++ []
def dkwX2_passOn_1 : List UInt8 := [180, 0, 101, 112, 167, 0, 4, 28, 61, 42, 27, 7, 28, 27, 160, 0, 7, 2, 167, 0, 4, 28]
abbrev dktX2_passOn_1 : List UInt8 := dkwX2_passOn_1 ++ dktX2_passOn_2
def dkwX2_passOn_0 : List UInt8 := [42, 27, 7, 182, 0, 191, 4, 96, 42, 180, 0, 101, 112, 61, 28, 27, 160, 0, 14, 28, 4, 96, 42]
abbrev dktX2_passOn_0 : List UInt8 := dkwX2_passOn_0 ++ dktX2_passOn_1
theorem dksX2_passOn_0 : cX2_passOn.data.toList.drop 0 = dktX2_passOn_0 := by decide +kernel
theorem dksX2_passOn_1 : cX2_passOn.data.toList.drop 23 = dktX2_passOn_1 := dk_seg dksX2_passOn_0 23 rfl rfl
theorem dksX2_passOn_2 : cX2_passOn.data.toList.drop 45 = dktX2_passOn_2 := dk_seg dksX2_passOn_1 22 rfl rfl
theorem dX2_passOn_0 : decode cX2_passOn 0 = .ok (.aload_n 0, 1) := dk_42 (dk_at dksX2_passOn_0 0 rfl rfl)
theorem dX2_passOn_1 : decode cX2_passOn 1 = .ok (.iload_n 1, 1) := dk_27 (dk_at dksX2_passOn_0 1 rfl rfl)
theorem dX2_passOn_2 : decode cX2_passOn 2 = .ok (.iconst 4, 1) := dk_7 (dk_at dksX2_passOn_0 2 rfl rfl)
theorem dX2_passOn_3 : decode cX2_passOn 3 = .ok (.invokevirtual 191, 3) := dk_182 0 191 (dk_at dksX2_passOn_0 3 rfl rfl)
theorem dX2_passOn_6 : decode cX2_passOn 6 = .ok (.iconst 1, 1) := dk_4 (dk_at dksX2_passOn_0 6 rfl rfl)
theorem dX2_passOn_7 : decode cX2_passOn 7 = .ok (.iadd, 1) := dk_96 (dk_at dksX2_passOn_0 7 rfl rfl)
theorem dX2_passOn_8 : decode cX2_passOn 8 = .ok (.aload_n 0, 1) := dk_42 (dk_at dksX2_passOn_0 8 rfl rfl)
theorem dX2_passOn_9 : decode cX2_passOn 9 = .ok (.getfield 101, 3) := dk_180 0 101 (dk_at dksX2_passOn_0 9 rfl rfl)
theorem dX2_passOn_12 : decode cX2_passOn 12 = .ok (.irem, 1) := dk_112 (dk_at dksX2_passOn_0 12 rfl rfl)
theorem dX2_passOn_13 : decode cX2_passOn 13 = .ok (.istore_n 2, 1) := dk_61 (dk_at dksX2_passOn_0 13 rfl rfl)
theorem dX2_passOn_14 : decode cX2_passOn 14 = .ok (.iload_n 2, 1) := dk_28 (dk_at dksX2_passOn_0 14 rfl rfl)
theorem dX2_passOn_15 : decode cX2_passOn 15 = .ok (.iload_n 1, 1) := dk_27 (dk_at dksX2_passOn_0 15 rfl rfl)
theorem dX2_passOn_16 : decode cX2_passOn 16 = .ok (.if_icmp .ne 14, 3) := dk_160 0 14 (dk_at dksX2_passOn_0 16 rfl rfl)
theorem dX2_passOn_19 : decode cX2_passOn 19 = .ok (.iload_n 2, 1) := dk_28 (dk_at dksX2_passOn_0 19 rfl rfl)
theorem dX2_passOn_20 : decode cX2_passOn 20 = .ok (.iconst 1, 1) := dk_4 (dk_at dksX2_passOn_0 20 rfl rfl)
theorem dX2_passOn_21 : decode cX2_passOn 21 = .ok (.iadd, 1) := dk_96 (dk_at dksX2_passOn_0 21 rfl rfl)
theorem dX2_passOn_22 : decode cX2_passOn 22 = .ok (.aload_n 0, 1) := dk_42 (dk_at dksX2_passOn_0 22 rfl rfl)
theorem dX2_passOn_23 : decode cX2_passOn 23 = .ok (.getfield 101, 3) := dk_180 0 101 (dk_at dksX2_passOn_1 0 rfl rfl)
theorem dX2_passOn_26 : decode cX2_passOn 26 = .ok (.irem, 1) := dk_112 (dk_at dksX2_passOn_1 3 rfl rfl)
theorem dX2_passOn_27 : decode cX2_passOn 27 = .ok (.goto 4, 3) := dk_167 0 4 (dk_at dksX2_passOn_1 4 rfl rfl)
theorem dX2_passOn_30 : decode cX2_passOn 30 = .ok (.iload_n 2, 1) := dk_28 (dk_at dksX2_passOn_1 7 rfl rfl)
theorem dX2_passOn_31 : decode cX2_passOn 31 = .ok (.istore_n 2, 1) := dk_61 (dk_at dksX2_passOn_1 8 rfl rfl)
theorem dX2_passOn_32 : decode cX2_passOn 32 = .ok (.aload_n 0, 1) := dk_42 (dk_at dksX2_passOn_1 9 rfl rfl)
theorem dX2_passOn_33 : decode cX2_passOn 33 = .ok (.iload_n 1, 1) := dk_27 (dk_at dksX2_passOn_1 10 rfl rfl)
theorem dX2_passOn_34 : decode cX2_passOn 34 = .ok (.iconst 4, 1) := dk_7 (dk_at dksX2_passOn_1 11 rfl rfl)
theorem dX2_passOn_35 : decode cX2_passOn 35 = .ok (.iload_n 2, 1) := dk_28 (dk_at dksX2_passOn_1 12 rfl rfl)
theorem dX2_passOn_36 : decode cX2_passOn 36 = .ok (.iload_n 1, 1) := dk_27 (dk_at dksX2_passOn_1 13 rfl rfl)
theorem dX2_passOn_37 : decode cX2_passOn 37 = .ok (.if_icmp .ne 7, 3) := dk_160 0 7 (dk_at dksX2_passOn_1 14 rfl rfl)
theorem dX2_passOn_40 : decode cX2_passOn 40 = .ok (.iconst (-1), 1) := dk_2 (dk_at dksX2_passOn_1 17 rfl rfl)
theorem dX2_passOn_41 : decode cX2_passOn 41 = .ok (.goto 4, 3) := dk_167 0 4 (dk_at dksX2_passOn_1 18 rfl rfl)
theorem dX2_passOn_44 : decode cX2_passOn 44 = .ok (.iload_n 2, 1) := dk_28 (dk_at dksX2_passOn_1 21 rfl rfl)
theorem dX2_passOn_45 : decode cX2_passOn 45 = .ok (.invokevirtual 108, 3) := dk_182 0 108 (dk_at dksX2_passOn_2 0 rfl rfl)
theorem dX2_passOn_48 : decode cX2_passOn 48 = .ok (.return_, 1) := dk_177 (dk_at dksX2_passOn_2 3 rfl rfl)
abbrev cX2_drawn : ByteArray := prog_31_method_65_code
def yX2_drawn : MethodName := ⟨RX2, "drawn", "(III)I"⟩
def dkwX2_drawn_8 : List UInt8 := [21, 5, 172]
abbrev dktX2_drawn_8 : List UInt8 := dkwX2_drawn_8 ++ []
def dkwX2_drawn_7 : List UInt8 := [167, 0, 9, 42, 29, 6, 182, 0, 191, 96, 54, 5, 42, 3, 182, 0, 224, 132, 6, 1, 167, 255, 128]
abbrev dktX2_drawn_7 : List UInt8 := dkwX2_drawn_7 ++ dktX2_drawn_8
def dkwX2_drawn_6 : List UInt8 := [182, 0, 211, 132, 7, 1, 167, 255, 182, 21, 5, 29, 2, 160, 0, 13, 42, 182, 0, 227, 184, 0, 238]
abbrev dktX2_drawn_6 : List UInt8 := dkwX2_drawn_6 ++ dktX2_drawn_7
def dkwX2_drawn_5 : List UInt8 := [21, 8, 6, 182, 0, 191, 21, 4, 16, 16, 124, 16, 10, 112, 100, 184, 0, 98, 182, 0, 108, 42]
abbrev dktX2_drawn_5 : List UInt8 := dkwX2_drawn_5 ++ dktX2_drawn_6
def dkwX2_drawn_4 : List UInt8 := [17, 48, 57, 96, 54, 4, 21, 4, 16, 8, 124, 42, 180, 0, 101, 112, 54, 8, 42, 21, 8, 6, 3, 42]
abbrev dktX2_drawn_4 : List UInt8 := dkwX2_drawn_4 ++ dktX2_drawn_5
def dkwX2_drawn_3 : List UInt8 := [54, 7, 21, 7, 28, 16, 100, 112, 162, 0, 71, 42, 180, 0, 101, 158, 0, 64, 21, 4, 19, 1, 41, 104]
abbrev dktX2_drawn_3 : List UInt8 := dkwX2_drawn_3 ++ dktX2_drawn_4
def dkwX2_drawn_2 : List UInt8 := [54, 4, 3, 54, 5, 3, 54, 6, 21, 6, 28, 16, 100, 108, 162, 0, 125, 42, 3, 182, 0, 214, 3]
abbrev dktX2_drawn_2 : List UInt8 := dkwX2_drawn_2 ++ dktX2_drawn_3
def dkwX2_drawn_1 : List UInt8 := [184, 0, 104, 153, 0, 17, 29, 2, 42, 180, 0, 101, 4, 100, 184, 0, 104, 154, 0, 5, 2, 172, 27]
abbrev dktX2_drawn_1 : List UInt8 := dkwX2_drawn_1 ++ dktX2_drawn_2
def dkwX2_drawn_0 : List UInt8 := [28, 155, 0, 43, 28, 16, 100, 108, 4, 16, 30, 184, 0, 104, 153, 0, 30, 28, 16, 100, 112, 4, 16, 40]
abbrev dktX2_drawn_0 : List UInt8 := dkwX2_drawn_0 ++ dktX2_drawn_1
theorem dksX2_drawn_0 : cX2_drawn.data.toList.drop 0 = dktX2_drawn_0 := by decide +kernel
theorem dksX2_drawn_1 : cX2_drawn.data.toList.drop 24 = dktX2_drawn_1 := dk_seg dksX2_drawn_0 24 rfl rfl
theorem dksX2_drawn_2 : cX2_drawn.data.toList.drop 47 = dktX2_drawn_2 := dk_seg dksX2_drawn_1 23 rfl rfl
theorem dksX2_drawn_3 : cX2_drawn.data.toList.drop 70 = dktX2_drawn_3 := dk_seg dksX2_drawn_2 23 rfl rfl
theorem dksX2_drawn_4 : cX2_drawn.data.toList.drop 94 = dktX2_drawn_4 := dk_seg dksX2_drawn_3 24 rfl rfl
theorem dksX2_drawn_5 : cX2_drawn.data.toList.drop 118 = dktX2_drawn_5 := dk_seg dksX2_drawn_4 24 rfl rfl
theorem dksX2_drawn_6 : cX2_drawn.data.toList.drop 140 = dktX2_drawn_6 := dk_seg dksX2_drawn_5 22 rfl rfl
theorem dksX2_drawn_7 : cX2_drawn.data.toList.drop 163 = dktX2_drawn_7 := dk_seg dksX2_drawn_6 23 rfl rfl
theorem dksX2_drawn_8 : cX2_drawn.data.toList.drop 186 = dktX2_drawn_8 := dk_seg dksX2_drawn_7 23 rfl rfl
theorem dX2_drawn_0 : decode cX2_drawn 0 = .ok (.iload_n 2, 1) := dk_28 (dk_at dksX2_drawn_0 0 rfl rfl)
theorem dX2_drawn_1 : decode cX2_drawn 1 = .ok (.ifCond .lt 43, 3) := dk_155 0 43 (dk_at dksX2_drawn_0 1 rfl rfl)
theorem dX2_drawn_4 : decode cX2_drawn 4 = .ok (.iload_n 2, 1) := dk_28 (dk_at dksX2_drawn_0 4 rfl rfl)
theorem dX2_drawn_5 : decode cX2_drawn 5 = .ok (.bipush 100, 2) := dk_16 100 (dk_at dksX2_drawn_0 5 rfl rfl)
theorem dX2_drawn_7 : decode cX2_drawn 7 = .ok (.idiv, 1) := dk_108 (dk_at dksX2_drawn_0 7 rfl rfl)
theorem dX2_drawn_8 : decode cX2_drawn 8 = .ok (.iconst 1, 1) := dk_4 (dk_at dksX2_drawn_0 8 rfl rfl)
theorem dX2_drawn_9 : decode cX2_drawn 9 = .ok (.bipush 30, 2) := dk_16 30 (dk_at dksX2_drawn_0 9 rfl rfl)
theorem dX2_drawn_11 : decode cX2_drawn 11 = .ok (.invokestatic 104, 3) := dk_184 0 104 (dk_at dksX2_drawn_0 11 rfl rfl)
theorem dX2_drawn_14 : decode cX2_drawn 14 = .ok (.ifCond .eq 30, 3) := dk_153 0 30 (dk_at dksX2_drawn_0 14 rfl rfl)
theorem dX2_drawn_17 : decode cX2_drawn 17 = .ok (.iload_n 2, 1) := dk_28 (dk_at dksX2_drawn_0 17 rfl rfl)
theorem dX2_drawn_18 : decode cX2_drawn 18 = .ok (.bipush 100, 2) := dk_16 100 (dk_at dksX2_drawn_0 18 rfl rfl)
theorem dX2_drawn_20 : decode cX2_drawn 20 = .ok (.irem, 1) := dk_112 (dk_at dksX2_drawn_0 20 rfl rfl)
theorem dX2_drawn_21 : decode cX2_drawn 21 = .ok (.iconst 1, 1) := dk_4 (dk_at dksX2_drawn_0 21 rfl rfl)
theorem dX2_drawn_22 : decode cX2_drawn 22 = .ok (.bipush 40, 2) := dk_16 40 (dk_at dksX2_drawn_0 22 rfl rfl)
theorem dX2_drawn_24 : decode cX2_drawn 24 = .ok (.invokestatic 104, 3) := dk_184 0 104 (dk_at dksX2_drawn_1 0 rfl rfl)
theorem dX2_drawn_27 : decode cX2_drawn 27 = .ok (.ifCond .eq 17, 3) := dk_153 0 17 (dk_at dksX2_drawn_1 3 rfl rfl)
theorem dX2_drawn_30 : decode cX2_drawn 30 = .ok (.iload_n 3, 1) := dk_29 (dk_at dksX2_drawn_1 6 rfl rfl)
theorem dX2_drawn_31 : decode cX2_drawn 31 = .ok (.iconst (-1), 1) := dk_2 (dk_at dksX2_drawn_1 7 rfl rfl)
theorem dX2_drawn_32 : decode cX2_drawn 32 = .ok (.aload_n 0, 1) := dk_42 (dk_at dksX2_drawn_1 8 rfl rfl)
theorem dX2_drawn_33 : decode cX2_drawn 33 = .ok (.getfield 101, 3) := dk_180 0 101 (dk_at dksX2_drawn_1 9 rfl rfl)
theorem dX2_drawn_36 : decode cX2_drawn 36 = .ok (.iconst 1, 1) := dk_4 (dk_at dksX2_drawn_1 12 rfl rfl)
theorem dX2_drawn_37 : decode cX2_drawn 37 = .ok (.isub, 1) := dk_100 (dk_at dksX2_drawn_1 13 rfl rfl)
theorem dX2_drawn_38 : decode cX2_drawn 38 = .ok (.invokestatic 104, 3) := dk_184 0 104 (dk_at dksX2_drawn_1 14 rfl rfl)
theorem dX2_drawn_41 : decode cX2_drawn 41 = .ok (.ifCond .ne 5, 3) := dk_154 0 5 (dk_at dksX2_drawn_1 17 rfl rfl)
theorem dX2_drawn_44 : decode cX2_drawn 44 = .ok (.iconst (-1), 1) := dk_2 (dk_at dksX2_drawn_1 20 rfl rfl)
theorem dX2_drawn_45 : decode cX2_drawn 45 = .ok (.ireturn, 1) := dk_172 (dk_at dksX2_drawn_1 21 rfl rfl)
theorem dX2_drawn_46 : decode cX2_drawn 46 = .ok (.iload_n 1, 1) := dk_27 (dk_at dksX2_drawn_1 22 rfl rfl)
theorem dX2_drawn_47 : decode cX2_drawn 47 = .ok (.istore 4, 2) := dk_54 4 (dk_at dksX2_drawn_2 0 rfl rfl)
theorem dX2_drawn_49 : decode cX2_drawn 49 = .ok (.iconst 0, 1) := dk_3 (dk_at dksX2_drawn_2 2 rfl rfl)
theorem dX2_drawn_50 : decode cX2_drawn 50 = .ok (.istore 5, 2) := dk_54 5 (dk_at dksX2_drawn_2 3 rfl rfl)
theorem dX2_drawn_52 : decode cX2_drawn 52 = .ok (.iconst 0, 1) := dk_3 (dk_at dksX2_drawn_2 5 rfl rfl)
theorem dX2_drawn_53 : decode cX2_drawn 53 = .ok (.istore 6, 2) := dk_54 6 (dk_at dksX2_drawn_2 6 rfl rfl)
theorem dX2_drawn_55 : decode cX2_drawn 55 = .ok (.iload 6, 2) := dk_21 6 (dk_at dksX2_drawn_2 8 rfl rfl)
theorem dX2_drawn_57 : decode cX2_drawn 57 = .ok (.iload_n 2, 1) := dk_28 (dk_at dksX2_drawn_2 10 rfl rfl)
theorem dX2_drawn_58 : decode cX2_drawn 58 = .ok (.bipush 100, 2) := dk_16 100 (dk_at dksX2_drawn_2 11 rfl rfl)
theorem dX2_drawn_60 : decode cX2_drawn 60 = .ok (.idiv, 1) := dk_108 (dk_at dksX2_drawn_2 13 rfl rfl)
theorem dX2_drawn_61 : decode cX2_drawn 61 = .ok (.if_icmp .ge 125, 3) := dk_162 0 125 (dk_at dksX2_drawn_2 14 rfl rfl)
theorem dX2_drawn_64 : decode cX2_drawn 64 = .ok (.aload_n 0, 1) := dk_42 (dk_at dksX2_drawn_2 17 rfl rfl)
theorem dX2_drawn_65 : decode cX2_drawn 65 = .ok (.iconst 0, 1) := dk_3 (dk_at dksX2_drawn_2 18 rfl rfl)
theorem dX2_drawn_66 : decode cX2_drawn 66 = .ok (.invokevirtual 214, 3) := dk_182 0 214 (dk_at dksX2_drawn_2 19 rfl rfl)
theorem dX2_drawn_69 : decode cX2_drawn 69 = .ok (.iconst 0, 1) := dk_3 (dk_at dksX2_drawn_2 22 rfl rfl)
theorem dX2_drawn_70 : decode cX2_drawn 70 = .ok (.istore 7, 2) := dk_54 7 (dk_at dksX2_drawn_3 0 rfl rfl)
theorem dX2_drawn_72 : decode cX2_drawn 72 = .ok (.iload 7, 2) := dk_21 7 (dk_at dksX2_drawn_3 2 rfl rfl)
theorem dX2_drawn_74 : decode cX2_drawn 74 = .ok (.iload_n 2, 1) := dk_28 (dk_at dksX2_drawn_3 4 rfl rfl)
theorem dX2_drawn_75 : decode cX2_drawn 75 = .ok (.bipush 100, 2) := dk_16 100 (dk_at dksX2_drawn_3 5 rfl rfl)
theorem dX2_drawn_77 : decode cX2_drawn 77 = .ok (.irem, 1) := dk_112 (dk_at dksX2_drawn_3 7 rfl rfl)
theorem dX2_drawn_78 : decode cX2_drawn 78 = .ok (.if_icmp .ge 71, 3) := dk_162 0 71 (dk_at dksX2_drawn_3 8 rfl rfl)
theorem dX2_drawn_81 : decode cX2_drawn 81 = .ok (.aload_n 0, 1) := dk_42 (dk_at dksX2_drawn_3 11 rfl rfl)
theorem dX2_drawn_82 : decode cX2_drawn 82 = .ok (.getfield 101, 3) := dk_180 0 101 (dk_at dksX2_drawn_3 12 rfl rfl)
theorem dX2_drawn_85 : decode cX2_drawn 85 = .ok (.ifCond .le 64, 3) := dk_158 0 64 (dk_at dksX2_drawn_3 15 rfl rfl)
theorem dX2_drawn_88 : decode cX2_drawn 88 = .ok (.iload 4, 2) := dk_21 4 (dk_at dksX2_drawn_3 18 rfl rfl)
theorem dX2_drawn_90 : decode cX2_drawn 90 = .ok (.ldc_w 297, 3) := dk_19 1 41 (dk_at dksX2_drawn_3 20 rfl rfl)
theorem dX2_drawn_93 : decode cX2_drawn 93 = .ok (.imul, 1) := dk_104 (dk_at dksX2_drawn_3 23 rfl rfl)
theorem dX2_drawn_94 : decode cX2_drawn 94 = .ok (.sipush 12345, 3) := dk_17 48 57 (dk_at dksX2_drawn_4 0 rfl rfl)
theorem dX2_drawn_97 : decode cX2_drawn 97 = .ok (.iadd, 1) := dk_96 (dk_at dksX2_drawn_4 3 rfl rfl)
theorem dX2_drawn_98 : decode cX2_drawn 98 = .ok (.istore 4, 2) := dk_54 4 (dk_at dksX2_drawn_4 4 rfl rfl)
theorem dX2_drawn_100 : decode cX2_drawn 100 = .ok (.iload 4, 2) := dk_21 4 (dk_at dksX2_drawn_4 6 rfl rfl)
theorem dX2_drawn_102 : decode cX2_drawn 102 = .ok (.bipush 8, 2) := dk_16 8 (dk_at dksX2_drawn_4 8 rfl rfl)
theorem dX2_drawn_104 : decode cX2_drawn 104 = .ok (.iushr, 1) := dk_124 (dk_at dksX2_drawn_4 10 rfl rfl)
theorem dX2_drawn_105 : decode cX2_drawn 105 = .ok (.aload_n 0, 1) := dk_42 (dk_at dksX2_drawn_4 11 rfl rfl)
theorem dX2_drawn_106 : decode cX2_drawn 106 = .ok (.getfield 101, 3) := dk_180 0 101 (dk_at dksX2_drawn_4 12 rfl rfl)
theorem dX2_drawn_109 : decode cX2_drawn 109 = .ok (.irem, 1) := dk_112 (dk_at dksX2_drawn_4 15 rfl rfl)
theorem dX2_drawn_110 : decode cX2_drawn 110 = .ok (.istore 8, 2) := dk_54 8 (dk_at dksX2_drawn_4 16 rfl rfl)
theorem dX2_drawn_112 : decode cX2_drawn 112 = .ok (.aload_n 0, 1) := dk_42 (dk_at dksX2_drawn_4 18 rfl rfl)
theorem dX2_drawn_113 : decode cX2_drawn 113 = .ok (.iload 8, 2) := dk_21 8 (dk_at dksX2_drawn_4 19 rfl rfl)
theorem dX2_drawn_115 : decode cX2_drawn 115 = .ok (.iconst 3, 1) := dk_6 (dk_at dksX2_drawn_4 21 rfl rfl)
theorem dX2_drawn_116 : decode cX2_drawn 116 = .ok (.iconst 0, 1) := dk_3 (dk_at dksX2_drawn_4 22 rfl rfl)
theorem dX2_drawn_117 : decode cX2_drawn 117 = .ok (.aload_n 0, 1) := dk_42 (dk_at dksX2_drawn_4 23 rfl rfl)
theorem dX2_drawn_118 : decode cX2_drawn 118 = .ok (.iload 8, 2) := dk_21 8 (dk_at dksX2_drawn_5 0 rfl rfl)
theorem dX2_drawn_120 : decode cX2_drawn 120 = .ok (.iconst 3, 1) := dk_6 (dk_at dksX2_drawn_5 2 rfl rfl)
theorem dX2_drawn_121 : decode cX2_drawn 121 = .ok (.invokevirtual 191, 3) := dk_182 0 191 (dk_at dksX2_drawn_5 3 rfl rfl)
theorem dX2_drawn_124 : decode cX2_drawn 124 = .ok (.iload 4, 2) := dk_21 4 (dk_at dksX2_drawn_5 6 rfl rfl)
theorem dX2_drawn_126 : decode cX2_drawn 126 = .ok (.bipush 16, 2) := dk_16 16 (dk_at dksX2_drawn_5 8 rfl rfl)
theorem dX2_drawn_128 : decode cX2_drawn 128 = .ok (.iushr, 1) := dk_124 (dk_at dksX2_drawn_5 10 rfl rfl)
theorem dX2_drawn_129 : decode cX2_drawn 129 = .ok (.bipush 10, 2) := dk_16 10 (dk_at dksX2_drawn_5 11 rfl rfl)
theorem dX2_drawn_131 : decode cX2_drawn 131 = .ok (.irem, 1) := dk_112 (dk_at dksX2_drawn_5 13 rfl rfl)
theorem dX2_drawn_132 : decode cX2_drawn 132 = .ok (.isub, 1) := dk_100 (dk_at dksX2_drawn_5 14 rfl rfl)
theorem dX2_drawn_133 : decode cX2_drawn 133 = .ok (.invokestatic 98, 3) := dk_184 0 98 (dk_at dksX2_drawn_5 15 rfl rfl)
theorem dX2_drawn_136 : decode cX2_drawn 136 = .ok (.invokevirtual 108, 3) := dk_182 0 108 (dk_at dksX2_drawn_5 18 rfl rfl)
theorem dX2_drawn_139 : decode cX2_drawn 139 = .ok (.aload_n 0, 1) := dk_42 (dk_at dksX2_drawn_5 21 rfl rfl)
theorem dX2_drawn_140 : decode cX2_drawn 140 = .ok (.invokevirtual 211, 3) := dk_182 0 211 (dk_at dksX2_drawn_6 0 rfl rfl)
theorem dX2_drawn_143 : decode cX2_drawn 143 = .ok (.iinc 7 1, 3) := dk_132 7 1 (dk_at dksX2_drawn_6 3 rfl rfl)
theorem dX2_drawn_146 : decode cX2_drawn 146 = .ok (.goto (-74), 3) := dk_167 255 182 (dk_at dksX2_drawn_6 6 rfl rfl)
theorem dX2_drawn_149 : decode cX2_drawn 149 = .ok (.iload 5, 2) := dk_21 5 (dk_at dksX2_drawn_6 9 rfl rfl)
theorem dX2_drawn_151 : decode cX2_drawn 151 = .ok (.iload_n 3, 1) := dk_29 (dk_at dksX2_drawn_6 11 rfl rfl)
theorem dX2_drawn_152 : decode cX2_drawn 152 = .ok (.iconst (-1), 1) := dk_2 (dk_at dksX2_drawn_6 12 rfl rfl)
theorem dX2_drawn_153 : decode cX2_drawn 153 = .ok (.if_icmp .ne 13, 3) := dk_160 0 13 (dk_at dksX2_drawn_6 13 rfl rfl)
theorem dX2_drawn_156 : decode cX2_drawn 156 = .ok (.aload_n 0, 1) := dk_42 (dk_at dksX2_drawn_6 16 rfl rfl)
theorem dX2_drawn_157 : decode cX2_drawn 157 = .ok (.invokevirtual 227, 3) := dk_182 0 227 (dk_at dksX2_drawn_6 17 rfl rfl)
theorem dX2_drawn_160 : decode cX2_drawn 160 = .ok (.invokestatic 238, 3) := dk_184 0 238 (dk_at dksX2_drawn_6 20 rfl rfl)
theorem dX2_drawn_163 : decode cX2_drawn 163 = .ok (.goto 9, 3) := dk_167 0 9 (dk_at dksX2_drawn_7 0 rfl rfl)
theorem dX2_drawn_166 : decode cX2_drawn 166 = .ok (.aload_n 0, 1) := dk_42 (dk_at dksX2_drawn_7 3 rfl rfl)
theorem dX2_drawn_167 : decode cX2_drawn 167 = .ok (.iload_n 3, 1) := dk_29 (dk_at dksX2_drawn_7 4 rfl rfl)
theorem dX2_drawn_168 : decode cX2_drawn 168 = .ok (.iconst 3, 1) := dk_6 (dk_at dksX2_drawn_7 5 rfl rfl)
theorem dX2_drawn_169 : decode cX2_drawn 169 = .ok (.invokevirtual 191, 3) := dk_182 0 191 (dk_at dksX2_drawn_7 6 rfl rfl)
theorem dX2_drawn_172 : decode cX2_drawn 172 = .ok (.iadd, 1) := dk_96 (dk_at dksX2_drawn_7 9 rfl rfl)
theorem dX2_drawn_173 : decode cX2_drawn 173 = .ok (.istore 5, 2) := dk_54 5 (dk_at dksX2_drawn_7 10 rfl rfl)
theorem dX2_drawn_175 : decode cX2_drawn 175 = .ok (.aload_n 0, 1) := dk_42 (dk_at dksX2_drawn_7 12 rfl rfl)
theorem dX2_drawn_176 : decode cX2_drawn 176 = .ok (.iconst 0, 1) := dk_3 (dk_at dksX2_drawn_7 13 rfl rfl)
theorem dX2_drawn_177 : decode cX2_drawn 177 = .ok (.invokevirtual 224, 3) := dk_182 0 224 (dk_at dksX2_drawn_7 14 rfl rfl)
theorem dX2_drawn_180 : decode cX2_drawn 180 = .ok (.iinc 6 1, 3) := dk_132 6 1 (dk_at dksX2_drawn_7 17 rfl rfl)
theorem dX2_drawn_183 : decode cX2_drawn 183 = .ok (.goto (-128), 3) := dk_167 255 128 (dk_at dksX2_drawn_7 20 rfl rfl)
theorem dX2_drawn_186 : decode cX2_drawn 186 = .ok (.iload 5, 2) := dk_21 5 (dk_at dksX2_drawn_8 0 rfl rfl)
theorem dX2_drawn_188 : decode cX2_drawn 188 = .ok (.ireturn, 1) := dk_172 (dk_at dksX2_drawn_8 2 rfl rfl)
abbrev cX2_day : ByteArray := prog_31_method_66_code
def yX2_day : MethodName := ⟨RX2, "day", "()I"⟩
def dkwX2_day_2 : List UInt8 := [184, 0, 238, 96, 79, 42, 182, 0, 227, 184, 0, 238, 172]
abbrev dktX2_day_2 : List UInt8 := dkwX2_day_2 ++ []
def dkwX2_day_1 : List UInt8 := [92, 46, 42, 180, 0, 208, 96, 79, 42, 180, 0, 71, 7, 92, 46, 42, 182, 0, 227, 27, 2, 130, 126]
abbrev dktX2_day_1 : List UInt8 := dkwX2_day_1 ++ dktX2_day_2
def dkwX2_day_0 : List UInt8 := [42, 182, 0, 227, 60, 42, 182, 0, 211, 42, 180, 0, 71, 3, 92, 46, 4, 96, 79, 42, 180, 0, 71, 4]
abbrev dktX2_day_0 : List UInt8 := dkwX2_day_0 ++ dktX2_day_1
theorem dksX2_day_0 : cX2_day.data.toList.drop 0 = dktX2_day_0 := by decide +kernel
theorem dksX2_day_1 : cX2_day.data.toList.drop 24 = dktX2_day_1 := dk_seg dksX2_day_0 24 rfl rfl
theorem dksX2_day_2 : cX2_day.data.toList.drop 47 = dktX2_day_2 := dk_seg dksX2_day_1 23 rfl rfl
theorem dX2_day_0 : decode cX2_day 0 = .ok (.aload_n 0, 1) := dk_42 (dk_at dksX2_day_0 0 rfl rfl)
theorem dX2_day_1 : decode cX2_day 1 = .ok (.invokevirtual 227, 3) := dk_182 0 227 (dk_at dksX2_day_0 1 rfl rfl)
theorem dX2_day_4 : decode cX2_day 4 = .ok (.istore_n 1, 1) := dk_60 (dk_at dksX2_day_0 4 rfl rfl)
theorem dX2_day_5 : decode cX2_day 5 = .ok (.aload_n 0, 1) := dk_42 (dk_at dksX2_day_0 5 rfl rfl)
theorem dX2_day_6 : decode cX2_day 6 = .ok (.invokevirtual 211, 3) := dk_182 0 211 (dk_at dksX2_day_0 6 rfl rfl)
theorem dX2_day_9 : decode cX2_day 9 = .ok (.aload_n 0, 1) := dk_42 (dk_at dksX2_day_0 9 rfl rfl)
theorem dX2_day_10 : decode cX2_day 10 = .ok (.getfield 71, 3) := dk_180 0 71 (dk_at dksX2_day_0 10 rfl rfl)
theorem dX2_day_13 : decode cX2_day 13 = .ok (.iconst 0, 1) := dk_3 (dk_at dksX2_day_0 13 rfl rfl)
theorem dX2_day_14 : decode cX2_day 14 = .ok (.dup2, 1) := dk_92 (dk_at dksX2_day_0 14 rfl rfl)
theorem dX2_day_15 : decode cX2_day 15 = .ok (.iaload, 1) := dk_46 (dk_at dksX2_day_0 15 rfl rfl)
theorem dX2_day_16 : decode cX2_day 16 = .ok (.iconst 1, 1) := dk_4 (dk_at dksX2_day_0 16 rfl rfl)
theorem dX2_day_17 : decode cX2_day 17 = .ok (.iadd, 1) := dk_96 (dk_at dksX2_day_0 17 rfl rfl)
theorem dX2_day_18 : decode cX2_day 18 = .ok (.iastore, 1) := dk_79 (dk_at dksX2_day_0 18 rfl rfl)
theorem dX2_day_19 : decode cX2_day 19 = .ok (.aload_n 0, 1) := dk_42 (dk_at dksX2_day_0 19 rfl rfl)
theorem dX2_day_20 : decode cX2_day 20 = .ok (.getfield 71, 3) := dk_180 0 71 (dk_at dksX2_day_0 20 rfl rfl)
theorem dX2_day_23 : decode cX2_day 23 = .ok (.iconst 1, 1) := dk_4 (dk_at dksX2_day_0 23 rfl rfl)
theorem dX2_day_24 : decode cX2_day 24 = .ok (.dup2, 1) := dk_92 (dk_at dksX2_day_1 0 rfl rfl)
theorem dX2_day_25 : decode cX2_day 25 = .ok (.iaload, 1) := dk_46 (dk_at dksX2_day_1 1 rfl rfl)
theorem dX2_day_26 : decode cX2_day 26 = .ok (.aload_n 0, 1) := dk_42 (dk_at dksX2_day_1 2 rfl rfl)
theorem dX2_day_27 : decode cX2_day 27 = .ok (.getfield 208, 3) := dk_180 0 208 (dk_at dksX2_day_1 3 rfl rfl)
theorem dX2_day_30 : decode cX2_day 30 = .ok (.iadd, 1) := dk_96 (dk_at dksX2_day_1 6 rfl rfl)
theorem dX2_day_31 : decode cX2_day 31 = .ok (.iastore, 1) := dk_79 (dk_at dksX2_day_1 7 rfl rfl)
theorem dX2_day_32 : decode cX2_day 32 = .ok (.aload_n 0, 1) := dk_42 (dk_at dksX2_day_1 8 rfl rfl)
theorem dX2_day_33 : decode cX2_day 33 = .ok (.getfield 71, 3) := dk_180 0 71 (dk_at dksX2_day_1 9 rfl rfl)
theorem dX2_day_36 : decode cX2_day 36 = .ok (.iconst 4, 1) := dk_7 (dk_at dksX2_day_1 12 rfl rfl)
theorem dX2_day_37 : decode cX2_day 37 = .ok (.dup2, 1) := dk_92 (dk_at dksX2_day_1 13 rfl rfl)
theorem dX2_day_38 : decode cX2_day 38 = .ok (.iaload, 1) := dk_46 (dk_at dksX2_day_1 14 rfl rfl)
theorem dX2_day_39 : decode cX2_day 39 = .ok (.aload_n 0, 1) := dk_42 (dk_at dksX2_day_1 15 rfl rfl)
theorem dX2_day_40 : decode cX2_day 40 = .ok (.invokevirtual 227, 3) := dk_182 0 227 (dk_at dksX2_day_1 16 rfl rfl)
theorem dX2_day_43 : decode cX2_day 43 = .ok (.iload_n 1, 1) := dk_27 (dk_at dksX2_day_1 19 rfl rfl)
theorem dX2_day_44 : decode cX2_day 44 = .ok (.iconst (-1), 1) := dk_2 (dk_at dksX2_day_1 20 rfl rfl)
theorem dX2_day_45 : decode cX2_day 45 = .ok (.ixor, 1) := dk_130 (dk_at dksX2_day_1 21 rfl rfl)
theorem dX2_day_46 : decode cX2_day 46 = .ok (.iand, 1) := dk_126 (dk_at dksX2_day_1 22 rfl rfl)
theorem dX2_day_47 : decode cX2_day 47 = .ok (.invokestatic 238, 3) := dk_184 0 238 (dk_at dksX2_day_2 0 rfl rfl)
theorem dX2_day_50 : decode cX2_day 50 = .ok (.iadd, 1) := dk_96 (dk_at dksX2_day_2 3 rfl rfl)
theorem dX2_day_51 : decode cX2_day 51 = .ok (.iastore, 1) := dk_79 (dk_at dksX2_day_2 4 rfl rfl)
theorem dX2_day_52 : decode cX2_day 52 = .ok (.aload_n 0, 1) := dk_42 (dk_at dksX2_day_2 5 rfl rfl)
theorem dX2_day_53 : decode cX2_day 53 = .ok (.invokevirtual 227, 3) := dk_182 0 227 (dk_at dksX2_day_2 6 rfl rfl)
theorem dX2_day_56 : decode cX2_day 56 = .ok (.invokestatic 238, 3) := dk_184 0 238 (dk_at dksX2_day_2 9 rfl rfl)
theorem dX2_day_59 : decode cX2_day 59 = .ok (.ireturn, 1) := dk_172 (dk_at dksX2_day_2 12 rfl rfl)
abbrev cX2_cares : ByteArray := prog_31_method_67_code
def yX2_cares : MethodName := ⟨RX2, "cares", "(II)I"⟩
def dkwX2_cares_2 : List UInt8 := [5, 92, 46, 4, 96, 79, 29, 172]
abbrev dktX2_cares_2 : List UInt8 := dkwX2_cares_2 ++ []
def dkwX2_cares_1 : List UInt8 := [160, 0, 6, 18, 123, 172, 42, 27, 7, 182, 0, 191, 62, 42, 27, 7, 28, 182, 0, 108, 42, 180, 0, 71]
abbrev dktX2_cares_1 : List UInt8 := dkwX2_cares_1 ++ dktX2_cares_2
def dkwX2_cares_0 : List UInt8 := [42, 27, 182, 0, 116, 153, 0, 22, 28, 2, 42, 180, 0, 101, 4, 100, 184, 0, 104, 153, 0, 8, 28, 27]
abbrev dktX2_cares_0 : List UInt8 := dkwX2_cares_0 ++ dktX2_cares_1
theorem dksX2_cares_0 : cX2_cares.data.toList.drop 0 = dktX2_cares_0 := by decide +kernel
theorem dksX2_cares_1 : cX2_cares.data.toList.drop 24 = dktX2_cares_1 := dk_seg dksX2_cares_0 24 rfl rfl
theorem dksX2_cares_2 : cX2_cares.data.toList.drop 48 = dktX2_cares_2 := dk_seg dksX2_cares_1 24 rfl rfl
theorem dX2_cares_0 : decode cX2_cares 0 = .ok (.aload_n 0, 1) := dk_42 (dk_at dksX2_cares_0 0 rfl rfl)
theorem dX2_cares_1 : decode cX2_cares 1 = .ok (.iload_n 1, 1) := dk_27 (dk_at dksX2_cares_0 1 rfl rfl)
theorem dX2_cares_2 : decode cX2_cares 2 = .ok (.invokevirtual 116, 3) := dk_182 0 116 (dk_at dksX2_cares_0 2 rfl rfl)
theorem dX2_cares_5 : decode cX2_cares 5 = .ok (.ifCond .eq 22, 3) := dk_153 0 22 (dk_at dksX2_cares_0 5 rfl rfl)
theorem dX2_cares_8 : decode cX2_cares 8 = .ok (.iload_n 2, 1) := dk_28 (dk_at dksX2_cares_0 8 rfl rfl)
theorem dX2_cares_9 : decode cX2_cares 9 = .ok (.iconst (-1), 1) := dk_2 (dk_at dksX2_cares_0 9 rfl rfl)
theorem dX2_cares_10 : decode cX2_cares 10 = .ok (.aload_n 0, 1) := dk_42 (dk_at dksX2_cares_0 10 rfl rfl)
theorem dX2_cares_11 : decode cX2_cares 11 = .ok (.getfield 101, 3) := dk_180 0 101 (dk_at dksX2_cares_0 11 rfl rfl)
theorem dX2_cares_14 : decode cX2_cares 14 = .ok (.iconst 1, 1) := dk_4 (dk_at dksX2_cares_0 14 rfl rfl)
theorem dX2_cares_15 : decode cX2_cares 15 = .ok (.isub, 1) := dk_100 (dk_at dksX2_cares_0 15 rfl rfl)
theorem dX2_cares_16 : decode cX2_cares 16 = .ok (.invokestatic 104, 3) := dk_184 0 104 (dk_at dksX2_cares_0 16 rfl rfl)
theorem dX2_cares_19 : decode cX2_cares 19 = .ok (.ifCond .eq 8, 3) := dk_153 0 8 (dk_at dksX2_cares_0 19 rfl rfl)
theorem dX2_cares_22 : decode cX2_cares 22 = .ok (.iload_n 2, 1) := dk_28 (dk_at dksX2_cares_0 22 rfl rfl)
theorem dX2_cares_23 : decode cX2_cares 23 = .ok (.iload_n 1, 1) := dk_27 (dk_at dksX2_cares_0 23 rfl rfl)
theorem dX2_cares_24 : decode cX2_cares 24 = .ok (.if_icmp .ne 6, 3) := dk_160 0 6 (dk_at dksX2_cares_1 0 rfl rfl)
theorem dX2_cares_27 : decode cX2_cares 27 = .ok (.ldc 123, 2) := dk_18 123 (dk_at dksX2_cares_1 3 rfl rfl)
theorem dX2_cares_29 : decode cX2_cares 29 = .ok (.ireturn, 1) := dk_172 (dk_at dksX2_cares_1 5 rfl rfl)
theorem dX2_cares_30 : decode cX2_cares 30 = .ok (.aload_n 0, 1) := dk_42 (dk_at dksX2_cares_1 6 rfl rfl)
theorem dX2_cares_31 : decode cX2_cares 31 = .ok (.iload_n 1, 1) := dk_27 (dk_at dksX2_cares_1 7 rfl rfl)
theorem dX2_cares_32 : decode cX2_cares 32 = .ok (.iconst 4, 1) := dk_7 (dk_at dksX2_cares_1 8 rfl rfl)
theorem dX2_cares_33 : decode cX2_cares 33 = .ok (.invokevirtual 191, 3) := dk_182 0 191 (dk_at dksX2_cares_1 9 rfl rfl)
theorem dX2_cares_36 : decode cX2_cares 36 = .ok (.istore_n 3, 1) := dk_62 (dk_at dksX2_cares_1 12 rfl rfl)
theorem dX2_cares_37 : decode cX2_cares 37 = .ok (.aload_n 0, 1) := dk_42 (dk_at dksX2_cares_1 13 rfl rfl)
theorem dX2_cares_38 : decode cX2_cares 38 = .ok (.iload_n 1, 1) := dk_27 (dk_at dksX2_cares_1 14 rfl rfl)
theorem dX2_cares_39 : decode cX2_cares 39 = .ok (.iconst 4, 1) := dk_7 (dk_at dksX2_cares_1 15 rfl rfl)
theorem dX2_cares_40 : decode cX2_cares 40 = .ok (.iload_n 2, 1) := dk_28 (dk_at dksX2_cares_1 16 rfl rfl)
theorem dX2_cares_41 : decode cX2_cares 41 = .ok (.invokevirtual 108, 3) := dk_182 0 108 (dk_at dksX2_cares_1 17 rfl rfl)
theorem dX2_cares_44 : decode cX2_cares 44 = .ok (.aload_n 0, 1) := dk_42 (dk_at dksX2_cares_1 20 rfl rfl)
theorem dX2_cares_45 : decode cX2_cares 45 = .ok (.getfield 71, 3) := dk_180 0 71 (dk_at dksX2_cares_1 21 rfl rfl)
theorem dX2_cares_48 : decode cX2_cares 48 = .ok (.iconst 2, 1) := dk_5 (dk_at dksX2_cares_2 0 rfl rfl)
theorem dX2_cares_49 : decode cX2_cares 49 = .ok (.dup2, 1) := dk_92 (dk_at dksX2_cares_2 1 rfl rfl)
theorem dX2_cares_50 : decode cX2_cares 50 = .ok (.iaload, 1) := dk_46 (dk_at dksX2_cares_2 2 rfl rfl)
theorem dX2_cares_51 : decode cX2_cares 51 = .ok (.iconst 1, 1) := dk_4 (dk_at dksX2_cares_2 3 rfl rfl)
theorem dX2_cares_52 : decode cX2_cares 52 = .ok (.iadd, 1) := dk_96 (dk_at dksX2_cares_2 4 rfl rfl)
theorem dX2_cares_53 : decode cX2_cares 53 = .ok (.iastore, 1) := dk_79 (dk_at dksX2_cares_2 5 rfl rfl)
theorem dX2_cares_54 : decode cX2_cares 54 = .ok (.iload_n 3, 1) := dk_29 (dk_at dksX2_cares_2 6 rfl rfl)
theorem dX2_cares_55 : decode cX2_cares 55 = .ok (.ireturn, 1) := dk_172 (dk_at dksX2_cares_2 7 rfl rfl)
abbrev cX2_gives_2 : ByteArray := prog_31_method_68_code
def yX2_gives_2 : MethodName := ⟨RX2, "gives", "(III)I"⟩
def dkwX2_gives_2_4 : List UInt8 := [172]
abbrev dktX2_gives_2_4 : List UInt8 := dkwX2_gives_2_4 ++ []
def dkwX2_gives_2_3 : List UInt8 := [29, 96, 184, 0, 92, 182, 0, 108, 42, 180, 0, 71, 6, 92, 46, 29, 96, 79, 42, 27, 6, 182, 0, 191]
abbrev dktX2_gives_2_3 : List UInt8 := dkwX2_gives_2_3 ++ dktX2_gives_2_4
def dkwX2_gives_2_2 : List UInt8 := [27, 6, 42, 27, 6, 182, 0, 191, 29, 100, 182, 0, 108, 42, 28, 6, 16, 99, 42, 28, 6, 182, 0, 191]
abbrev dktX2_gives_2_2 : List UInt8 := dkwX2_gives_2_2 ++ dktX2_gives_2_3
def dkwX2_gives_2_1 : List UInt8 := [16, 99, 184, 0, 104, 154, 0, 5, 2, 172, 42, 27, 6, 182, 0, 191, 29, 162, 0, 6, 16, 251, 172, 42]
abbrev dktX2_gives_2_1 : List UInt8 := dkwX2_gives_2_1 ++ dktX2_gives_2_2
def dkwX2_gives_2_0 : List UInt8 := [42, 27, 182, 0, 116, 153, 0, 26, 42, 28, 182, 0, 116, 153, 0, 18, 27, 28, 159, 0, 13, 29, 4]
abbrev dktX2_gives_2_0 : List UInt8 := dkwX2_gives_2_0 ++ dktX2_gives_2_1
theorem dksX2_gives_2_0 : cX2_gives_2.data.toList.drop 0 = dktX2_gives_2_0 := by decide +kernel
theorem dksX2_gives_2_1 : cX2_gives_2.data.toList.drop 23 = dktX2_gives_2_1 := dk_seg dksX2_gives_2_0 23 rfl rfl
theorem dksX2_gives_2_2 : cX2_gives_2.data.toList.drop 47 = dktX2_gives_2_2 := dk_seg dksX2_gives_2_1 24 rfl rfl
theorem dksX2_gives_2_3 : cX2_gives_2.data.toList.drop 71 = dktX2_gives_2_3 := dk_seg dksX2_gives_2_2 24 rfl rfl
theorem dksX2_gives_2_4 : cX2_gives_2.data.toList.drop 95 = dktX2_gives_2_4 := dk_seg dksX2_gives_2_3 24 rfl rfl
theorem dX2_gives_2_0 : decode cX2_gives_2 0 = .ok (.aload_n 0, 1) := dk_42 (dk_at dksX2_gives_2_0 0 rfl rfl)
theorem dX2_gives_2_1 : decode cX2_gives_2 1 = .ok (.iload_n 1, 1) := dk_27 (dk_at dksX2_gives_2_0 1 rfl rfl)
theorem dX2_gives_2_2 : decode cX2_gives_2 2 = .ok (.invokevirtual 116, 3) := dk_182 0 116 (dk_at dksX2_gives_2_0 2 rfl rfl)
theorem dX2_gives_2_5 : decode cX2_gives_2 5 = .ok (.ifCond .eq 26, 3) := dk_153 0 26 (dk_at dksX2_gives_2_0 5 rfl rfl)
theorem dX2_gives_2_8 : decode cX2_gives_2 8 = .ok (.aload_n 0, 1) := dk_42 (dk_at dksX2_gives_2_0 8 rfl rfl)
theorem dX2_gives_2_9 : decode cX2_gives_2 9 = .ok (.iload_n 2, 1) := dk_28 (dk_at dksX2_gives_2_0 9 rfl rfl)
theorem dX2_gives_2_10 : decode cX2_gives_2 10 = .ok (.invokevirtual 116, 3) := dk_182 0 116 (dk_at dksX2_gives_2_0 10 rfl rfl)
theorem dX2_gives_2_13 : decode cX2_gives_2 13 = .ok (.ifCond .eq 18, 3) := dk_153 0 18 (dk_at dksX2_gives_2_0 13 rfl rfl)
theorem dX2_gives_2_16 : decode cX2_gives_2 16 = .ok (.iload_n 1, 1) := dk_27 (dk_at dksX2_gives_2_0 16 rfl rfl)
theorem dX2_gives_2_17 : decode cX2_gives_2 17 = .ok (.iload_n 2, 1) := dk_28 (dk_at dksX2_gives_2_0 17 rfl rfl)
theorem dX2_gives_2_18 : decode cX2_gives_2 18 = .ok (.if_icmp .eq 13, 3) := dk_159 0 13 (dk_at dksX2_gives_2_0 18 rfl rfl)
theorem dX2_gives_2_21 : decode cX2_gives_2 21 = .ok (.iload_n 3, 1) := dk_29 (dk_at dksX2_gives_2_0 21 rfl rfl)
theorem dX2_gives_2_22 : decode cX2_gives_2 22 = .ok (.iconst 1, 1) := dk_4 (dk_at dksX2_gives_2_0 22 rfl rfl)
theorem dX2_gives_2_23 : decode cX2_gives_2 23 = .ok (.bipush 99, 2) := dk_16 99 (dk_at dksX2_gives_2_1 0 rfl rfl)
theorem dX2_gives_2_25 : decode cX2_gives_2 25 = .ok (.invokestatic 104, 3) := dk_184 0 104 (dk_at dksX2_gives_2_1 2 rfl rfl)
theorem dX2_gives_2_28 : decode cX2_gives_2 28 = .ok (.ifCond .ne 5, 3) := dk_154 0 5 (dk_at dksX2_gives_2_1 5 rfl rfl)
theorem dX2_gives_2_31 : decode cX2_gives_2 31 = .ok (.iconst (-1), 1) := dk_2 (dk_at dksX2_gives_2_1 8 rfl rfl)
theorem dX2_gives_2_32 : decode cX2_gives_2 32 = .ok (.ireturn, 1) := dk_172 (dk_at dksX2_gives_2_1 9 rfl rfl)
theorem dX2_gives_2_33 : decode cX2_gives_2 33 = .ok (.aload_n 0, 1) := dk_42 (dk_at dksX2_gives_2_1 10 rfl rfl)
theorem dX2_gives_2_34 : decode cX2_gives_2 34 = .ok (.iload_n 1, 1) := dk_27 (dk_at dksX2_gives_2_1 11 rfl rfl)
theorem dX2_gives_2_35 : decode cX2_gives_2 35 = .ok (.iconst 3, 1) := dk_6 (dk_at dksX2_gives_2_1 12 rfl rfl)
theorem dX2_gives_2_36 : decode cX2_gives_2 36 = .ok (.invokevirtual 191, 3) := dk_182 0 191 (dk_at dksX2_gives_2_1 13 rfl rfl)
theorem dX2_gives_2_39 : decode cX2_gives_2 39 = .ok (.iload_n 3, 1) := dk_29 (dk_at dksX2_gives_2_1 16 rfl rfl)
theorem dX2_gives_2_40 : decode cX2_gives_2 40 = .ok (.if_icmp .ge 6, 3) := dk_162 0 6 (dk_at dksX2_gives_2_1 17 rfl rfl)
theorem dX2_gives_2_43 : decode cX2_gives_2 43 = .ok (.bipush (-5), 2) := dk_16 251 (dk_at dksX2_gives_2_1 20 rfl rfl)
theorem dX2_gives_2_45 : decode cX2_gives_2 45 = .ok (.ireturn, 1) := dk_172 (dk_at dksX2_gives_2_1 22 rfl rfl)
theorem dX2_gives_2_46 : decode cX2_gives_2 46 = .ok (.aload_n 0, 1) := dk_42 (dk_at dksX2_gives_2_1 23 rfl rfl)
theorem dX2_gives_2_47 : decode cX2_gives_2 47 = .ok (.iload_n 1, 1) := dk_27 (dk_at dksX2_gives_2_2 0 rfl rfl)
theorem dX2_gives_2_48 : decode cX2_gives_2 48 = .ok (.iconst 3, 1) := dk_6 (dk_at dksX2_gives_2_2 1 rfl rfl)
theorem dX2_gives_2_49 : decode cX2_gives_2 49 = .ok (.aload_n 0, 1) := dk_42 (dk_at dksX2_gives_2_2 2 rfl rfl)
theorem dX2_gives_2_50 : decode cX2_gives_2 50 = .ok (.iload_n 1, 1) := dk_27 (dk_at dksX2_gives_2_2 3 rfl rfl)
theorem dX2_gives_2_51 : decode cX2_gives_2 51 = .ok (.iconst 3, 1) := dk_6 (dk_at dksX2_gives_2_2 4 rfl rfl)
theorem dX2_gives_2_52 : decode cX2_gives_2 52 = .ok (.invokevirtual 191, 3) := dk_182 0 191 (dk_at dksX2_gives_2_2 5 rfl rfl)
theorem dX2_gives_2_55 : decode cX2_gives_2 55 = .ok (.iload_n 3, 1) := dk_29 (dk_at dksX2_gives_2_2 8 rfl rfl)
theorem dX2_gives_2_56 : decode cX2_gives_2 56 = .ok (.isub, 1) := dk_100 (dk_at dksX2_gives_2_2 9 rfl rfl)
theorem dX2_gives_2_57 : decode cX2_gives_2 57 = .ok (.invokevirtual 108, 3) := dk_182 0 108 (dk_at dksX2_gives_2_2 10 rfl rfl)
theorem dX2_gives_2_60 : decode cX2_gives_2 60 = .ok (.aload_n 0, 1) := dk_42 (dk_at dksX2_gives_2_2 13 rfl rfl)
theorem dX2_gives_2_61 : decode cX2_gives_2 61 = .ok (.iload_n 2, 1) := dk_28 (dk_at dksX2_gives_2_2 14 rfl rfl)
theorem dX2_gives_2_62 : decode cX2_gives_2 62 = .ok (.iconst 3, 1) := dk_6 (dk_at dksX2_gives_2_2 15 rfl rfl)
theorem dX2_gives_2_63 : decode cX2_gives_2 63 = .ok (.bipush 99, 2) := dk_16 99 (dk_at dksX2_gives_2_2 16 rfl rfl)
theorem dX2_gives_2_65 : decode cX2_gives_2 65 = .ok (.aload_n 0, 1) := dk_42 (dk_at dksX2_gives_2_2 18 rfl rfl)
theorem dX2_gives_2_66 : decode cX2_gives_2 66 = .ok (.iload_n 2, 1) := dk_28 (dk_at dksX2_gives_2_2 19 rfl rfl)
theorem dX2_gives_2_67 : decode cX2_gives_2 67 = .ok (.iconst 3, 1) := dk_6 (dk_at dksX2_gives_2_2 20 rfl rfl)
theorem dX2_gives_2_68 : decode cX2_gives_2 68 = .ok (.invokevirtual 191, 3) := dk_182 0 191 (dk_at dksX2_gives_2_2 21 rfl rfl)
theorem dX2_gives_2_71 : decode cX2_gives_2 71 = .ok (.iload_n 3, 1) := dk_29 (dk_at dksX2_gives_2_3 0 rfl rfl)
theorem dX2_gives_2_72 : decode cX2_gives_2 72 = .ok (.iadd, 1) := dk_96 (dk_at dksX2_gives_2_3 1 rfl rfl)
theorem dX2_gives_2_73 : decode cX2_gives_2 73 = .ok (.invokestatic 92, 3) := dk_184 0 92 (dk_at dksX2_gives_2_3 2 rfl rfl)
theorem dX2_gives_2_76 : decode cX2_gives_2 76 = .ok (.invokevirtual 108, 3) := dk_182 0 108 (dk_at dksX2_gives_2_3 5 rfl rfl)
theorem dX2_gives_2_79 : decode cX2_gives_2 79 = .ok (.aload_n 0, 1) := dk_42 (dk_at dksX2_gives_2_3 8 rfl rfl)
theorem dX2_gives_2_80 : decode cX2_gives_2 80 = .ok (.getfield 71, 3) := dk_180 0 71 (dk_at dksX2_gives_2_3 9 rfl rfl)
theorem dX2_gives_2_83 : decode cX2_gives_2 83 = .ok (.iconst 3, 1) := dk_6 (dk_at dksX2_gives_2_3 12 rfl rfl)
theorem dX2_gives_2_84 : decode cX2_gives_2 84 = .ok (.dup2, 1) := dk_92 (dk_at dksX2_gives_2_3 13 rfl rfl)
theorem dX2_gives_2_85 : decode cX2_gives_2 85 = .ok (.iaload, 1) := dk_46 (dk_at dksX2_gives_2_3 14 rfl rfl)
theorem dX2_gives_2_86 : decode cX2_gives_2 86 = .ok (.iload_n 3, 1) := dk_29 (dk_at dksX2_gives_2_3 15 rfl rfl)
theorem dX2_gives_2_87 : decode cX2_gives_2 87 = .ok (.iadd, 1) := dk_96 (dk_at dksX2_gives_2_3 16 rfl rfl)
theorem dX2_gives_2_88 : decode cX2_gives_2 88 = .ok (.iastore, 1) := dk_79 (dk_at dksX2_gives_2_3 17 rfl rfl)
theorem dX2_gives_2_89 : decode cX2_gives_2 89 = .ok (.aload_n 0, 1) := dk_42 (dk_at dksX2_gives_2_3 18 rfl rfl)
theorem dX2_gives_2_90 : decode cX2_gives_2 90 = .ok (.iload_n 1, 1) := dk_27 (dk_at dksX2_gives_2_3 19 rfl rfl)
theorem dX2_gives_2_91 : decode cX2_gives_2 91 = .ok (.iconst 3, 1) := dk_6 (dk_at dksX2_gives_2_3 20 rfl rfl)
theorem dX2_gives_2_92 : decode cX2_gives_2 92 = .ok (.invokevirtual 191, 3) := dk_182 0 191 (dk_at dksX2_gives_2_3 21 rfl rfl)
theorem dX2_gives_2_95 : decode cX2_gives_2 95 = .ok (.ireturn, 1) := dk_172 (dk_at dksX2_gives_2_4 0 rfl rfl)
abbrev cX2_led : ByteArray := prog_31_method_69_code
def yX2_led : MethodName := ⟨RX2, "led", "(I)I"⟩
def dkwX2_led_0 : List UInt8 := [27, 3, 7, 184, 0, 104, 153, 0, 12, 42, 180, 0, 71, 27, 46, 167, 0, 4, 2, 172]
abbrev dktX2_led_0 : List UInt8 := dkwX2_led_0 ++ []
theorem dksX2_led_0 : cX2_led.data.toList.drop 0 = dktX2_led_0 := by decide +kernel
theorem dX2_led_0 : decode cX2_led 0 = .ok (.iload_n 1, 1) := dk_27 (dk_at dksX2_led_0 0 rfl rfl)
theorem dX2_led_1 : decode cX2_led 1 = .ok (.iconst 0, 1) := dk_3 (dk_at dksX2_led_0 1 rfl rfl)
theorem dX2_led_2 : decode cX2_led 2 = .ok (.iconst 4, 1) := dk_7 (dk_at dksX2_led_0 2 rfl rfl)
theorem dX2_led_3 : decode cX2_led 3 = .ok (.invokestatic 104, 3) := dk_184 0 104 (dk_at dksX2_led_0 3 rfl rfl)
theorem dX2_led_6 : decode cX2_led 6 = .ok (.ifCond .eq 12, 3) := dk_153 0 12 (dk_at dksX2_led_0 6 rfl rfl)
theorem dX2_led_9 : decode cX2_led 9 = .ok (.aload_n 0, 1) := dk_42 (dk_at dksX2_led_0 9 rfl rfl)
theorem dX2_led_10 : decode cX2_led 10 = .ok (.getfield 71, 3) := dk_180 0 71 (dk_at dksX2_led_0 10 rfl rfl)
theorem dX2_led_13 : decode cX2_led 13 = .ok (.iload_n 1, 1) := dk_27 (dk_at dksX2_led_0 13 rfl rfl)
theorem dX2_led_14 : decode cX2_led 14 = .ok (.iaload, 1) := dk_46 (dk_at dksX2_led_0 14 rfl rfl)
theorem dX2_led_15 : decode cX2_led 15 = .ok (.goto 4, 3) := dk_167 0 4 (dk_at dksX2_led_0 15 rfl rfl)
theorem dX2_led_18 : decode cX2_led 18 = .ok (.iconst (-1), 1) := dk_2 (dk_at dksX2_led_0 18 rfl rfl)
theorem dX2_led_19 : decode cX2_led 19 = .ok (.ireturn, 1) := dk_172 (dk_at dksX2_led_0 19 rfl rfl)
abbrev cX2_image : ByteArray := prog_31_method_70_code
def yX2_image : MethodName := ⟨RX2, "image", "()I"⟩
def dkwX2_image_3 : List UInt8 := [46, 172]
abbrev dktX2_image_3 : List UInt8 := dkwX2_image_3 ++ []
def dkwX2_image_2 : List UInt8 := [132, 1, 1, 167, 255, 236, 42, 42, 180, 0, 101, 181, 1, 42, 42, 4, 181, 1, 45, 42, 180, 0, 71, 3]
abbrev dktX2_image_2 : List UInt8 := dkwX2_image_2 ++ dktX2_image_3
def dkwX2_image_1 : List UInt8 := [167, 255, 235, 3, 60, 27, 8, 162, 0, 21, 42, 180, 0, 77, 27, 42, 180, 0, 71, 27, 46, 79]
abbrev dktX2_image_1 : List UInt8 := dkwX2_image_1 ++ dktX2_image_2
def dkwX2_image_0 : List UInt8 := [3, 60, 27, 16, 42, 162, 0, 21, 42, 180, 0, 74, 27, 42, 180, 0, 13, 27, 46, 79, 132, 1, 1]
abbrev dktX2_image_0 : List UInt8 := dkwX2_image_0 ++ dktX2_image_1
theorem dksX2_image_0 : cX2_image.data.toList.drop 0 = dktX2_image_0 := by decide +kernel
theorem dksX2_image_1 : cX2_image.data.toList.drop 23 = dktX2_image_1 := dk_seg dksX2_image_0 23 rfl rfl
theorem dksX2_image_2 : cX2_image.data.toList.drop 45 = dktX2_image_2 := dk_seg dksX2_image_1 22 rfl rfl
theorem dksX2_image_3 : cX2_image.data.toList.drop 69 = dktX2_image_3 := dk_seg dksX2_image_2 24 rfl rfl
theorem dX2_image_0 : decode cX2_image 0 = .ok (.iconst 0, 1) := dk_3 (dk_at dksX2_image_0 0 rfl rfl)
theorem dX2_image_1 : decode cX2_image 1 = .ok (.istore_n 1, 1) := dk_60 (dk_at dksX2_image_0 1 rfl rfl)
theorem dX2_image_2 : decode cX2_image 2 = .ok (.iload_n 1, 1) := dk_27 (dk_at dksX2_image_0 2 rfl rfl)
theorem dX2_image_3 : decode cX2_image 3 = .ok (.bipush 42, 2) := dk_16 42 (dk_at dksX2_image_0 3 rfl rfl)
theorem dX2_image_5 : decode cX2_image 5 = .ok (.if_icmp .ge 21, 3) := dk_162 0 21 (dk_at dksX2_image_0 5 rfl rfl)
theorem dX2_image_8 : decode cX2_image 8 = .ok (.aload_n 0, 1) := dk_42 (dk_at dksX2_image_0 8 rfl rfl)
theorem dX2_image_9 : decode cX2_image 9 = .ok (.getfield 74, 3) := dk_180 0 74 (dk_at dksX2_image_0 9 rfl rfl)
theorem dX2_image_12 : decode cX2_image 12 = .ok (.iload_n 1, 1) := dk_27 (dk_at dksX2_image_0 12 rfl rfl)
theorem dX2_image_13 : decode cX2_image 13 = .ok (.aload_n 0, 1) := dk_42 (dk_at dksX2_image_0 13 rfl rfl)
theorem dX2_image_14 : decode cX2_image 14 = .ok (.getfield 13, 3) := dk_180 0 13 (dk_at dksX2_image_0 14 rfl rfl)
theorem dX2_image_17 : decode cX2_image 17 = .ok (.iload_n 1, 1) := dk_27 (dk_at dksX2_image_0 17 rfl rfl)
theorem dX2_image_18 : decode cX2_image 18 = .ok (.iaload, 1) := dk_46 (dk_at dksX2_image_0 18 rfl rfl)
theorem dX2_image_19 : decode cX2_image 19 = .ok (.iastore, 1) := dk_79 (dk_at dksX2_image_0 19 rfl rfl)
theorem dX2_image_20 : decode cX2_image 20 = .ok (.iinc 1 1, 3) := dk_132 1 1 (dk_at dksX2_image_0 20 rfl rfl)
theorem dX2_image_23 : decode cX2_image 23 = .ok (.goto (-21), 3) := dk_167 255 235 (dk_at dksX2_image_1 0 rfl rfl)
theorem dX2_image_26 : decode cX2_image 26 = .ok (.iconst 0, 1) := dk_3 (dk_at dksX2_image_1 3 rfl rfl)
theorem dX2_image_27 : decode cX2_image 27 = .ok (.istore_n 1, 1) := dk_60 (dk_at dksX2_image_1 4 rfl rfl)
theorem dX2_image_28 : decode cX2_image 28 = .ok (.iload_n 1, 1) := dk_27 (dk_at dksX2_image_1 5 rfl rfl)
theorem dX2_image_29 : decode cX2_image 29 = .ok (.iconst 5, 1) := dk_8 (dk_at dksX2_image_1 6 rfl rfl)
theorem dX2_image_30 : decode cX2_image 30 = .ok (.if_icmp .ge 21, 3) := dk_162 0 21 (dk_at dksX2_image_1 7 rfl rfl)
theorem dX2_image_33 : decode cX2_image 33 = .ok (.aload_n 0, 1) := dk_42 (dk_at dksX2_image_1 10 rfl rfl)
theorem dX2_image_34 : decode cX2_image 34 = .ok (.getfield 77, 3) := dk_180 0 77 (dk_at dksX2_image_1 11 rfl rfl)
theorem dX2_image_37 : decode cX2_image 37 = .ok (.iload_n 1, 1) := dk_27 (dk_at dksX2_image_1 14 rfl rfl)
theorem dX2_image_38 : decode cX2_image 38 = .ok (.aload_n 0, 1) := dk_42 (dk_at dksX2_image_1 15 rfl rfl)
theorem dX2_image_39 : decode cX2_image 39 = .ok (.getfield 71, 3) := dk_180 0 71 (dk_at dksX2_image_1 16 rfl rfl)
theorem dX2_image_42 : decode cX2_image 42 = .ok (.iload_n 1, 1) := dk_27 (dk_at dksX2_image_1 19 rfl rfl)
theorem dX2_image_43 : decode cX2_image 43 = .ok (.iaload, 1) := dk_46 (dk_at dksX2_image_1 20 rfl rfl)
theorem dX2_image_44 : decode cX2_image 44 = .ok (.iastore, 1) := dk_79 (dk_at dksX2_image_1 21 rfl rfl)
theorem dX2_image_45 : decode cX2_image 45 = .ok (.iinc 1 1, 3) := dk_132 1 1 (dk_at dksX2_image_2 0 rfl rfl)
theorem dX2_image_48 : decode cX2_image 48 = .ok (.goto (-20), 3) := dk_167 255 236 (dk_at dksX2_image_2 3 rfl rfl)
theorem dX2_image_51 : decode cX2_image 51 = .ok (.aload_n 0, 1) := dk_42 (dk_at dksX2_image_2 6 rfl rfl)
theorem dX2_image_52 : decode cX2_image 52 = .ok (.aload_n 0, 1) := dk_42 (dk_at dksX2_image_2 7 rfl rfl)
theorem dX2_image_53 : decode cX2_image 53 = .ok (.getfield 101, 3) := dk_180 0 101 (dk_at dksX2_image_2 8 rfl rfl)
theorem dX2_image_56 : decode cX2_image 56 = .ok (.putfield 298, 3) := dk_181 1 42 (dk_at dksX2_image_2 11 rfl rfl)
theorem dX2_image_59 : decode cX2_image 59 = .ok (.aload_n 0, 1) := dk_42 (dk_at dksX2_image_2 14 rfl rfl)
theorem dX2_image_60 : decode cX2_image 60 = .ok (.iconst 1, 1) := dk_4 (dk_at dksX2_image_2 15 rfl rfl)
theorem dX2_image_61 : decode cX2_image 61 = .ok (.putfield 301, 3) := dk_181 1 45 (dk_at dksX2_image_2 16 rfl rfl)
theorem dX2_image_64 : decode cX2_image 64 = .ok (.aload_n 0, 1) := dk_42 (dk_at dksX2_image_2 19 rfl rfl)
theorem dX2_image_65 : decode cX2_image 65 = .ok (.getfield 71, 3) := dk_180 0 71 (dk_at dksX2_image_2 20 rfl rfl)
theorem dX2_image_68 : decode cX2_image 68 = .ok (.iconst 0, 1) := dk_3 (dk_at dksX2_image_2 23 rfl rfl)
theorem dX2_image_69 : decode cX2_image 69 = .ok (.iaload, 1) := dk_46 (dk_at dksX2_image_3 0 rfl rfl)
theorem dX2_image_70 : decode cX2_image 70 = .ok (.ireturn, 1) := dk_172 (dk_at dksX2_image_3 1 rfl rfl)
abbrev cX2_back : ByteArray := prog_31_method_71_code
def yX2_back : MethodName := ⟨RX2, "back", "()I"⟩
def dkwX2_back_4 : List UInt8 := [167, 255, 236, 42, 180, 0, 71, 3, 46, 172]
abbrev dktX2_back_4 : List UInt8 := dkwX2_back_4 ++ []
def dkwX2_back_3 : List UInt8 := [3, 60, 27, 8, 162, 0, 21, 42, 180, 0, 71, 27, 42, 180, 0, 77, 27, 46, 79, 132, 1, 1]
abbrev dktX2_back_3 : List UInt8 := dkwX2_back_3 ++ dktX2_back_4
def dkwX2_back_2 : List UInt8 := [46, 182, 0, 108, 132, 1, 1, 167, 255, 213, 42, 180, 0, 13, 16, 41, 42, 180, 0, 74, 16, 41, 46, 79]
abbrev dktX2_back_2 : List UInt8 := dkwX2_back_2 ++ dktX2_back_3
def dkwX2_back_1 : List UInt8 := [180, 0, 74, 8, 27, 104, 6, 96, 46, 182, 0, 108, 42, 27, 7, 42, 180, 0, 74, 8, 27, 104, 7, 96]
abbrev dktX2_back_1 : List UInt8 := dkwX2_back_1 ++ dktX2_back_2
def dkwX2_back_0 : List UInt8 := [42, 180, 1, 45, 154, 0, 6, 16, 251, 172, 3, 60, 27, 42, 180, 1, 42, 162, 0, 41, 42, 27, 6, 42]
abbrev dktX2_back_0 : List UInt8 := dkwX2_back_0 ++ dktX2_back_1
theorem dksX2_back_0 : cX2_back.data.toList.drop 0 = dktX2_back_0 := by decide +kernel
theorem dksX2_back_1 : cX2_back.data.toList.drop 24 = dktX2_back_1 := dk_seg dksX2_back_0 24 rfl rfl
theorem dksX2_back_2 : cX2_back.data.toList.drop 48 = dktX2_back_2 := dk_seg dksX2_back_1 24 rfl rfl
theorem dksX2_back_3 : cX2_back.data.toList.drop 72 = dktX2_back_3 := dk_seg dksX2_back_2 24 rfl rfl
theorem dksX2_back_4 : cX2_back.data.toList.drop 94 = dktX2_back_4 := dk_seg dksX2_back_3 22 rfl rfl
theorem dX2_back_0 : decode cX2_back 0 = .ok (.aload_n 0, 1) := dk_42 (dk_at dksX2_back_0 0 rfl rfl)
theorem dX2_back_1 : decode cX2_back 1 = .ok (.getfield 301, 3) := dk_180 1 45 (dk_at dksX2_back_0 1 rfl rfl)
theorem dX2_back_4 : decode cX2_back 4 = .ok (.ifCond .ne 6, 3) := dk_154 0 6 (dk_at dksX2_back_0 4 rfl rfl)
theorem dX2_back_7 : decode cX2_back 7 = .ok (.bipush (-5), 2) := dk_16 251 (dk_at dksX2_back_0 7 rfl rfl)
theorem dX2_back_9 : decode cX2_back 9 = .ok (.ireturn, 1) := dk_172 (dk_at dksX2_back_0 9 rfl rfl)
theorem dX2_back_10 : decode cX2_back 10 = .ok (.iconst 0, 1) := dk_3 (dk_at dksX2_back_0 10 rfl rfl)
theorem dX2_back_11 : decode cX2_back 11 = .ok (.istore_n 1, 1) := dk_60 (dk_at dksX2_back_0 11 rfl rfl)
theorem dX2_back_12 : decode cX2_back 12 = .ok (.iload_n 1, 1) := dk_27 (dk_at dksX2_back_0 12 rfl rfl)
theorem dX2_back_13 : decode cX2_back 13 = .ok (.aload_n 0, 1) := dk_42 (dk_at dksX2_back_0 13 rfl rfl)
theorem dX2_back_14 : decode cX2_back 14 = .ok (.getfield 298, 3) := dk_180 1 42 (dk_at dksX2_back_0 14 rfl rfl)
theorem dX2_back_17 : decode cX2_back 17 = .ok (.if_icmp .ge 41, 3) := dk_162 0 41 (dk_at dksX2_back_0 17 rfl rfl)
theorem dX2_back_20 : decode cX2_back 20 = .ok (.aload_n 0, 1) := dk_42 (dk_at dksX2_back_0 20 rfl rfl)
theorem dX2_back_21 : decode cX2_back 21 = .ok (.iload_n 1, 1) := dk_27 (dk_at dksX2_back_0 21 rfl rfl)
theorem dX2_back_22 : decode cX2_back 22 = .ok (.iconst 3, 1) := dk_6 (dk_at dksX2_back_0 22 rfl rfl)
theorem dX2_back_23 : decode cX2_back 23 = .ok (.aload_n 0, 1) := dk_42 (dk_at dksX2_back_0 23 rfl rfl)
theorem dX2_back_24 : decode cX2_back 24 = .ok (.getfield 74, 3) := dk_180 0 74 (dk_at dksX2_back_1 0 rfl rfl)
theorem dX2_back_27 : decode cX2_back 27 = .ok (.iconst 5, 1) := dk_8 (dk_at dksX2_back_1 3 rfl rfl)
theorem dX2_back_28 : decode cX2_back 28 = .ok (.iload_n 1, 1) := dk_27 (dk_at dksX2_back_1 4 rfl rfl)
theorem dX2_back_29 : decode cX2_back 29 = .ok (.imul, 1) := dk_104 (dk_at dksX2_back_1 5 rfl rfl)
theorem dX2_back_30 : decode cX2_back 30 = .ok (.iconst 3, 1) := dk_6 (dk_at dksX2_back_1 6 rfl rfl)
theorem dX2_back_31 : decode cX2_back 31 = .ok (.iadd, 1) := dk_96 (dk_at dksX2_back_1 7 rfl rfl)
theorem dX2_back_32 : decode cX2_back 32 = .ok (.iaload, 1) := dk_46 (dk_at dksX2_back_1 8 rfl rfl)
theorem dX2_back_33 : decode cX2_back 33 = .ok (.invokevirtual 108, 3) := dk_182 0 108 (dk_at dksX2_back_1 9 rfl rfl)
theorem dX2_back_36 : decode cX2_back 36 = .ok (.aload_n 0, 1) := dk_42 (dk_at dksX2_back_1 12 rfl rfl)
theorem dX2_back_37 : decode cX2_back 37 = .ok (.iload_n 1, 1) := dk_27 (dk_at dksX2_back_1 13 rfl rfl)
theorem dX2_back_38 : decode cX2_back 38 = .ok (.iconst 4, 1) := dk_7 (dk_at dksX2_back_1 14 rfl rfl)
theorem dX2_back_39 : decode cX2_back 39 = .ok (.aload_n 0, 1) := dk_42 (dk_at dksX2_back_1 15 rfl rfl)
theorem dX2_back_40 : decode cX2_back 40 = .ok (.getfield 74, 3) := dk_180 0 74 (dk_at dksX2_back_1 16 rfl rfl)
theorem dX2_back_43 : decode cX2_back 43 = .ok (.iconst 5, 1) := dk_8 (dk_at dksX2_back_1 19 rfl rfl)
theorem dX2_back_44 : decode cX2_back 44 = .ok (.iload_n 1, 1) := dk_27 (dk_at dksX2_back_1 20 rfl rfl)
theorem dX2_back_45 : decode cX2_back 45 = .ok (.imul, 1) := dk_104 (dk_at dksX2_back_1 21 rfl rfl)
theorem dX2_back_46 : decode cX2_back 46 = .ok (.iconst 4, 1) := dk_7 (dk_at dksX2_back_1 22 rfl rfl)
theorem dX2_back_47 : decode cX2_back 47 = .ok (.iadd, 1) := dk_96 (dk_at dksX2_back_1 23 rfl rfl)
theorem dX2_back_48 : decode cX2_back 48 = .ok (.iaload, 1) := dk_46 (dk_at dksX2_back_2 0 rfl rfl)
theorem dX2_back_49 : decode cX2_back 49 = .ok (.invokevirtual 108, 3) := dk_182 0 108 (dk_at dksX2_back_2 1 rfl rfl)
theorem dX2_back_52 : decode cX2_back 52 = .ok (.iinc 1 1, 3) := dk_132 1 1 (dk_at dksX2_back_2 4 rfl rfl)
theorem dX2_back_55 : decode cX2_back 55 = .ok (.goto (-43), 3) := dk_167 255 213 (dk_at dksX2_back_2 7 rfl rfl)
theorem dX2_back_58 : decode cX2_back 58 = .ok (.aload_n 0, 1) := dk_42 (dk_at dksX2_back_2 10 rfl rfl)
theorem dX2_back_59 : decode cX2_back 59 = .ok (.getfield 13, 3) := dk_180 0 13 (dk_at dksX2_back_2 11 rfl rfl)
theorem dX2_back_62 : decode cX2_back 62 = .ok (.bipush 41, 2) := dk_16 41 (dk_at dksX2_back_2 14 rfl rfl)
theorem dX2_back_64 : decode cX2_back 64 = .ok (.aload_n 0, 1) := dk_42 (dk_at dksX2_back_2 16 rfl rfl)
theorem dX2_back_65 : decode cX2_back 65 = .ok (.getfield 74, 3) := dk_180 0 74 (dk_at dksX2_back_2 17 rfl rfl)
theorem dX2_back_68 : decode cX2_back 68 = .ok (.bipush 41, 2) := dk_16 41 (dk_at dksX2_back_2 20 rfl rfl)
theorem dX2_back_70 : decode cX2_back 70 = .ok (.iaload, 1) := dk_46 (dk_at dksX2_back_2 22 rfl rfl)
theorem dX2_back_71 : decode cX2_back 71 = .ok (.iastore, 1) := dk_79 (dk_at dksX2_back_2 23 rfl rfl)
theorem dX2_back_72 : decode cX2_back 72 = .ok (.iconst 0, 1) := dk_3 (dk_at dksX2_back_3 0 rfl rfl)
theorem dX2_back_73 : decode cX2_back 73 = .ok (.istore_n 1, 1) := dk_60 (dk_at dksX2_back_3 1 rfl rfl)
theorem dX2_back_74 : decode cX2_back 74 = .ok (.iload_n 1, 1) := dk_27 (dk_at dksX2_back_3 2 rfl rfl)
theorem dX2_back_75 : decode cX2_back 75 = .ok (.iconst 5, 1) := dk_8 (dk_at dksX2_back_3 3 rfl rfl)
theorem dX2_back_76 : decode cX2_back 76 = .ok (.if_icmp .ge 21, 3) := dk_162 0 21 (dk_at dksX2_back_3 4 rfl rfl)
theorem dX2_back_79 : decode cX2_back 79 = .ok (.aload_n 0, 1) := dk_42 (dk_at dksX2_back_3 7 rfl rfl)
theorem dX2_back_80 : decode cX2_back 80 = .ok (.getfield 71, 3) := dk_180 0 71 (dk_at dksX2_back_3 8 rfl rfl)
theorem dX2_back_83 : decode cX2_back 83 = .ok (.iload_n 1, 1) := dk_27 (dk_at dksX2_back_3 11 rfl rfl)
theorem dX2_back_84 : decode cX2_back 84 = .ok (.aload_n 0, 1) := dk_42 (dk_at dksX2_back_3 12 rfl rfl)
theorem dX2_back_85 : decode cX2_back 85 = .ok (.getfield 77, 3) := dk_180 0 77 (dk_at dksX2_back_3 13 rfl rfl)
theorem dX2_back_88 : decode cX2_back 88 = .ok (.iload_n 1, 1) := dk_27 (dk_at dksX2_back_3 16 rfl rfl)
theorem dX2_back_89 : decode cX2_back 89 = .ok (.iaload, 1) := dk_46 (dk_at dksX2_back_3 17 rfl rfl)
theorem dX2_back_90 : decode cX2_back 90 = .ok (.iastore, 1) := dk_79 (dk_at dksX2_back_3 18 rfl rfl)
theorem dX2_back_91 : decode cX2_back 91 = .ok (.iinc 1 1, 3) := dk_132 1 1 (dk_at dksX2_back_3 19 rfl rfl)
theorem dX2_back_94 : decode cX2_back 94 = .ok (.goto (-20), 3) := dk_167 255 236 (dk_at dksX2_back_4 0 rfl rfl)
theorem dX2_back_97 : decode cX2_back 97 = .ok (.aload_n 0, 1) := dk_42 (dk_at dksX2_back_4 3 rfl rfl)
theorem dX2_back_98 : decode cX2_back 98 = .ok (.getfield 71, 3) := dk_180 0 71 (dk_at dksX2_back_4 4 rfl rfl)
theorem dX2_back_101 : decode cX2_back 101 = .ok (.iconst 0, 1) := dk_3 (dk_at dksX2_back_4 7 rfl rfl)
theorem dX2_back_102 : decode cX2_back 102 = .ok (.iaload, 1) := dk_46 (dk_at dksX2_back_4 8 rfl rfl)
theorem dX2_back_103 : decode cX2_back 103 = .ok (.ireturn, 1) := dk_172 (dk_at dksX2_back_4 9 rfl rfl)
abbrev cX2_body : ByteArray := prog_31_method_72_code
def yX2_body : MethodName := ⟨RX2, "body", "(I)I"⟩
def dkwX2_body_2 : List UInt8 := [4, 100, 172]
abbrev dktX2_body_2 : List UInt8 := dkwX2_body_2 ++ []
def dkwX2_body_1 : List UInt8 := [42, 180, 0, 86, 42, 180, 1, 48, 27, 79, 42, 89, 180, 1, 48, 4, 96, 181, 1, 48, 42, 180, 1, 48]
abbrev dktX2_body_1 : List UInt8 := dkwX2_body_1 ++ dktX2_body_2
def dkwX2_body_0 : List UInt8 := [27, 3, 16, 7, 184, 0, 104, 154, 0, 5, 2, 172, 42, 180, 1, 48, 16, 50, 160, 0, 6, 16, 253, 172]
abbrev dktX2_body_0 : List UInt8 := dkwX2_body_0 ++ dktX2_body_1
theorem dksX2_body_0 : cX2_body.data.toList.drop 0 = dktX2_body_0 := by decide +kernel
theorem dksX2_body_1 : cX2_body.data.toList.drop 24 = dktX2_body_1 := dk_seg dksX2_body_0 24 rfl rfl
theorem dksX2_body_2 : cX2_body.data.toList.drop 48 = dktX2_body_2 := dk_seg dksX2_body_1 24 rfl rfl
theorem dX2_body_0 : decode cX2_body 0 = .ok (.iload_n 1, 1) := dk_27 (dk_at dksX2_body_0 0 rfl rfl)
theorem dX2_body_1 : decode cX2_body 1 = .ok (.iconst 0, 1) := dk_3 (dk_at dksX2_body_0 1 rfl rfl)
theorem dX2_body_2 : decode cX2_body 2 = .ok (.bipush 7, 2) := dk_16 7 (dk_at dksX2_body_0 2 rfl rfl)
theorem dX2_body_4 : decode cX2_body 4 = .ok (.invokestatic 104, 3) := dk_184 0 104 (dk_at dksX2_body_0 4 rfl rfl)
theorem dX2_body_7 : decode cX2_body 7 = .ok (.ifCond .ne 5, 3) := dk_154 0 5 (dk_at dksX2_body_0 7 rfl rfl)
theorem dX2_body_10 : decode cX2_body 10 = .ok (.iconst (-1), 1) := dk_2 (dk_at dksX2_body_0 10 rfl rfl)
theorem dX2_body_11 : decode cX2_body 11 = .ok (.ireturn, 1) := dk_172 (dk_at dksX2_body_0 11 rfl rfl)
theorem dX2_body_12 : decode cX2_body 12 = .ok (.aload_n 0, 1) := dk_42 (dk_at dksX2_body_0 12 rfl rfl)
theorem dX2_body_13 : decode cX2_body 13 = .ok (.getfield 304, 3) := dk_180 1 48 (dk_at dksX2_body_0 13 rfl rfl)
theorem dX2_body_16 : decode cX2_body 16 = .ok (.bipush 50, 2) := dk_16 50 (dk_at dksX2_body_0 16 rfl rfl)
theorem dX2_body_18 : decode cX2_body 18 = .ok (.if_icmp .ne 6, 3) := dk_160 0 6 (dk_at dksX2_body_0 18 rfl rfl)
theorem dX2_body_21 : decode cX2_body 21 = .ok (.bipush (-3), 2) := dk_16 253 (dk_at dksX2_body_0 21 rfl rfl)
theorem dX2_body_23 : decode cX2_body 23 = .ok (.ireturn, 1) := dk_172 (dk_at dksX2_body_0 23 rfl rfl)
theorem dX2_body_24 : decode cX2_body 24 = .ok (.aload_n 0, 1) := dk_42 (dk_at dksX2_body_1 0 rfl rfl)
theorem dX2_body_25 : decode cX2_body 25 = .ok (.getfield 86, 3) := dk_180 0 86 (dk_at dksX2_body_1 1 rfl rfl)
theorem dX2_body_28 : decode cX2_body 28 = .ok (.aload_n 0, 1) := dk_42 (dk_at dksX2_body_1 4 rfl rfl)
theorem dX2_body_29 : decode cX2_body 29 = .ok (.getfield 304, 3) := dk_180 1 48 (dk_at dksX2_body_1 5 rfl rfl)
theorem dX2_body_32 : decode cX2_body 32 = .ok (.iload_n 1, 1) := dk_27 (dk_at dksX2_body_1 8 rfl rfl)
theorem dX2_body_33 : decode cX2_body 33 = .ok (.iastore, 1) := dk_79 (dk_at dksX2_body_1 9 rfl rfl)
theorem dX2_body_34 : decode cX2_body 34 = .ok (.aload_n 0, 1) := dk_42 (dk_at dksX2_body_1 10 rfl rfl)
theorem dX2_body_35 : decode cX2_body 35 = .ok (.dup, 1) := dk_89 (dk_at dksX2_body_1 11 rfl rfl)
theorem dX2_body_36 : decode cX2_body 36 = .ok (.getfield 304, 3) := dk_180 1 48 (dk_at dksX2_body_1 12 rfl rfl)
theorem dX2_body_39 : decode cX2_body 39 = .ok (.iconst 1, 1) := dk_4 (dk_at dksX2_body_1 15 rfl rfl)
theorem dX2_body_40 : decode cX2_body 40 = .ok (.iadd, 1) := dk_96 (dk_at dksX2_body_1 16 rfl rfl)
theorem dX2_body_41 : decode cX2_body 41 = .ok (.putfield 304, 3) := dk_181 1 48 (dk_at dksX2_body_1 17 rfl rfl)
theorem dX2_body_44 : decode cX2_body 44 = .ok (.aload_n 0, 1) := dk_42 (dk_at dksX2_body_1 20 rfl rfl)
theorem dX2_body_45 : decode cX2_body 45 = .ok (.getfield 304, 3) := dk_180 1 48 (dk_at dksX2_body_1 21 rfl rfl)
theorem dX2_body_48 : decode cX2_body 48 = .ok (.iconst 1, 1) := dk_4 (dk_at dksX2_body_2 0 rfl rfl)
theorem dX2_body_49 : decode cX2_body 49 = .ok (.isub, 1) := dk_100 (dk_at dksX2_body_2 1 rfl rfl)
theorem dX2_body_50 : decode cX2_body 50 = .ok (.ireturn, 1) := dk_172 (dk_at dksX2_body_2 2 rfl rfl)
abbrev cX2_act : ByteArray := prog_31_method_75_code
def yX2_act : MethodName := ⟨RX2, "act", "(III)I"⟩
def dkwX2_act_1 : List UInt8 := [184, 0, 104, 153, 0, 13, 42, 27, 28, 29, 182, 1, 58, 167, 0, 4, 3, 172]
abbrev dktX2_act_1 : List UInt8 := dkwX2_act_1 ++ []
def dkwX2_act_0 : List UInt8 := [42, 3, 181, 1, 55, 27, 3, 42, 180, 1, 48, 4, 100, 184, 0, 104, 153, 0, 22, 28, 3, 6]
abbrev dktX2_act_0 : List UInt8 := dkwX2_act_0 ++ dktX2_act_1
theorem dksX2_act_0 : cX2_act.data.toList.drop 0 = dktX2_act_0 := by decide +kernel
theorem dksX2_act_1 : cX2_act.data.toList.drop 22 = dktX2_act_1 := dk_seg dksX2_act_0 22 rfl rfl
theorem dX2_act_0 : decode cX2_act 0 = .ok (.aload_n 0, 1) := dk_42 (dk_at dksX2_act_0 0 rfl rfl)
theorem dX2_act_1 : decode cX2_act 1 = .ok (.iconst 0, 1) := dk_3 (dk_at dksX2_act_0 1 rfl rfl)
theorem dX2_act_2 : decode cX2_act 2 = .ok (.putfield 311, 3) := dk_181 1 55 (dk_at dksX2_act_0 2 rfl rfl)
theorem dX2_act_5 : decode cX2_act 5 = .ok (.iload_n 1, 1) := dk_27 (dk_at dksX2_act_0 5 rfl rfl)
theorem dX2_act_6 : decode cX2_act 6 = .ok (.iconst 0, 1) := dk_3 (dk_at dksX2_act_0 6 rfl rfl)
theorem dX2_act_7 : decode cX2_act 7 = .ok (.aload_n 0, 1) := dk_42 (dk_at dksX2_act_0 7 rfl rfl)
theorem dX2_act_8 : decode cX2_act 8 = .ok (.getfield 304, 3) := dk_180 1 48 (dk_at dksX2_act_0 8 rfl rfl)
theorem dX2_act_11 : decode cX2_act 11 = .ok (.iconst 1, 1) := dk_4 (dk_at dksX2_act_0 11 rfl rfl)
theorem dX2_act_12 : decode cX2_act 12 = .ok (.isub, 1) := dk_100 (dk_at dksX2_act_0 12 rfl rfl)
theorem dX2_act_13 : decode cX2_act 13 = .ok (.invokestatic 104, 3) := dk_184 0 104 (dk_at dksX2_act_0 13 rfl rfl)
theorem dX2_act_16 : decode cX2_act 16 = .ok (.ifCond .eq 22, 3) := dk_153 0 22 (dk_at dksX2_act_0 16 rfl rfl)
theorem dX2_act_19 : decode cX2_act 19 = .ok (.iload_n 2, 1) := dk_28 (dk_at dksX2_act_0 19 rfl rfl)
theorem dX2_act_20 : decode cX2_act 20 = .ok (.iconst 0, 1) := dk_3 (dk_at dksX2_act_0 20 rfl rfl)
theorem dX2_act_21 : decode cX2_act 21 = .ok (.iconst 3, 1) := dk_6 (dk_at dksX2_act_0 21 rfl rfl)
theorem dX2_act_22 : decode cX2_act 22 = .ok (.invokestatic 104, 3) := dk_184 0 104 (dk_at dksX2_act_1 0 rfl rfl)
theorem dX2_act_25 : decode cX2_act 25 = .ok (.ifCond .eq 13, 3) := dk_153 0 13 (dk_at dksX2_act_1 3 rfl rfl)
theorem dX2_act_28 : decode cX2_act 28 = .ok (.aload_n 0, 1) := dk_42 (dk_at dksX2_act_1 6 rfl rfl)
theorem dX2_act_29 : decode cX2_act 29 = .ok (.iload_n 1, 1) := dk_27 (dk_at dksX2_act_1 7 rfl rfl)
theorem dX2_act_30 : decode cX2_act 30 = .ok (.iload_n 2, 1) := dk_28 (dk_at dksX2_act_1 8 rfl rfl)
theorem dX2_act_31 : decode cX2_act 31 = .ok (.iload_n 3, 1) := dk_29 (dk_at dksX2_act_1 9 rfl rfl)
theorem dX2_act_32 : decode cX2_act 32 = .ok (.invokevirtual 314, 3) := dk_182 1 58 (dk_at dksX2_act_1 10 rfl rfl)
theorem dX2_act_35 : decode cX2_act 35 = .ok (.goto 4, 3) := dk_167 0 4 (dk_at dksX2_act_1 13 rfl rfl)
theorem dX2_act_38 : decode cX2_act 38 = .ok (.iconst 0, 1) := dk_3 (dk_at dksX2_act_1 16 rfl rfl)
theorem dX2_act_39 : decode cX2_act 39 = .ok (.ireturn, 1) := dk_172 (dk_at dksX2_act_1 17 rfl rfl)
abbrev cX2_does : ByteArray := prog_31_method_73_code
def yX2_does : MethodName := ⟨RX2, "does", "(III)I"⟩
def dkwX2_does_0 : List UInt8 := [42, 42, 180, 0, 86, 27, 46, 27, 28, 29, 182, 1, 51, 172]
abbrev dktX2_does_0 : List UInt8 := dkwX2_does_0 ++ []
theorem dksX2_does_0 : cX2_does.data.toList.drop 0 = dktX2_does_0 := by decide +kernel
theorem dX2_does_0 : decode cX2_does 0 = .ok (.aload_n 0, 1) := dk_42 (dk_at dksX2_does_0 0 rfl rfl)
theorem dX2_does_1 : decode cX2_does 1 = .ok (.aload_n 0, 1) := dk_42 (dk_at dksX2_does_0 1 rfl rfl)
theorem dX2_does_2 : decode cX2_does 2 = .ok (.getfield 86, 3) := dk_180 0 86 (dk_at dksX2_does_0 2 rfl rfl)
theorem dX2_does_5 : decode cX2_does 5 = .ok (.iload_n 1, 1) := dk_27 (dk_at dksX2_does_0 5 rfl rfl)
theorem dX2_does_6 : decode cX2_does 6 = .ok (.iaload, 1) := dk_46 (dk_at dksX2_does_0 6 rfl rfl)
theorem dX2_does_7 : decode cX2_does 7 = .ok (.iload_n 1, 1) := dk_27 (dk_at dksX2_does_0 7 rfl rfl)
theorem dX2_does_8 : decode cX2_does 8 = .ok (.iload_n 2, 1) := dk_28 (dk_at dksX2_does_0 8 rfl rfl)
theorem dX2_does_9 : decode cX2_does 9 = .ok (.iload_n 3, 1) := dk_29 (dk_at dksX2_does_0 9 rfl rfl)
theorem dX2_does_10 : decode cX2_does 10 = .ok (.invokevirtual 307, 3) := dk_182 1 51 (dk_at dksX2_does_0 10 rfl rfl)
theorem dX2_does_13 : decode cX2_does 13 = .ok (.ireturn, 1) := dk_172 (dk_at dksX2_does_0 13 rfl rfl)
abbrev cX2_byKind : ByteArray := prog_31_method_74_code
def yX2_byKind : MethodName := ⟨RX2, "byKind", "(IIII)I"⟩
def dkwX2_byKind_12 : List UInt8 := [172]
abbrev dktX2_byKind_12 : List UInt8 := dkwX2_byKind_12 ++ []
def dkwX2_byKind_11 : List UInt8 := [182, 1, 51, 42, 28, 5, 5, 182, 1, 58, 96, 172, 42, 21, 6, 28, 6, 21, 4, 182, 1, 51, 4, 100]
abbrev dktX2_byKind_11 : List UInt8 := dkwX2_byKind_11 ++ dktX2_byKind_12
def dkwX2_byKind_10 : List UInt8 := [8, 130, 172, 42, 21, 6, 28, 3, 21, 4, 182, 1, 51, 5, 104, 172, 42, 21, 6, 28, 4, 21, 4]
abbrev dktX2_byKind_10 : List UInt8 := dkwX2_byKind_10 ++ dktX2_byKind_11
def dkwX2_byKind_9 : List UInt8 := [21, 4, 182, 1, 51, 42, 28, 3, 5, 182, 1, 58, 100, 172, 42, 21, 6, 28, 6, 21, 4, 182, 1, 51]
abbrev dktX2_byKind_9 : List UInt8 := dkwX2_byKind_9 ++ dktX2_byKind_10
def dkwX2_byKind_8 : List UInt8 := [182, 1, 51, 6, 104, 172, 42, 21, 6, 28, 4, 21, 4, 4, 96, 182, 1, 51, 172, 42, 21, 6, 28, 5]
abbrev dktX2_byKind_8 : List UInt8 := dkwX2_byKind_8 ++ dktX2_byKind_9
def dkwX2_byKind_7 : List UInt8 := [6, 96, 172, 42, 21, 6, 28, 4, 21, 4, 182, 1, 51, 116, 172, 42, 21, 6, 28, 5, 21, 4]
abbrev dktX2_byKind_7 : List UInt8 := dkwX2_byKind_7 ++ dktX2_byKind_8
def dkwX2_byKind_6 : List UInt8 := [3, 21, 4, 182, 1, 58, 5, 104, 172, 21, 4, 28, 130, 172, 42, 21, 6, 28, 3, 21, 4, 182, 1, 51]
abbrev dktX2_byKind_6 : List UInt8 := dkwX2_byKind_6 ++ dktX2_byKind_7
def dkwX2_byKind_5 : List UInt8 := [21, 4, 28, 96, 172, 42, 28, 4, 21, 4, 182, 1, 58, 42, 28, 5, 4, 182, 1, 58, 100, 172, 42, 28]
abbrev dktX2_byKind_5 : List UInt8 := dkwX2_byKind_5 ++ dktX2_byKind_6
def dkwX2_byKind_4 : List UInt8 := [171, 0, 0, 1, 2, 0, 0, 0, 12, 0, 0, 0, 1, 0, 0, 0, 105, 0, 0, 0, 2, 0, 0, 0, 110, 0, 0, 0, 10, 0, 0, 0, 127, 0, 0, 0, 11, 0, 0, 0, 138, 0, 0, 0, 20, 0, 0, 0, 143, 0, 0, 0, 30, 0, 0, 0, 156, 0, 0, 0, 40, 0, 0, 0, 168, 0, 0, 0, 41, 0, 0, 0, 181, 0, 0, 0, 50, 0, 0, 0, 194, 0, 0, 0, 60, 0, 0, 0, 213, 0, 0, 0, 70, 0, 0, 0, 226, 0, 0, 0, 80, 0, 0, 0, 239]
abbrev dktX2_byKind_4 : List UInt8 := dkwX2_byKind_4 ++ dktX2_byKind_5
def dkwX2_byKind_3 : List UInt8 := [89, 180, 1, 55, 4, 96, 181, 1, 55, 21, 7]
abbrev dktX2_byKind_3 : List UInt8 := dkwX2_byKind_3 ++ dktX2_byKind_4
def dkwX2_byKind_2 : List UInt8 := [46, 54, 7, 42, 180, 1, 55, 16, 24, 162, 0, 14, 42, 180, 0, 89, 42, 180, 1, 55, 21, 7, 79, 42]
abbrev dktX2_byKind_2 : List UInt8 := dkwX2_byKind_2 ++ dktX2_byKind_3
def dkwX2_byKind_1 : List UInt8 := [54, 5, 167, 255, 233, 42, 180, 0, 80, 21, 5, 46, 54, 6, 42, 180, 0, 83, 7, 21, 5, 104, 29, 96]
abbrev dktX2_byKind_1 : List UInt8 := dkwX2_byKind_1 ++ dktX2_byKind_2
def dkwX2_byKind_0 : List UInt8 := [27, 54, 5, 42, 180, 0, 83, 7, 21, 5, 104, 29, 96, 46, 154, 0, 15, 42, 180, 0, 80, 21, 5, 46]
abbrev dktX2_byKind_0 : List UInt8 := dkwX2_byKind_0 ++ dktX2_byKind_1
theorem dksX2_byKind_0 : cX2_byKind.data.toList.drop 0 = dktX2_byKind_0 := by decide +kernel
theorem dksX2_byKind_1 : cX2_byKind.data.toList.drop 24 = dktX2_byKind_1 := dk_seg dksX2_byKind_0 24 rfl rfl
theorem dksX2_byKind_2 : cX2_byKind.data.toList.drop 48 = dktX2_byKind_2 := dk_seg dksX2_byKind_1 24 rfl rfl
theorem dksX2_byKind_3 : cX2_byKind.data.toList.drop 72 = dktX2_byKind_3 := dk_seg dksX2_byKind_2 24 rfl rfl
theorem dksX2_byKind_4 : cX2_byKind.data.toList.drop 83 = dktX2_byKind_4 := dk_seg dksX2_byKind_3 11 rfl rfl
theorem dksX2_byKind_5 : cX2_byKind.data.toList.drop 188 = dktX2_byKind_5 := dk_seg dksX2_byKind_4 105 rfl rfl
theorem dksX2_byKind_6 : cX2_byKind.data.toList.drop 212 = dktX2_byKind_6 := dk_seg dksX2_byKind_5 24 rfl rfl
theorem dksX2_byKind_7 : cX2_byKind.data.toList.drop 236 = dktX2_byKind_7 := dk_seg dksX2_byKind_6 24 rfl rfl
theorem dksX2_byKind_8 : cX2_byKind.data.toList.drop 258 = dktX2_byKind_8 := dk_seg dksX2_byKind_7 22 rfl rfl
theorem dksX2_byKind_9 : cX2_byKind.data.toList.drop 282 = dktX2_byKind_9 := dk_seg dksX2_byKind_8 24 rfl rfl
theorem dksX2_byKind_10 : cX2_byKind.data.toList.drop 306 = dktX2_byKind_10 := dk_seg dksX2_byKind_9 24 rfl rfl
theorem dksX2_byKind_11 : cX2_byKind.data.toList.drop 329 = dktX2_byKind_11 := dk_seg dksX2_byKind_10 23 rfl rfl
theorem dksX2_byKind_12 : cX2_byKind.data.toList.drop 353 = dktX2_byKind_12 := dk_seg dksX2_byKind_11 24 rfl rfl
theorem dX2_byKind_0 : decode cX2_byKind 0 = .ok (.iload_n 1, 1) := dk_27 (dk_at dksX2_byKind_0 0 rfl rfl)
theorem dX2_byKind_1 : decode cX2_byKind 1 = .ok (.istore 5, 2) := dk_54 5 (dk_at dksX2_byKind_0 1 rfl rfl)
theorem dX2_byKind_3 : decode cX2_byKind 3 = .ok (.aload_n 0, 1) := dk_42 (dk_at dksX2_byKind_0 3 rfl rfl)
theorem dX2_byKind_4 : decode cX2_byKind 4 = .ok (.getfield 83, 3) := dk_180 0 83 (dk_at dksX2_byKind_0 4 rfl rfl)
theorem dX2_byKind_7 : decode cX2_byKind 7 = .ok (.iconst 4, 1) := dk_7 (dk_at dksX2_byKind_0 7 rfl rfl)
theorem dX2_byKind_8 : decode cX2_byKind 8 = .ok (.iload 5, 2) := dk_21 5 (dk_at dksX2_byKind_0 8 rfl rfl)
theorem dX2_byKind_10 : decode cX2_byKind 10 = .ok (.imul, 1) := dk_104 (dk_at dksX2_byKind_0 10 rfl rfl)
theorem dX2_byKind_11 : decode cX2_byKind 11 = .ok (.iload_n 3, 1) := dk_29 (dk_at dksX2_byKind_0 11 rfl rfl)
theorem dX2_byKind_12 : decode cX2_byKind 12 = .ok (.iadd, 1) := dk_96 (dk_at dksX2_byKind_0 12 rfl rfl)
theorem dX2_byKind_13 : decode cX2_byKind 13 = .ok (.iaload, 1) := dk_46 (dk_at dksX2_byKind_0 13 rfl rfl)
theorem dX2_byKind_14 : decode cX2_byKind 14 = .ok (.ifCond .ne 15, 3) := dk_154 0 15 (dk_at dksX2_byKind_0 14 rfl rfl)
theorem dX2_byKind_17 : decode cX2_byKind 17 = .ok (.aload_n 0, 1) := dk_42 (dk_at dksX2_byKind_0 17 rfl rfl)
theorem dX2_byKind_18 : decode cX2_byKind 18 = .ok (.getfield 80, 3) := dk_180 0 80 (dk_at dksX2_byKind_0 18 rfl rfl)
theorem dX2_byKind_21 : decode cX2_byKind 21 = .ok (.iload 5, 2) := dk_21 5 (dk_at dksX2_byKind_0 21 rfl rfl)
theorem dX2_byKind_23 : decode cX2_byKind 23 = .ok (.iaload, 1) := dk_46 (dk_at dksX2_byKind_0 23 rfl rfl)
theorem dX2_byKind_24 : decode cX2_byKind 24 = .ok (.istore 5, 2) := dk_54 5 (dk_at dksX2_byKind_1 0 rfl rfl)
theorem dX2_byKind_26 : decode cX2_byKind 26 = .ok (.goto (-23), 3) := dk_167 255 233 (dk_at dksX2_byKind_1 2 rfl rfl)
theorem dX2_byKind_29 : decode cX2_byKind 29 = .ok (.aload_n 0, 1) := dk_42 (dk_at dksX2_byKind_1 5 rfl rfl)
theorem dX2_byKind_30 : decode cX2_byKind 30 = .ok (.getfield 80, 3) := dk_180 0 80 (dk_at dksX2_byKind_1 6 rfl rfl)
theorem dX2_byKind_33 : decode cX2_byKind 33 = .ok (.iload 5, 2) := dk_21 5 (dk_at dksX2_byKind_1 9 rfl rfl)
theorem dX2_byKind_35 : decode cX2_byKind 35 = .ok (.iaload, 1) := dk_46 (dk_at dksX2_byKind_1 11 rfl rfl)
theorem dX2_byKind_36 : decode cX2_byKind 36 = .ok (.istore 6, 2) := dk_54 6 (dk_at dksX2_byKind_1 12 rfl rfl)
theorem dX2_byKind_38 : decode cX2_byKind 38 = .ok (.aload_n 0, 1) := dk_42 (dk_at dksX2_byKind_1 14 rfl rfl)
theorem dX2_byKind_39 : decode cX2_byKind 39 = .ok (.getfield 83, 3) := dk_180 0 83 (dk_at dksX2_byKind_1 15 rfl rfl)
theorem dX2_byKind_42 : decode cX2_byKind 42 = .ok (.iconst 4, 1) := dk_7 (dk_at dksX2_byKind_1 18 rfl rfl)
theorem dX2_byKind_43 : decode cX2_byKind 43 = .ok (.iload 5, 2) := dk_21 5 (dk_at dksX2_byKind_1 19 rfl rfl)
theorem dX2_byKind_45 : decode cX2_byKind 45 = .ok (.imul, 1) := dk_104 (dk_at dksX2_byKind_1 21 rfl rfl)
theorem dX2_byKind_46 : decode cX2_byKind 46 = .ok (.iload_n 3, 1) := dk_29 (dk_at dksX2_byKind_1 22 rfl rfl)
theorem dX2_byKind_47 : decode cX2_byKind 47 = .ok (.iadd, 1) := dk_96 (dk_at dksX2_byKind_1 23 rfl rfl)
theorem dX2_byKind_48 : decode cX2_byKind 48 = .ok (.iaload, 1) := dk_46 (dk_at dksX2_byKind_2 0 rfl rfl)
theorem dX2_byKind_49 : decode cX2_byKind 49 = .ok (.istore 7, 2) := dk_54 7 (dk_at dksX2_byKind_2 1 rfl rfl)
theorem dX2_byKind_51 : decode cX2_byKind 51 = .ok (.aload_n 0, 1) := dk_42 (dk_at dksX2_byKind_2 3 rfl rfl)
theorem dX2_byKind_52 : decode cX2_byKind 52 = .ok (.getfield 311, 3) := dk_180 1 55 (dk_at dksX2_byKind_2 4 rfl rfl)
theorem dX2_byKind_55 : decode cX2_byKind 55 = .ok (.bipush 24, 2) := dk_16 24 (dk_at dksX2_byKind_2 7 rfl rfl)
theorem dX2_byKind_57 : decode cX2_byKind 57 = .ok (.if_icmp .ge 14, 3) := dk_162 0 14 (dk_at dksX2_byKind_2 9 rfl rfl)
theorem dX2_byKind_60 : decode cX2_byKind 60 = .ok (.aload_n 0, 1) := dk_42 (dk_at dksX2_byKind_2 12 rfl rfl)
theorem dX2_byKind_61 : decode cX2_byKind 61 = .ok (.getfield 89, 3) := dk_180 0 89 (dk_at dksX2_byKind_2 13 rfl rfl)
theorem dX2_byKind_64 : decode cX2_byKind 64 = .ok (.aload_n 0, 1) := dk_42 (dk_at dksX2_byKind_2 16 rfl rfl)
theorem dX2_byKind_65 : decode cX2_byKind 65 = .ok (.getfield 311, 3) := dk_180 1 55 (dk_at dksX2_byKind_2 17 rfl rfl)
theorem dX2_byKind_68 : decode cX2_byKind 68 = .ok (.iload 7, 2) := dk_21 7 (dk_at dksX2_byKind_2 20 rfl rfl)
theorem dX2_byKind_70 : decode cX2_byKind 70 = .ok (.iastore, 1) := dk_79 (dk_at dksX2_byKind_2 22 rfl rfl)
theorem dX2_byKind_71 : decode cX2_byKind 71 = .ok (.aload_n 0, 1) := dk_42 (dk_at dksX2_byKind_2 23 rfl rfl)
theorem dX2_byKind_72 : decode cX2_byKind 72 = .ok (.dup, 1) := dk_89 (dk_at dksX2_byKind_3 0 rfl rfl)
theorem dX2_byKind_73 : decode cX2_byKind 73 = .ok (.getfield 311, 3) := dk_180 1 55 (dk_at dksX2_byKind_3 1 rfl rfl)
theorem dX2_byKind_76 : decode cX2_byKind 76 = .ok (.iconst 1, 1) := dk_4 (dk_at dksX2_byKind_3 4 rfl rfl)
theorem dX2_byKind_77 : decode cX2_byKind 77 = .ok (.iadd, 1) := dk_96 (dk_at dksX2_byKind_3 5 rfl rfl)
theorem dX2_byKind_78 : decode cX2_byKind 78 = .ok (.putfield 311, 3) := dk_181 1 55 (dk_at dksX2_byKind_3 6 rfl rfl)
theorem dX2_byKind_81 : decode cX2_byKind 81 = .ok (.iload 7, 2) := dk_21 7 (dk_at dksX2_byKind_3 9 rfl rfl)
theorem dX2_byKind_83 : decode cX2_byKind 83 = .ok (.lookupswitch 258 #[(1, 105), (2, 110), (10, 127), (11, 138), (20, 143), (30, 156), (40, 168), (41, 181), (50, 194), (60, 213), (70, 226), (80, 239)], 105) := by decide +kernel
theorem dX2_byKind_188 : decode cX2_byKind 188 = .ok (.iload 4, 2) := dk_21 4 (dk_at dksX2_byKind_5 0 rfl rfl)
theorem dX2_byKind_190 : decode cX2_byKind 190 = .ok (.iload_n 2, 1) := dk_28 (dk_at dksX2_byKind_5 2 rfl rfl)
theorem dX2_byKind_191 : decode cX2_byKind 191 = .ok (.iadd, 1) := dk_96 (dk_at dksX2_byKind_5 3 rfl rfl)
theorem dX2_byKind_192 : decode cX2_byKind 192 = .ok (.ireturn, 1) := dk_172 (dk_at dksX2_byKind_5 4 rfl rfl)
theorem dX2_byKind_193 : decode cX2_byKind 193 = .ok (.aload_n 0, 1) := dk_42 (dk_at dksX2_byKind_5 5 rfl rfl)
theorem dX2_byKind_194 : decode cX2_byKind 194 = .ok (.iload_n 2, 1) := dk_28 (dk_at dksX2_byKind_5 6 rfl rfl)
theorem dX2_byKind_195 : decode cX2_byKind 195 = .ok (.iconst 1, 1) := dk_4 (dk_at dksX2_byKind_5 7 rfl rfl)
theorem dX2_byKind_196 : decode cX2_byKind 196 = .ok (.iload 4, 2) := dk_21 4 (dk_at dksX2_byKind_5 8 rfl rfl)
theorem dX2_byKind_198 : decode cX2_byKind 198 = .ok (.invokevirtual 314, 3) := dk_182 1 58 (dk_at dksX2_byKind_5 10 rfl rfl)
theorem dX2_byKind_201 : decode cX2_byKind 201 = .ok (.aload_n 0, 1) := dk_42 (dk_at dksX2_byKind_5 13 rfl rfl)
theorem dX2_byKind_202 : decode cX2_byKind 202 = .ok (.iload_n 2, 1) := dk_28 (dk_at dksX2_byKind_5 14 rfl rfl)
theorem dX2_byKind_203 : decode cX2_byKind 203 = .ok (.iconst 2, 1) := dk_5 (dk_at dksX2_byKind_5 15 rfl rfl)
theorem dX2_byKind_204 : decode cX2_byKind 204 = .ok (.iconst 1, 1) := dk_4 (dk_at dksX2_byKind_5 16 rfl rfl)
theorem dX2_byKind_205 : decode cX2_byKind 205 = .ok (.invokevirtual 314, 3) := dk_182 1 58 (dk_at dksX2_byKind_5 17 rfl rfl)
theorem dX2_byKind_208 : decode cX2_byKind 208 = .ok (.isub, 1) := dk_100 (dk_at dksX2_byKind_5 20 rfl rfl)
theorem dX2_byKind_209 : decode cX2_byKind 209 = .ok (.ireturn, 1) := dk_172 (dk_at dksX2_byKind_5 21 rfl rfl)
theorem dX2_byKind_210 : decode cX2_byKind 210 = .ok (.aload_n 0, 1) := dk_42 (dk_at dksX2_byKind_5 22 rfl rfl)
theorem dX2_byKind_211 : decode cX2_byKind 211 = .ok (.iload_n 2, 1) := dk_28 (dk_at dksX2_byKind_5 23 rfl rfl)
theorem dX2_byKind_212 : decode cX2_byKind 212 = .ok (.iconst 0, 1) := dk_3 (dk_at dksX2_byKind_6 0 rfl rfl)
theorem dX2_byKind_213 : decode cX2_byKind 213 = .ok (.iload 4, 2) := dk_21 4 (dk_at dksX2_byKind_6 1 rfl rfl)
theorem dX2_byKind_215 : decode cX2_byKind 215 = .ok (.invokevirtual 314, 3) := dk_182 1 58 (dk_at dksX2_byKind_6 3 rfl rfl)
theorem dX2_byKind_218 : decode cX2_byKind 218 = .ok (.iconst 2, 1) := dk_5 (dk_at dksX2_byKind_6 6 rfl rfl)
theorem dX2_byKind_219 : decode cX2_byKind 219 = .ok (.imul, 1) := dk_104 (dk_at dksX2_byKind_6 7 rfl rfl)
theorem dX2_byKind_220 : decode cX2_byKind 220 = .ok (.ireturn, 1) := dk_172 (dk_at dksX2_byKind_6 8 rfl rfl)
theorem dX2_byKind_221 : decode cX2_byKind 221 = .ok (.iload 4, 2) := dk_21 4 (dk_at dksX2_byKind_6 9 rfl rfl)
theorem dX2_byKind_223 : decode cX2_byKind 223 = .ok (.iload_n 2, 1) := dk_28 (dk_at dksX2_byKind_6 11 rfl rfl)
theorem dX2_byKind_224 : decode cX2_byKind 224 = .ok (.ixor, 1) := dk_130 (dk_at dksX2_byKind_6 12 rfl rfl)
theorem dX2_byKind_225 : decode cX2_byKind 225 = .ok (.ireturn, 1) := dk_172 (dk_at dksX2_byKind_6 13 rfl rfl)
theorem dX2_byKind_226 : decode cX2_byKind 226 = .ok (.aload_n 0, 1) := dk_42 (dk_at dksX2_byKind_6 14 rfl rfl)
theorem dX2_byKind_227 : decode cX2_byKind 227 = .ok (.iload 6, 2) := dk_21 6 (dk_at dksX2_byKind_6 15 rfl rfl)
theorem dX2_byKind_229 : decode cX2_byKind 229 = .ok (.iload_n 2, 1) := dk_28 (dk_at dksX2_byKind_6 17 rfl rfl)
theorem dX2_byKind_230 : decode cX2_byKind 230 = .ok (.iconst 0, 1) := dk_3 (dk_at dksX2_byKind_6 18 rfl rfl)
theorem dX2_byKind_231 : decode cX2_byKind 231 = .ok (.iload 4, 2) := dk_21 4 (dk_at dksX2_byKind_6 19 rfl rfl)
theorem dX2_byKind_233 : decode cX2_byKind 233 = .ok (.invokevirtual 307, 3) := dk_182 1 51 (dk_at dksX2_byKind_6 21 rfl rfl)
theorem dX2_byKind_236 : decode cX2_byKind 236 = .ok (.iconst 3, 1) := dk_6 (dk_at dksX2_byKind_7 0 rfl rfl)
theorem dX2_byKind_237 : decode cX2_byKind 237 = .ok (.iadd, 1) := dk_96 (dk_at dksX2_byKind_7 1 rfl rfl)
theorem dX2_byKind_238 : decode cX2_byKind 238 = .ok (.ireturn, 1) := dk_172 (dk_at dksX2_byKind_7 2 rfl rfl)
theorem dX2_byKind_239 : decode cX2_byKind 239 = .ok (.aload_n 0, 1) := dk_42 (dk_at dksX2_byKind_7 3 rfl rfl)
theorem dX2_byKind_240 : decode cX2_byKind 240 = .ok (.iload 6, 2) := dk_21 6 (dk_at dksX2_byKind_7 4 rfl rfl)
theorem dX2_byKind_242 : decode cX2_byKind 242 = .ok (.iload_n 2, 1) := dk_28 (dk_at dksX2_byKind_7 6 rfl rfl)
theorem dX2_byKind_243 : decode cX2_byKind 243 = .ok (.iconst 1, 1) := dk_4 (dk_at dksX2_byKind_7 7 rfl rfl)
theorem dX2_byKind_244 : decode cX2_byKind 244 = .ok (.iload 4, 2) := dk_21 4 (dk_at dksX2_byKind_7 8 rfl rfl)
theorem dX2_byKind_246 : decode cX2_byKind 246 = .ok (.invokevirtual 307, 3) := dk_182 1 51 (dk_at dksX2_byKind_7 10 rfl rfl)
theorem dX2_byKind_249 : decode cX2_byKind 249 = .ok (.ineg, 1) := dk_116 (dk_at dksX2_byKind_7 13 rfl rfl)
theorem dX2_byKind_250 : decode cX2_byKind 250 = .ok (.ireturn, 1) := dk_172 (dk_at dksX2_byKind_7 14 rfl rfl)
theorem dX2_byKind_251 : decode cX2_byKind 251 = .ok (.aload_n 0, 1) := dk_42 (dk_at dksX2_byKind_7 15 rfl rfl)
theorem dX2_byKind_252 : decode cX2_byKind 252 = .ok (.iload 6, 2) := dk_21 6 (dk_at dksX2_byKind_7 16 rfl rfl)
theorem dX2_byKind_254 : decode cX2_byKind 254 = .ok (.iload_n 2, 1) := dk_28 (dk_at dksX2_byKind_7 18 rfl rfl)
theorem dX2_byKind_255 : decode cX2_byKind 255 = .ok (.iconst 2, 1) := dk_5 (dk_at dksX2_byKind_7 19 rfl rfl)
theorem dX2_byKind_256 : decode cX2_byKind 256 = .ok (.iload 4, 2) := dk_21 4 (dk_at dksX2_byKind_7 20 rfl rfl)
theorem dX2_byKind_258 : decode cX2_byKind 258 = .ok (.invokevirtual 307, 3) := dk_182 1 51 (dk_at dksX2_byKind_8 0 rfl rfl)
theorem dX2_byKind_261 : decode cX2_byKind 261 = .ok (.iconst 3, 1) := dk_6 (dk_at dksX2_byKind_8 3 rfl rfl)
theorem dX2_byKind_262 : decode cX2_byKind 262 = .ok (.imul, 1) := dk_104 (dk_at dksX2_byKind_8 4 rfl rfl)
theorem dX2_byKind_263 : decode cX2_byKind 263 = .ok (.ireturn, 1) := dk_172 (dk_at dksX2_byKind_8 5 rfl rfl)
theorem dX2_byKind_264 : decode cX2_byKind 264 = .ok (.aload_n 0, 1) := dk_42 (dk_at dksX2_byKind_8 6 rfl rfl)
theorem dX2_byKind_265 : decode cX2_byKind 265 = .ok (.iload 6, 2) := dk_21 6 (dk_at dksX2_byKind_8 7 rfl rfl)
theorem dX2_byKind_267 : decode cX2_byKind 267 = .ok (.iload_n 2, 1) := dk_28 (dk_at dksX2_byKind_8 9 rfl rfl)
theorem dX2_byKind_268 : decode cX2_byKind 268 = .ok (.iconst 1, 1) := dk_4 (dk_at dksX2_byKind_8 10 rfl rfl)
theorem dX2_byKind_269 : decode cX2_byKind 269 = .ok (.iload 4, 2) := dk_21 4 (dk_at dksX2_byKind_8 11 rfl rfl)
theorem dX2_byKind_271 : decode cX2_byKind 271 = .ok (.iconst 1, 1) := dk_4 (dk_at dksX2_byKind_8 13 rfl rfl)
theorem dX2_byKind_272 : decode cX2_byKind 272 = .ok (.iadd, 1) := dk_96 (dk_at dksX2_byKind_8 14 rfl rfl)
theorem dX2_byKind_273 : decode cX2_byKind 273 = .ok (.invokevirtual 307, 3) := dk_182 1 51 (dk_at dksX2_byKind_8 15 rfl rfl)
theorem dX2_byKind_276 : decode cX2_byKind 276 = .ok (.ireturn, 1) := dk_172 (dk_at dksX2_byKind_8 18 rfl rfl)
theorem dX2_byKind_277 : decode cX2_byKind 277 = .ok (.aload_n 0, 1) := dk_42 (dk_at dksX2_byKind_8 19 rfl rfl)
theorem dX2_byKind_278 : decode cX2_byKind 278 = .ok (.iload 6, 2) := dk_21 6 (dk_at dksX2_byKind_8 20 rfl rfl)
theorem dX2_byKind_280 : decode cX2_byKind 280 = .ok (.iload_n 2, 1) := dk_28 (dk_at dksX2_byKind_8 22 rfl rfl)
theorem dX2_byKind_281 : decode cX2_byKind 281 = .ok (.iconst 2, 1) := dk_5 (dk_at dksX2_byKind_8 23 rfl rfl)
theorem dX2_byKind_282 : decode cX2_byKind 282 = .ok (.iload 4, 2) := dk_21 4 (dk_at dksX2_byKind_9 0 rfl rfl)
theorem dX2_byKind_284 : decode cX2_byKind 284 = .ok (.invokevirtual 307, 3) := dk_182 1 51 (dk_at dksX2_byKind_9 2 rfl rfl)
theorem dX2_byKind_287 : decode cX2_byKind 287 = .ok (.aload_n 0, 1) := dk_42 (dk_at dksX2_byKind_9 5 rfl rfl)
theorem dX2_byKind_288 : decode cX2_byKind 288 = .ok (.iload_n 2, 1) := dk_28 (dk_at dksX2_byKind_9 6 rfl rfl)
theorem dX2_byKind_289 : decode cX2_byKind 289 = .ok (.iconst 0, 1) := dk_3 (dk_at dksX2_byKind_9 7 rfl rfl)
theorem dX2_byKind_290 : decode cX2_byKind 290 = .ok (.iconst 2, 1) := dk_5 (dk_at dksX2_byKind_9 8 rfl rfl)
theorem dX2_byKind_291 : decode cX2_byKind 291 = .ok (.invokevirtual 314, 3) := dk_182 1 58 (dk_at dksX2_byKind_9 9 rfl rfl)
theorem dX2_byKind_294 : decode cX2_byKind 294 = .ok (.isub, 1) := dk_100 (dk_at dksX2_byKind_9 12 rfl rfl)
theorem dX2_byKind_295 : decode cX2_byKind 295 = .ok (.ireturn, 1) := dk_172 (dk_at dksX2_byKind_9 13 rfl rfl)
theorem dX2_byKind_296 : decode cX2_byKind 296 = .ok (.aload_n 0, 1) := dk_42 (dk_at dksX2_byKind_9 14 rfl rfl)
theorem dX2_byKind_297 : decode cX2_byKind 297 = .ok (.iload 6, 2) := dk_21 6 (dk_at dksX2_byKind_9 15 rfl rfl)
theorem dX2_byKind_299 : decode cX2_byKind 299 = .ok (.iload_n 2, 1) := dk_28 (dk_at dksX2_byKind_9 17 rfl rfl)
theorem dX2_byKind_300 : decode cX2_byKind 300 = .ok (.iconst 3, 1) := dk_6 (dk_at dksX2_byKind_9 18 rfl rfl)
theorem dX2_byKind_301 : decode cX2_byKind 301 = .ok (.iload 4, 2) := dk_21 4 (dk_at dksX2_byKind_9 19 rfl rfl)
theorem dX2_byKind_303 : decode cX2_byKind 303 = .ok (.invokevirtual 307, 3) := dk_182 1 51 (dk_at dksX2_byKind_9 21 rfl rfl)
theorem dX2_byKind_306 : decode cX2_byKind 306 = .ok (.iconst 5, 1) := dk_8 (dk_at dksX2_byKind_10 0 rfl rfl)
theorem dX2_byKind_307 : decode cX2_byKind 307 = .ok (.ixor, 1) := dk_130 (dk_at dksX2_byKind_10 1 rfl rfl)
theorem dX2_byKind_308 : decode cX2_byKind 308 = .ok (.ireturn, 1) := dk_172 (dk_at dksX2_byKind_10 2 rfl rfl)
theorem dX2_byKind_309 : decode cX2_byKind 309 = .ok (.aload_n 0, 1) := dk_42 (dk_at dksX2_byKind_10 3 rfl rfl)
theorem dX2_byKind_310 : decode cX2_byKind 310 = .ok (.iload 6, 2) := dk_21 6 (dk_at dksX2_byKind_10 4 rfl rfl)
theorem dX2_byKind_312 : decode cX2_byKind 312 = .ok (.iload_n 2, 1) := dk_28 (dk_at dksX2_byKind_10 6 rfl rfl)
theorem dX2_byKind_313 : decode cX2_byKind 313 = .ok (.iconst 0, 1) := dk_3 (dk_at dksX2_byKind_10 7 rfl rfl)
theorem dX2_byKind_314 : decode cX2_byKind 314 = .ok (.iload 4, 2) := dk_21 4 (dk_at dksX2_byKind_10 8 rfl rfl)
theorem dX2_byKind_316 : decode cX2_byKind 316 = .ok (.invokevirtual 307, 3) := dk_182 1 51 (dk_at dksX2_byKind_10 10 rfl rfl)
theorem dX2_byKind_319 : decode cX2_byKind 319 = .ok (.iconst 2, 1) := dk_5 (dk_at dksX2_byKind_10 13 rfl rfl)
theorem dX2_byKind_320 : decode cX2_byKind 320 = .ok (.imul, 1) := dk_104 (dk_at dksX2_byKind_10 14 rfl rfl)
theorem dX2_byKind_321 : decode cX2_byKind 321 = .ok (.ireturn, 1) := dk_172 (dk_at dksX2_byKind_10 15 rfl rfl)
theorem dX2_byKind_322 : decode cX2_byKind 322 = .ok (.aload_n 0, 1) := dk_42 (dk_at dksX2_byKind_10 16 rfl rfl)
theorem dX2_byKind_323 : decode cX2_byKind 323 = .ok (.iload 6, 2) := dk_21 6 (dk_at dksX2_byKind_10 17 rfl rfl)
theorem dX2_byKind_325 : decode cX2_byKind 325 = .ok (.iload_n 2, 1) := dk_28 (dk_at dksX2_byKind_10 19 rfl rfl)
theorem dX2_byKind_326 : decode cX2_byKind 326 = .ok (.iconst 1, 1) := dk_4 (dk_at dksX2_byKind_10 20 rfl rfl)
theorem dX2_byKind_327 : decode cX2_byKind 327 = .ok (.iload 4, 2) := dk_21 4 (dk_at dksX2_byKind_10 21 rfl rfl)
theorem dX2_byKind_329 : decode cX2_byKind 329 = .ok (.invokevirtual 307, 3) := dk_182 1 51 (dk_at dksX2_byKind_11 0 rfl rfl)
theorem dX2_byKind_332 : decode cX2_byKind 332 = .ok (.aload_n 0, 1) := dk_42 (dk_at dksX2_byKind_11 3 rfl rfl)
theorem dX2_byKind_333 : decode cX2_byKind 333 = .ok (.iload_n 2, 1) := dk_28 (dk_at dksX2_byKind_11 4 rfl rfl)
theorem dX2_byKind_334 : decode cX2_byKind 334 = .ok (.iconst 2, 1) := dk_5 (dk_at dksX2_byKind_11 5 rfl rfl)
theorem dX2_byKind_335 : decode cX2_byKind 335 = .ok (.iconst 2, 1) := dk_5 (dk_at dksX2_byKind_11 6 rfl rfl)
theorem dX2_byKind_336 : decode cX2_byKind 336 = .ok (.invokevirtual 314, 3) := dk_182 1 58 (dk_at dksX2_byKind_11 7 rfl rfl)
theorem dX2_byKind_339 : decode cX2_byKind 339 = .ok (.iadd, 1) := dk_96 (dk_at dksX2_byKind_11 10 rfl rfl)
theorem dX2_byKind_340 : decode cX2_byKind 340 = .ok (.ireturn, 1) := dk_172 (dk_at dksX2_byKind_11 11 rfl rfl)
theorem dX2_byKind_341 : decode cX2_byKind 341 = .ok (.aload_n 0, 1) := dk_42 (dk_at dksX2_byKind_11 12 rfl rfl)
theorem dX2_byKind_342 : decode cX2_byKind 342 = .ok (.iload 6, 2) := dk_21 6 (dk_at dksX2_byKind_11 13 rfl rfl)
theorem dX2_byKind_344 : decode cX2_byKind 344 = .ok (.iload_n 2, 1) := dk_28 (dk_at dksX2_byKind_11 15 rfl rfl)
theorem dX2_byKind_345 : decode cX2_byKind 345 = .ok (.iconst 3, 1) := dk_6 (dk_at dksX2_byKind_11 16 rfl rfl)
theorem dX2_byKind_346 : decode cX2_byKind 346 = .ok (.iload 4, 2) := dk_21 4 (dk_at dksX2_byKind_11 17 rfl rfl)
theorem dX2_byKind_348 : decode cX2_byKind 348 = .ok (.invokevirtual 307, 3) := dk_182 1 51 (dk_at dksX2_byKind_11 19 rfl rfl)
theorem dX2_byKind_351 : decode cX2_byKind 351 = .ok (.iconst 1, 1) := dk_4 (dk_at dksX2_byKind_11 22 rfl rfl)
theorem dX2_byKind_352 : decode cX2_byKind 352 = .ok (.isub, 1) := dk_100 (dk_at dksX2_byKind_11 23 rfl rfl)
theorem dX2_byKind_353 : decode cX2_byKind 353 = .ok (.ireturn, 1) := dk_172 (dk_at dksX2_byKind_12 0 rfl rfl)
abbrev cX2_trace : ByteArray := prog_31_method_76_code
def yX2_trace : MethodName := ⟨RX2, "trace", "(I)I"⟩
def dkwX2_trace_1 : List UInt8 := [46, 167, 0, 4, 2, 172]
abbrev dktX2_trace_1 : List UInt8 := dkwX2_trace_1 ++ []
def dkwX2_trace_0 : List UInt8 := [27, 3, 16, 24, 42, 180, 1, 55, 184, 0, 92, 4, 100, 184, 0, 104, 153, 0, 12, 42, 180, 0, 89, 27]
abbrev dktX2_trace_0 : List UInt8 := dkwX2_trace_0 ++ dktX2_trace_1
theorem dksX2_trace_0 : cX2_trace.data.toList.drop 0 = dktX2_trace_0 := by decide +kernel
theorem dksX2_trace_1 : cX2_trace.data.toList.drop 24 = dktX2_trace_1 := dk_seg dksX2_trace_0 24 rfl rfl
theorem dX2_trace_0 : decode cX2_trace 0 = .ok (.iload_n 1, 1) := dk_27 (dk_at dksX2_trace_0 0 rfl rfl)
theorem dX2_trace_1 : decode cX2_trace 1 = .ok (.iconst 0, 1) := dk_3 (dk_at dksX2_trace_0 1 rfl rfl)
theorem dX2_trace_2 : decode cX2_trace 2 = .ok (.bipush 24, 2) := dk_16 24 (dk_at dksX2_trace_0 2 rfl rfl)
theorem dX2_trace_4 : decode cX2_trace 4 = .ok (.aload_n 0, 1) := dk_42 (dk_at dksX2_trace_0 4 rfl rfl)
theorem dX2_trace_5 : decode cX2_trace 5 = .ok (.getfield 311, 3) := dk_180 1 55 (dk_at dksX2_trace_0 5 rfl rfl)
theorem dX2_trace_8 : decode cX2_trace 8 = .ok (.invokestatic 92, 3) := dk_184 0 92 (dk_at dksX2_trace_0 8 rfl rfl)
theorem dX2_trace_11 : decode cX2_trace 11 = .ok (.iconst 1, 1) := dk_4 (dk_at dksX2_trace_0 11 rfl rfl)
theorem dX2_trace_12 : decode cX2_trace 12 = .ok (.isub, 1) := dk_100 (dk_at dksX2_trace_0 12 rfl rfl)
theorem dX2_trace_13 : decode cX2_trace 13 = .ok (.invokestatic 104, 3) := dk_184 0 104 (dk_at dksX2_trace_0 13 rfl rfl)
theorem dX2_trace_16 : decode cX2_trace 16 = .ok (.ifCond .eq 12, 3) := dk_153 0 12 (dk_at dksX2_trace_0 16 rfl rfl)
theorem dX2_trace_19 : decode cX2_trace 19 = .ok (.aload_n 0, 1) := dk_42 (dk_at dksX2_trace_0 19 rfl rfl)
theorem dX2_trace_20 : decode cX2_trace 20 = .ok (.getfield 89, 3) := dk_180 0 89 (dk_at dksX2_trace_0 20 rfl rfl)
theorem dX2_trace_23 : decode cX2_trace 23 = .ok (.iload_n 1, 1) := dk_27 (dk_at dksX2_trace_0 23 rfl rfl)
theorem dX2_trace_24 : decode cX2_trace 24 = .ok (.iaload, 1) := dk_46 (dk_at dksX2_trace_1 0 rfl rfl)
theorem dX2_trace_25 : decode cX2_trace 25 = .ok (.goto 4, 3) := dk_167 0 4 (dk_at dksX2_trace_1 1 rfl rfl)
theorem dX2_trace_28 : decode cX2_trace 28 = .ok (.iconst (-1), 1) := dk_2 (dk_at dksX2_trace_1 4 rfl rfl)
theorem dX2_trace_29 : decode cX2_trace 29 = .ok (.ireturn, 1) := dk_172 (dk_at dksX2_trace_1 5 rfl rfl)
abbrev cX2_keep : ByteArray := prog_31_method_77_code
def yX2_keep : MethodName := ⟨RX2, "keep", "(II)I"⟩
def dkwX2_keep_1 : List UInt8 := [180, 0, 58, 27, 28, 2, 160, 0, 7, 2, 167, 0, 7, 16, 10, 28, 96, 79, 4, 172]
abbrev dktX2_keep_1 : List UInt8 := dkwX2_keep_1 ++ []
def dkwX2_keep_0 : List UInt8 := [27, 184, 1, 12, 153, 0, 17, 28, 2, 42, 180, 1, 48, 4, 100, 184, 0, 104, 154, 0, 5, 2, 172, 42]
abbrev dktX2_keep_0 : List UInt8 := dkwX2_keep_0 ++ dktX2_keep_1
theorem dksX2_keep_0 : cX2_keep.data.toList.drop 0 = dktX2_keep_0 := by decide +kernel
theorem dksX2_keep_1 : cX2_keep.data.toList.drop 24 = dktX2_keep_1 := dk_seg dksX2_keep_0 24 rfl rfl
theorem dX2_keep_0 : decode cX2_keep 0 = .ok (.iload_n 1, 1) := dk_27 (dk_at dksX2_keep_0 0 rfl rfl)
theorem dX2_keep_1 : decode cX2_keep 1 = .ok (.invokestatic 268, 3) := dk_184 1 12 (dk_at dksX2_keep_0 1 rfl rfl)
theorem dX2_keep_4 : decode cX2_keep 4 = .ok (.ifCond .eq 17, 3) := dk_153 0 17 (dk_at dksX2_keep_0 4 rfl rfl)
theorem dX2_keep_7 : decode cX2_keep 7 = .ok (.iload_n 2, 1) := dk_28 (dk_at dksX2_keep_0 7 rfl rfl)
theorem dX2_keep_8 : decode cX2_keep 8 = .ok (.iconst (-1), 1) := dk_2 (dk_at dksX2_keep_0 8 rfl rfl)
theorem dX2_keep_9 : decode cX2_keep 9 = .ok (.aload_n 0, 1) := dk_42 (dk_at dksX2_keep_0 9 rfl rfl)
theorem dX2_keep_10 : decode cX2_keep 10 = .ok (.getfield 304, 3) := dk_180 1 48 (dk_at dksX2_keep_0 10 rfl rfl)
theorem dX2_keep_13 : decode cX2_keep 13 = .ok (.iconst 1, 1) := dk_4 (dk_at dksX2_keep_0 13 rfl rfl)
theorem dX2_keep_14 : decode cX2_keep 14 = .ok (.isub, 1) := dk_100 (dk_at dksX2_keep_0 14 rfl rfl)
theorem dX2_keep_15 : decode cX2_keep 15 = .ok (.invokestatic 104, 3) := dk_184 0 104 (dk_at dksX2_keep_0 15 rfl rfl)
theorem dX2_keep_18 : decode cX2_keep 18 = .ok (.ifCond .ne 5, 3) := dk_154 0 5 (dk_at dksX2_keep_0 18 rfl rfl)
theorem dX2_keep_21 : decode cX2_keep 21 = .ok (.iconst (-1), 1) := dk_2 (dk_at dksX2_keep_0 21 rfl rfl)
theorem dX2_keep_22 : decode cX2_keep 22 = .ok (.ireturn, 1) := dk_172 (dk_at dksX2_keep_0 22 rfl rfl)
theorem dX2_keep_23 : decode cX2_keep 23 = .ok (.aload_n 0, 1) := dk_42 (dk_at dksX2_keep_0 23 rfl rfl)
theorem dX2_keep_24 : decode cX2_keep 24 = .ok (.getfield 58, 3) := dk_180 0 58 (dk_at dksX2_keep_1 0 rfl rfl)
theorem dX2_keep_27 : decode cX2_keep 27 = .ok (.iload_n 1, 1) := dk_27 (dk_at dksX2_keep_1 3 rfl rfl)
theorem dX2_keep_28 : decode cX2_keep 28 = .ok (.iload_n 2, 1) := dk_28 (dk_at dksX2_keep_1 4 rfl rfl)
theorem dX2_keep_29 : decode cX2_keep 29 = .ok (.iconst (-1), 1) := dk_2 (dk_at dksX2_keep_1 5 rfl rfl)
theorem dX2_keep_30 : decode cX2_keep 30 = .ok (.if_icmp .ne 7, 3) := dk_160 0 7 (dk_at dksX2_keep_1 6 rfl rfl)
theorem dX2_keep_33 : decode cX2_keep 33 = .ok (.iconst (-1), 1) := dk_2 (dk_at dksX2_keep_1 9 rfl rfl)
theorem dX2_keep_34 : decode cX2_keep 34 = .ok (.goto 7, 3) := dk_167 0 7 (dk_at dksX2_keep_1 10 rfl rfl)
theorem dX2_keep_37 : decode cX2_keep 37 = .ok (.bipush 10, 2) := dk_16 10 (dk_at dksX2_keep_1 13 rfl rfl)
theorem dX2_keep_39 : decode cX2_keep 39 = .ok (.iload_n 2, 1) := dk_28 (dk_at dksX2_keep_1 15 rfl rfl)
theorem dX2_keep_40 : decode cX2_keep 40 = .ok (.iadd, 1) := dk_96 (dk_at dksX2_keep_1 16 rfl rfl)
theorem dX2_keep_41 : decode cX2_keep 41 = .ok (.iastore, 1) := dk_79 (dk_at dksX2_keep_1 17 rfl rfl)
theorem dX2_keep_42 : decode cX2_keep 42 = .ok (.iconst 1, 1) := dk_4 (dk_at dksX2_keep_1 18 rfl rfl)
theorem dX2_keep_43 : decode cX2_keep 43 = .ok (.ireturn, 1) := dk_172 (dk_at dksX2_keep_1 19 rfl rfl)
abbrev cX2_row : ByteArray := prog_31_method_78_code
def yX2_row : MethodName := ⟨RX2, "row", "(III)I"⟩
def dkwX2_row_3 : List UInt8 := [167, 255, 233, 4, 172]
abbrev dktX2_row_3 : List UInt8 := dkwX2_row_3 ++ []
def dkwX2_row_2 : List UInt8 := [21, 4, 16, 60, 162, 0, 22, 42, 180, 0, 64, 16, 60, 27, 104, 21, 4, 96, 9, 80, 132, 4, 1]
abbrev dktX2_row_2 : List UInt8 := dkwX2_row_2 ++ dktX2_row_3
def dkwX2_row_1 : List UInt8 := [29, 156, 0, 6, 16, 242, 172, 42, 180, 0, 58, 27, 28, 79, 42, 180, 0, 61, 27, 29, 79, 3, 54, 4]
abbrev dktX2_row_1 : List UInt8 := dkwX2_row_1 ++ dktX2_row_2
def dkwX2_row_0 : List UInt8 := [27, 184, 1, 12, 153, 0, 18, 28, 3, 7, 184, 0, 104, 153, 0, 9, 29, 16, 60, 164, 0, 5, 2, 172]
abbrev dktX2_row_0 : List UInt8 := dkwX2_row_0 ++ dktX2_row_1
theorem dksX2_row_0 : cX2_row.data.toList.drop 0 = dktX2_row_0 := by decide +kernel
theorem dksX2_row_1 : cX2_row.data.toList.drop 24 = dktX2_row_1 := dk_seg dksX2_row_0 24 rfl rfl
theorem dksX2_row_2 : cX2_row.data.toList.drop 48 = dktX2_row_2 := dk_seg dksX2_row_1 24 rfl rfl
theorem dksX2_row_3 : cX2_row.data.toList.drop 71 = dktX2_row_3 := dk_seg dksX2_row_2 23 rfl rfl
theorem dX2_row_0 : decode cX2_row 0 = .ok (.iload_n 1, 1) := dk_27 (dk_at dksX2_row_0 0 rfl rfl)
theorem dX2_row_1 : decode cX2_row 1 = .ok (.invokestatic 268, 3) := dk_184 1 12 (dk_at dksX2_row_0 1 rfl rfl)
theorem dX2_row_4 : decode cX2_row 4 = .ok (.ifCond .eq 18, 3) := dk_153 0 18 (dk_at dksX2_row_0 4 rfl rfl)
theorem dX2_row_7 : decode cX2_row 7 = .ok (.iload_n 2, 1) := dk_28 (dk_at dksX2_row_0 7 rfl rfl)
theorem dX2_row_8 : decode cX2_row 8 = .ok (.iconst 0, 1) := dk_3 (dk_at dksX2_row_0 8 rfl rfl)
theorem dX2_row_9 : decode cX2_row 9 = .ok (.iconst 4, 1) := dk_7 (dk_at dksX2_row_0 9 rfl rfl)
theorem dX2_row_10 : decode cX2_row 10 = .ok (.invokestatic 104, 3) := dk_184 0 104 (dk_at dksX2_row_0 10 rfl rfl)
theorem dX2_row_13 : decode cX2_row 13 = .ok (.ifCond .eq 9, 3) := dk_153 0 9 (dk_at dksX2_row_0 13 rfl rfl)
theorem dX2_row_16 : decode cX2_row 16 = .ok (.iload_n 3, 1) := dk_29 (dk_at dksX2_row_0 16 rfl rfl)
theorem dX2_row_17 : decode cX2_row 17 = .ok (.bipush 60, 2) := dk_16 60 (dk_at dksX2_row_0 17 rfl rfl)
theorem dX2_row_19 : decode cX2_row 19 = .ok (.if_icmp .le 5, 3) := dk_164 0 5 (dk_at dksX2_row_0 19 rfl rfl)
theorem dX2_row_22 : decode cX2_row 22 = .ok (.iconst (-1), 1) := dk_2 (dk_at dksX2_row_0 22 rfl rfl)
theorem dX2_row_23 : decode cX2_row 23 = .ok (.ireturn, 1) := dk_172 (dk_at dksX2_row_0 23 rfl rfl)
theorem dX2_row_24 : decode cX2_row 24 = .ok (.iload_n 3, 1) := dk_29 (dk_at dksX2_row_1 0 rfl rfl)
theorem dX2_row_25 : decode cX2_row 25 = .ok (.ifCond .ge 6, 3) := dk_156 0 6 (dk_at dksX2_row_1 1 rfl rfl)
theorem dX2_row_28 : decode cX2_row 28 = .ok (.bipush (-14), 2) := dk_16 242 (dk_at dksX2_row_1 4 rfl rfl)
theorem dX2_row_30 : decode cX2_row 30 = .ok (.ireturn, 1) := dk_172 (dk_at dksX2_row_1 6 rfl rfl)
theorem dX2_row_31 : decode cX2_row 31 = .ok (.aload_n 0, 1) := dk_42 (dk_at dksX2_row_1 7 rfl rfl)
theorem dX2_row_32 : decode cX2_row 32 = .ok (.getfield 58, 3) := dk_180 0 58 (dk_at dksX2_row_1 8 rfl rfl)
theorem dX2_row_35 : decode cX2_row 35 = .ok (.iload_n 1, 1) := dk_27 (dk_at dksX2_row_1 11 rfl rfl)
theorem dX2_row_36 : decode cX2_row 36 = .ok (.iload_n 2, 1) := dk_28 (dk_at dksX2_row_1 12 rfl rfl)
theorem dX2_row_37 : decode cX2_row 37 = .ok (.iastore, 1) := dk_79 (dk_at dksX2_row_1 13 rfl rfl)
theorem dX2_row_38 : decode cX2_row 38 = .ok (.aload_n 0, 1) := dk_42 (dk_at dksX2_row_1 14 rfl rfl)
theorem dX2_row_39 : decode cX2_row 39 = .ok (.getfield 61, 3) := dk_180 0 61 (dk_at dksX2_row_1 15 rfl rfl)
theorem dX2_row_42 : decode cX2_row 42 = .ok (.iload_n 1, 1) := dk_27 (dk_at dksX2_row_1 18 rfl rfl)
theorem dX2_row_43 : decode cX2_row 43 = .ok (.iload_n 3, 1) := dk_29 (dk_at dksX2_row_1 19 rfl rfl)
theorem dX2_row_44 : decode cX2_row 44 = .ok (.iastore, 1) := dk_79 (dk_at dksX2_row_1 20 rfl rfl)
theorem dX2_row_45 : decode cX2_row 45 = .ok (.iconst 0, 1) := dk_3 (dk_at dksX2_row_1 21 rfl rfl)
theorem dX2_row_46 : decode cX2_row 46 = .ok (.istore 4, 2) := dk_54 4 (dk_at dksX2_row_1 22 rfl rfl)
theorem dX2_row_48 : decode cX2_row 48 = .ok (.iload 4, 2) := dk_21 4 (dk_at dksX2_row_2 0 rfl rfl)
theorem dX2_row_50 : decode cX2_row 50 = .ok (.bipush 60, 2) := dk_16 60 (dk_at dksX2_row_2 2 rfl rfl)
theorem dX2_row_52 : decode cX2_row 52 = .ok (.if_icmp .ge 22, 3) := dk_162 0 22 (dk_at dksX2_row_2 4 rfl rfl)
theorem dX2_row_55 : decode cX2_row 55 = .ok (.aload_n 0, 1) := dk_42 (dk_at dksX2_row_2 7 rfl rfl)
theorem dX2_row_56 : decode cX2_row 56 = .ok (.getfield 64, 3) := dk_180 0 64 (dk_at dksX2_row_2 8 rfl rfl)
theorem dX2_row_59 : decode cX2_row 59 = .ok (.bipush 60, 2) := dk_16 60 (dk_at dksX2_row_2 11 rfl rfl)
theorem dX2_row_61 : decode cX2_row 61 = .ok (.iload_n 1, 1) := dk_27 (dk_at dksX2_row_2 13 rfl rfl)
theorem dX2_row_62 : decode cX2_row 62 = .ok (.imul, 1) := dk_104 (dk_at dksX2_row_2 14 rfl rfl)
theorem dX2_row_63 : decode cX2_row 63 = .ok (.iload 4, 2) := dk_21 4 (dk_at dksX2_row_2 15 rfl rfl)
theorem dX2_row_65 : decode cX2_row 65 = .ok (.iadd, 1) := dk_96 (dk_at dksX2_row_2 17 rfl rfl)
theorem dX2_row_66 : decode cX2_row 66 = .ok (.lconst 0, 1) := dk_9 (dk_at dksX2_row_2 18 rfl rfl)
theorem dX2_row_67 : decode cX2_row 67 = .ok (.lastore, 1) := dk_80 (dk_at dksX2_row_2 19 rfl rfl)
theorem dX2_row_68 : decode cX2_row 68 = .ok (.iinc 4 1, 3) := dk_132 4 1 (dk_at dksX2_row_2 20 rfl rfl)
theorem dX2_row_71 : decode cX2_row 71 = .ok (.goto (-23), 3) := dk_167 255 233 (dk_at dksX2_row_3 0 rfl rfl)
theorem dX2_row_74 : decode cX2_row 74 = .ok (.iconst 1, 1) := dk_4 (dk_at dksX2_row_3 3 rfl rfl)
theorem dX2_row_75 : decode cX2_row 75 = .ok (.ireturn, 1) := dk_172 (dk_at dksX2_row_3 4 rfl rfl)
abbrev cX2_put : ByteArray := prog_31_method_80_code
def yX2_put : MethodName := ⟨RX2, "put", "(IIJ)I"⟩
def dkwX2_put_4 : List UInt8 := [80, 4, 172]
abbrev dktX2_put_4 : List UInt8 := dkwX2_put_4 ++ []
def dkwX2_put_3 : List UInt8 := [167, 0, 24, 21, 6, 6, 160, 0, 7, 33, 167, 0, 14, 33, 9, 148, 153, 0, 7, 10, 167, 0, 4, 9]
abbrev dktX2_put_3 : List UInt8 := dkwX2_put_3 ++ dktX2_put_4
def dkwX2_put_2 : List UInt8 := [21, 6, 4, 160, 0, 10, 33, 136, 147, 133, 167, 0, 36, 21, 6, 5, 160, 0, 9, 33, 136, 133]
abbrev dktX2_put_2 : List UInt8 := dkwX2_put_2 ++ dktX2_put_3
def dkwX2_put_1 : List UInt8 := [54, 6, 42, 180, 0, 64, 16, 60, 27, 104, 28, 96, 21, 6, 154, 0, 10, 33, 136, 145, 133, 167, 0, 49]
abbrev dktX2_put_1 : List UInt8 := dkwX2_put_1 ++ dktX2_put_2
def dkwX2_put_0 : List UInt8 := [42, 27, 28, 182, 1, 61, 54, 5, 21, 5, 4, 162, 0, 6, 21, 5, 172, 42, 180, 0, 58, 27, 46]
abbrev dktX2_put_0 : List UInt8 := dkwX2_put_0 ++ dktX2_put_1
theorem dksX2_put_0 : cX2_put.data.toList.drop 0 = dktX2_put_0 := by decide +kernel
theorem dksX2_put_1 : cX2_put.data.toList.drop 23 = dktX2_put_1 := dk_seg dksX2_put_0 23 rfl rfl
theorem dksX2_put_2 : cX2_put.data.toList.drop 47 = dktX2_put_2 := dk_seg dksX2_put_1 24 rfl rfl
theorem dksX2_put_3 : cX2_put.data.toList.drop 69 = dktX2_put_3 := dk_seg dksX2_put_2 22 rfl rfl
theorem dksX2_put_4 : cX2_put.data.toList.drop 93 = dktX2_put_4 := dk_seg dksX2_put_3 24 rfl rfl
theorem dX2_put_0 : decode cX2_put 0 = .ok (.aload_n 0, 1) := dk_42 (dk_at dksX2_put_0 0 rfl rfl)
theorem dX2_put_1 : decode cX2_put 1 = .ok (.iload_n 1, 1) := dk_27 (dk_at dksX2_put_0 1 rfl rfl)
theorem dX2_put_2 : decode cX2_put 2 = .ok (.iload_n 2, 1) := dk_28 (dk_at dksX2_put_0 2 rfl rfl)
theorem dX2_put_3 : decode cX2_put 3 = .ok (.invokevirtual 317, 3) := dk_182 1 61 (dk_at dksX2_put_0 3 rfl rfl)
theorem dX2_put_6 : decode cX2_put 6 = .ok (.istore 5, 2) := dk_54 5 (dk_at dksX2_put_0 6 rfl rfl)
theorem dX2_put_8 : decode cX2_put 8 = .ok (.iload 5, 2) := dk_21 5 (dk_at dksX2_put_0 8 rfl rfl)
theorem dX2_put_10 : decode cX2_put 10 = .ok (.iconst 1, 1) := dk_4 (dk_at dksX2_put_0 10 rfl rfl)
theorem dX2_put_11 : decode cX2_put 11 = .ok (.if_icmp .ge 6, 3) := dk_162 0 6 (dk_at dksX2_put_0 11 rfl rfl)
theorem dX2_put_14 : decode cX2_put 14 = .ok (.iload 5, 2) := dk_21 5 (dk_at dksX2_put_0 14 rfl rfl)
theorem dX2_put_16 : decode cX2_put 16 = .ok (.ireturn, 1) := dk_172 (dk_at dksX2_put_0 16 rfl rfl)
theorem dX2_put_17 : decode cX2_put 17 = .ok (.aload_n 0, 1) := dk_42 (dk_at dksX2_put_0 17 rfl rfl)
theorem dX2_put_18 : decode cX2_put 18 = .ok (.getfield 58, 3) := dk_180 0 58 (dk_at dksX2_put_0 18 rfl rfl)
theorem dX2_put_21 : decode cX2_put 21 = .ok (.iload_n 1, 1) := dk_27 (dk_at dksX2_put_0 21 rfl rfl)
theorem dX2_put_22 : decode cX2_put 22 = .ok (.iaload, 1) := dk_46 (dk_at dksX2_put_0 22 rfl rfl)
theorem dX2_put_23 : decode cX2_put 23 = .ok (.istore 6, 2) := dk_54 6 (dk_at dksX2_put_1 0 rfl rfl)
theorem dX2_put_25 : decode cX2_put 25 = .ok (.aload_n 0, 1) := dk_42 (dk_at dksX2_put_1 2 rfl rfl)
theorem dX2_put_26 : decode cX2_put 26 = .ok (.getfield 64, 3) := dk_180 0 64 (dk_at dksX2_put_1 3 rfl rfl)
theorem dX2_put_29 : decode cX2_put 29 = .ok (.bipush 60, 2) := dk_16 60 (dk_at dksX2_put_1 6 rfl rfl)
theorem dX2_put_31 : decode cX2_put 31 = .ok (.iload_n 1, 1) := dk_27 (dk_at dksX2_put_1 8 rfl rfl)
theorem dX2_put_32 : decode cX2_put 32 = .ok (.imul, 1) := dk_104 (dk_at dksX2_put_1 9 rfl rfl)
theorem dX2_put_33 : decode cX2_put 33 = .ok (.iload_n 2, 1) := dk_28 (dk_at dksX2_put_1 10 rfl rfl)
theorem dX2_put_34 : decode cX2_put 34 = .ok (.iadd, 1) := dk_96 (dk_at dksX2_put_1 11 rfl rfl)
theorem dX2_put_35 : decode cX2_put 35 = .ok (.iload 6, 2) := dk_21 6 (dk_at dksX2_put_1 12 rfl rfl)
theorem dX2_put_37 : decode cX2_put 37 = .ok (.ifCond .ne 10, 3) := dk_154 0 10 (dk_at dksX2_put_1 14 rfl rfl)
theorem dX2_put_40 : decode cX2_put 40 = .ok (.lload_n 3, 1) := dk_33 (dk_at dksX2_put_1 17 rfl rfl)
theorem dX2_put_41 : decode cX2_put 41 = .ok (.l2i, 1) := dk_136 (dk_at dksX2_put_1 18 rfl rfl)
theorem dX2_put_42 : decode cX2_put 42 = .ok (.i2b, 1) := dk_145 (dk_at dksX2_put_1 19 rfl rfl)
theorem dX2_put_43 : decode cX2_put 43 = .ok (.i2l, 1) := dk_133 (dk_at dksX2_put_1 20 rfl rfl)
theorem dX2_put_44 : decode cX2_put 44 = .ok (.goto 49, 3) := dk_167 0 49 (dk_at dksX2_put_1 21 rfl rfl)
theorem dX2_put_47 : decode cX2_put 47 = .ok (.iload 6, 2) := dk_21 6 (dk_at dksX2_put_2 0 rfl rfl)
theorem dX2_put_49 : decode cX2_put 49 = .ok (.iconst 1, 1) := dk_4 (dk_at dksX2_put_2 2 rfl rfl)
theorem dX2_put_50 : decode cX2_put 50 = .ok (.if_icmp .ne 10, 3) := dk_160 0 10 (dk_at dksX2_put_2 3 rfl rfl)
theorem dX2_put_53 : decode cX2_put 53 = .ok (.lload_n 3, 1) := dk_33 (dk_at dksX2_put_2 6 rfl rfl)
theorem dX2_put_54 : decode cX2_put 54 = .ok (.l2i, 1) := dk_136 (dk_at dksX2_put_2 7 rfl rfl)
theorem dX2_put_55 : decode cX2_put 55 = .ok (.i2s, 1) := dk_147 (dk_at dksX2_put_2 8 rfl rfl)
theorem dX2_put_56 : decode cX2_put 56 = .ok (.i2l, 1) := dk_133 (dk_at dksX2_put_2 9 rfl rfl)
theorem dX2_put_57 : decode cX2_put 57 = .ok (.goto 36, 3) := dk_167 0 36 (dk_at dksX2_put_2 10 rfl rfl)
theorem dX2_put_60 : decode cX2_put 60 = .ok (.iload 6, 2) := dk_21 6 (dk_at dksX2_put_2 13 rfl rfl)
theorem dX2_put_62 : decode cX2_put 62 = .ok (.iconst 2, 1) := dk_5 (dk_at dksX2_put_2 15 rfl rfl)
theorem dX2_put_63 : decode cX2_put 63 = .ok (.if_icmp .ne 9, 3) := dk_160 0 9 (dk_at dksX2_put_2 16 rfl rfl)
theorem dX2_put_66 : decode cX2_put 66 = .ok (.lload_n 3, 1) := dk_33 (dk_at dksX2_put_2 19 rfl rfl)
theorem dX2_put_67 : decode cX2_put 67 = .ok (.l2i, 1) := dk_136 (dk_at dksX2_put_2 20 rfl rfl)
theorem dX2_put_68 : decode cX2_put 68 = .ok (.i2l, 1) := dk_133 (dk_at dksX2_put_2 21 rfl rfl)
theorem dX2_put_69 : decode cX2_put 69 = .ok (.goto 24, 3) := dk_167 0 24 (dk_at dksX2_put_3 0 rfl rfl)
theorem dX2_put_72 : decode cX2_put 72 = .ok (.iload 6, 2) := dk_21 6 (dk_at dksX2_put_3 3 rfl rfl)
theorem dX2_put_74 : decode cX2_put 74 = .ok (.iconst 3, 1) := dk_6 (dk_at dksX2_put_3 5 rfl rfl)
theorem dX2_put_75 : decode cX2_put 75 = .ok (.if_icmp .ne 7, 3) := dk_160 0 7 (dk_at dksX2_put_3 6 rfl rfl)
theorem dX2_put_78 : decode cX2_put 78 = .ok (.lload_n 3, 1) := dk_33 (dk_at dksX2_put_3 9 rfl rfl)
theorem dX2_put_79 : decode cX2_put 79 = .ok (.goto 14, 3) := dk_167 0 14 (dk_at dksX2_put_3 10 rfl rfl)
theorem dX2_put_82 : decode cX2_put 82 = .ok (.lload_n 3, 1) := dk_33 (dk_at dksX2_put_3 13 rfl rfl)
theorem dX2_put_83 : decode cX2_put 83 = .ok (.lconst 0, 1) := dk_9 (dk_at dksX2_put_3 14 rfl rfl)
theorem dX2_put_84 : decode cX2_put 84 = .ok (.lcmp, 1) := dk_148 (dk_at dksX2_put_3 15 rfl rfl)
theorem dX2_put_85 : decode cX2_put 85 = .ok (.ifCond .eq 7, 3) := dk_153 0 7 (dk_at dksX2_put_3 16 rfl rfl)
theorem dX2_put_88 : decode cX2_put 88 = .ok (.lconst 1, 1) := dk_10 (dk_at dksX2_put_3 19 rfl rfl)
theorem dX2_put_89 : decode cX2_put 89 = .ok (.goto 4, 3) := dk_167 0 4 (dk_at dksX2_put_3 20 rfl rfl)
theorem dX2_put_92 : decode cX2_put 92 = .ok (.lconst 0, 1) := dk_9 (dk_at dksX2_put_3 23 rfl rfl)
theorem dX2_put_93 : decode cX2_put 93 = .ok (.lastore, 1) := dk_80 (dk_at dksX2_put_4 0 rfl rfl)
theorem dX2_put_94 : decode cX2_put 94 = .ok (.iconst 1, 1) := dk_4 (dk_at dksX2_put_4 1 rfl rfl)
theorem dX2_put_95 : decode cX2_put 95 = .ok (.ireturn, 1) := dk_172 (dk_at dksX2_put_4 2 rfl rfl)
abbrev cX2_rowAt : ByteArray := prog_31_method_79_code
def yX2_rowAt : MethodName := ⟨RX2, "rowAt", "(II)I"⟩
def dkwX2_rowAt_2 : List UInt8 := [27, 46, 4, 100, 184, 0, 104, 154, 0, 8, 16, 243, 167, 0, 4, 4, 172]
abbrev dktX2_rowAt_2 : List UInt8 := dkwX2_rowAt_2 ++ []
def dkwX2_rowAt_1 : List UInt8 := [167, 0, 40, 42, 180, 0, 58, 27, 46, 7, 164, 0, 8, 16, 244, 167, 0, 25, 28, 3, 42, 180, 0, 61]
abbrev dktX2_rowAt_1 : List UInt8 := dkwX2_rowAt_1 ++ dktX2_rowAt_2
def dkwX2_rowAt_0 : List UInt8 := [27, 184, 1, 12, 154, 0, 7, 2, 167, 0, 55, 42, 180, 0, 58, 27, 46, 2, 160, 0, 8, 16, 245]
abbrev dktX2_rowAt_0 : List UInt8 := dkwX2_rowAt_0 ++ dktX2_rowAt_1
theorem dksX2_rowAt_0 : cX2_rowAt.data.toList.drop 0 = dktX2_rowAt_0 := by decide +kernel
theorem dksX2_rowAt_1 : cX2_rowAt.data.toList.drop 23 = dktX2_rowAt_1 := dk_seg dksX2_rowAt_0 23 rfl rfl
theorem dksX2_rowAt_2 : cX2_rowAt.data.toList.drop 47 = dktX2_rowAt_2 := dk_seg dksX2_rowAt_1 24 rfl rfl
theorem dX2_rowAt_0 : decode cX2_rowAt 0 = .ok (.iload_n 1, 1) := dk_27 (dk_at dksX2_rowAt_0 0 rfl rfl)
theorem dX2_rowAt_1 : decode cX2_rowAt 1 = .ok (.invokestatic 268, 3) := dk_184 1 12 (dk_at dksX2_rowAt_0 1 rfl rfl)
theorem dX2_rowAt_4 : decode cX2_rowAt 4 = .ok (.ifCond .ne 7, 3) := dk_154 0 7 (dk_at dksX2_rowAt_0 4 rfl rfl)
theorem dX2_rowAt_7 : decode cX2_rowAt 7 = .ok (.iconst (-1), 1) := dk_2 (dk_at dksX2_rowAt_0 7 rfl rfl)
theorem dX2_rowAt_8 : decode cX2_rowAt 8 = .ok (.goto 55, 3) := dk_167 0 55 (dk_at dksX2_rowAt_0 8 rfl rfl)
theorem dX2_rowAt_11 : decode cX2_rowAt 11 = .ok (.aload_n 0, 1) := dk_42 (dk_at dksX2_rowAt_0 11 rfl rfl)
theorem dX2_rowAt_12 : decode cX2_rowAt 12 = .ok (.getfield 58, 3) := dk_180 0 58 (dk_at dksX2_rowAt_0 12 rfl rfl)
theorem dX2_rowAt_15 : decode cX2_rowAt 15 = .ok (.iload_n 1, 1) := dk_27 (dk_at dksX2_rowAt_0 15 rfl rfl)
theorem dX2_rowAt_16 : decode cX2_rowAt 16 = .ok (.iaload, 1) := dk_46 (dk_at dksX2_rowAt_0 16 rfl rfl)
theorem dX2_rowAt_17 : decode cX2_rowAt 17 = .ok (.iconst (-1), 1) := dk_2 (dk_at dksX2_rowAt_0 17 rfl rfl)
theorem dX2_rowAt_18 : decode cX2_rowAt 18 = .ok (.if_icmp .ne 8, 3) := dk_160 0 8 (dk_at dksX2_rowAt_0 18 rfl rfl)
theorem dX2_rowAt_21 : decode cX2_rowAt 21 = .ok (.bipush (-11), 2) := dk_16 245 (dk_at dksX2_rowAt_0 21 rfl rfl)
theorem dX2_rowAt_23 : decode cX2_rowAt 23 = .ok (.goto 40, 3) := dk_167 0 40 (dk_at dksX2_rowAt_1 0 rfl rfl)
theorem dX2_rowAt_26 : decode cX2_rowAt 26 = .ok (.aload_n 0, 1) := dk_42 (dk_at dksX2_rowAt_1 3 rfl rfl)
theorem dX2_rowAt_27 : decode cX2_rowAt 27 = .ok (.getfield 58, 3) := dk_180 0 58 (dk_at dksX2_rowAt_1 4 rfl rfl)
theorem dX2_rowAt_30 : decode cX2_rowAt 30 = .ok (.iload_n 1, 1) := dk_27 (dk_at dksX2_rowAt_1 7 rfl rfl)
theorem dX2_rowAt_31 : decode cX2_rowAt 31 = .ok (.iaload, 1) := dk_46 (dk_at dksX2_rowAt_1 8 rfl rfl)
theorem dX2_rowAt_32 : decode cX2_rowAt 32 = .ok (.iconst 4, 1) := dk_7 (dk_at dksX2_rowAt_1 9 rfl rfl)
theorem dX2_rowAt_33 : decode cX2_rowAt 33 = .ok (.if_icmp .le 8, 3) := dk_164 0 8 (dk_at dksX2_rowAt_1 10 rfl rfl)
theorem dX2_rowAt_36 : decode cX2_rowAt 36 = .ok (.bipush (-12), 2) := dk_16 244 (dk_at dksX2_rowAt_1 13 rfl rfl)
theorem dX2_rowAt_38 : decode cX2_rowAt 38 = .ok (.goto 25, 3) := dk_167 0 25 (dk_at dksX2_rowAt_1 15 rfl rfl)
theorem dX2_rowAt_41 : decode cX2_rowAt 41 = .ok (.iload_n 2, 1) := dk_28 (dk_at dksX2_rowAt_1 18 rfl rfl)
theorem dX2_rowAt_42 : decode cX2_rowAt 42 = .ok (.iconst 0, 1) := dk_3 (dk_at dksX2_rowAt_1 19 rfl rfl)
theorem dX2_rowAt_43 : decode cX2_rowAt 43 = .ok (.aload_n 0, 1) := dk_42 (dk_at dksX2_rowAt_1 20 rfl rfl)
theorem dX2_rowAt_44 : decode cX2_rowAt 44 = .ok (.getfield 61, 3) := dk_180 0 61 (dk_at dksX2_rowAt_1 21 rfl rfl)
theorem dX2_rowAt_47 : decode cX2_rowAt 47 = .ok (.iload_n 1, 1) := dk_27 (dk_at dksX2_rowAt_2 0 rfl rfl)
theorem dX2_rowAt_48 : decode cX2_rowAt 48 = .ok (.iaload, 1) := dk_46 (dk_at dksX2_rowAt_2 1 rfl rfl)
theorem dX2_rowAt_49 : decode cX2_rowAt 49 = .ok (.iconst 1, 1) := dk_4 (dk_at dksX2_rowAt_2 2 rfl rfl)
theorem dX2_rowAt_50 : decode cX2_rowAt 50 = .ok (.isub, 1) := dk_100 (dk_at dksX2_rowAt_2 3 rfl rfl)
theorem dX2_rowAt_51 : decode cX2_rowAt 51 = .ok (.invokestatic 104, 3) := dk_184 0 104 (dk_at dksX2_rowAt_2 4 rfl rfl)
theorem dX2_rowAt_54 : decode cX2_rowAt 54 = .ok (.ifCond .ne 8, 3) := dk_154 0 8 (dk_at dksX2_rowAt_2 7 rfl rfl)
theorem dX2_rowAt_57 : decode cX2_rowAt 57 = .ok (.bipush (-13), 2) := dk_16 243 (dk_at dksX2_rowAt_2 10 rfl rfl)
theorem dX2_rowAt_59 : decode cX2_rowAt 59 = .ok (.goto 4, 3) := dk_167 0 4 (dk_at dksX2_rowAt_2 12 rfl rfl)
theorem dX2_rowAt_62 : decode cX2_rowAt 62 = .ok (.iconst 1, 1) := dk_4 (dk_at dksX2_rowAt_2 15 rfl rfl)
theorem dX2_rowAt_63 : decode cX2_rowAt 63 = .ok (.ireturn, 1) := dk_172 (dk_at dksX2_rowAt_2 16 rfl rfl)
abbrev cX2_element : ByteArray := prog_31_method_81_code
def yX2_element : MethodName := ⟨RX2, "element", "(II)J"⟩
def dkwX2_element_1 : List UInt8 := [20, 1, 30, 173]
abbrev dktX2_element_1 : List UInt8 := dkwX2_element_1 ++ []
def dkwX2_element_0 : List UInt8 := [42, 27, 28, 182, 1, 61, 4, 160, 0, 17, 42, 180, 0, 64, 16, 60, 27, 104, 28, 96, 47, 167, 0, 6]
abbrev dktX2_element_0 : List UInt8 := dkwX2_element_0 ++ dktX2_element_1
theorem dksX2_element_0 : cX2_element.data.toList.drop 0 = dktX2_element_0 := by decide +kernel
theorem dksX2_element_1 : cX2_element.data.toList.drop 24 = dktX2_element_1 := dk_seg dksX2_element_0 24 rfl rfl
theorem dX2_element_0 : decode cX2_element 0 = .ok (.aload_n 0, 1) := dk_42 (dk_at dksX2_element_0 0 rfl rfl)
theorem dX2_element_1 : decode cX2_element 1 = .ok (.iload_n 1, 1) := dk_27 (dk_at dksX2_element_0 1 rfl rfl)
theorem dX2_element_2 : decode cX2_element 2 = .ok (.iload_n 2, 1) := dk_28 (dk_at dksX2_element_0 2 rfl rfl)
theorem dX2_element_3 : decode cX2_element 3 = .ok (.invokevirtual 317, 3) := dk_182 1 61 (dk_at dksX2_element_0 3 rfl rfl)
theorem dX2_element_6 : decode cX2_element 6 = .ok (.iconst 1, 1) := dk_4 (dk_at dksX2_element_0 6 rfl rfl)
theorem dX2_element_7 : decode cX2_element 7 = .ok (.if_icmp .ne 17, 3) := dk_160 0 17 (dk_at dksX2_element_0 7 rfl rfl)
theorem dX2_element_10 : decode cX2_element 10 = .ok (.aload_n 0, 1) := dk_42 (dk_at dksX2_element_0 10 rfl rfl)
theorem dX2_element_11 : decode cX2_element 11 = .ok (.getfield 64, 3) := dk_180 0 64 (dk_at dksX2_element_0 11 rfl rfl)
theorem dX2_element_14 : decode cX2_element 14 = .ok (.bipush 60, 2) := dk_16 60 (dk_at dksX2_element_0 14 rfl rfl)
theorem dX2_element_16 : decode cX2_element 16 = .ok (.iload_n 1, 1) := dk_27 (dk_at dksX2_element_0 16 rfl rfl)
theorem dX2_element_17 : decode cX2_element 17 = .ok (.imul, 1) := dk_104 (dk_at dksX2_element_0 17 rfl rfl)
theorem dX2_element_18 : decode cX2_element 18 = .ok (.iload_n 2, 1) := dk_28 (dk_at dksX2_element_0 18 rfl rfl)
theorem dX2_element_19 : decode cX2_element 19 = .ok (.iadd, 1) := dk_96 (dk_at dksX2_element_0 19 rfl rfl)
theorem dX2_element_20 : decode cX2_element 20 = .ok (.laload, 1) := dk_47 (dk_at dksX2_element_0 20 rfl rfl)
theorem dX2_element_21 : decode cX2_element 21 = .ok (.goto 6, 3) := dk_167 0 6 (dk_at dksX2_element_0 21 rfl rfl)
theorem dX2_element_24 : decode cX2_element 24 = .ok (.ldc2_w 286, 3) := dk_20 1 30 (dk_at dksX2_element_1 0 rfl rfl)
theorem dX2_element_27 : decode cX2_element 27 = .ok (.lreturn, 1) := dk_173 (dk_at dksX2_element_1 3 rfl rfl)
abbrev cX2_shift : ByteArray := prog_31_method_82_code
def yX2_shift : MethodName := ⟨RX2, "shift", "(IIIII)I"⟩
def dkwX2_shift_8 : List UInt8 := [167, 255, 224, 21, 5, 172]
abbrev dktX2_shift_8 : List UInt8 := dkwX2_shift_8 ++ []
def dkwX2_shift_7 : List UInt8 := [180, 0, 64, 16, 60, 29, 104, 21, 4, 96, 21, 6, 96, 42, 180, 0, 68, 21, 6, 47, 80, 132, 6, 1]
abbrev dktX2_shift_7 : List UInt8 := dkwX2_shift_7 ++ dktX2_shift_8
def dkwX2_shift_6 : List UInt8 := [21, 6, 96, 47, 80, 132, 6, 1, 167, 255, 225, 3, 54, 6, 21, 6, 21, 5, 162, 0, 31, 42]
abbrev dktX2_shift_6 : List UInt8 := dkwX2_shift_6 ++ dktX2_shift_7
def dkwX2_shift_5 : List UInt8 := [21, 6, 21, 5, 162, 0, 30, 42, 180, 0, 68, 21, 6, 42, 180, 0, 64, 16, 60, 27, 104, 28, 96]
abbrev dktX2_shift_5 : List UInt8 := dkwX2_shift_5 ++ dktX2_shift_6
def dkwX2_shift_4 : List UInt8 := [163, 0, 17, 21, 5, 42, 180, 0, 61, 29, 46, 21, 4, 100, 164, 0, 6, 16, 243, 172, 3, 54, 6]
abbrev dktX2_shift_4 : List UInt8 := dkwX2_shift_4 ++ dktX2_shift_5
def dkwX2_shift_3 : List UInt8 := [155, 0, 39, 28, 155, 0, 35, 21, 4, 155, 0, 30, 21, 5, 42, 180, 0, 61, 27, 46, 28, 100]
abbrev dktX2_shift_3 : List UInt8 := dkwX2_shift_3 ++ dktX2_shift_4
def dkwX2_shift_2 : List UInt8 := [163, 0, 18, 42, 180, 0, 58, 27, 46, 42, 180, 0, 58, 29, 46, 159, 0, 6, 16, 244, 172, 21, 5]
abbrev dktX2_shift_2 : List UInt8 := dkwX2_shift_2 ++ dktX2_shift_3
def dkwX2_shift_1 : List UInt8 := [159, 0, 13, 42, 180, 0, 58, 29, 46, 2, 160, 0, 6, 16, 245, 172, 42, 180, 0, 58, 27, 46, 7]
abbrev dktX2_shift_1 : List UInt8 := dkwX2_shift_1 ++ dktX2_shift_2
def dkwX2_shift_0 : List UInt8 := [27, 184, 1, 12, 153, 0, 10, 29, 184, 1, 12, 154, 0, 5, 2, 172, 42, 180, 0, 58, 27, 46, 2]
abbrev dktX2_shift_0 : List UInt8 := dkwX2_shift_0 ++ dktX2_shift_1
theorem dksX2_shift_0 : cX2_shift.data.toList.drop 0 = dktX2_shift_0 := by decide +kernel
theorem dksX2_shift_1 : cX2_shift.data.toList.drop 23 = dktX2_shift_1 := dk_seg dksX2_shift_0 23 rfl rfl
theorem dksX2_shift_2 : cX2_shift.data.toList.drop 46 = dktX2_shift_2 := dk_seg dksX2_shift_1 23 rfl rfl
theorem dksX2_shift_3 : cX2_shift.data.toList.drop 69 = dktX2_shift_3 := dk_seg dksX2_shift_2 23 rfl rfl
theorem dksX2_shift_4 : cX2_shift.data.toList.drop 91 = dktX2_shift_4 := dk_seg dksX2_shift_3 22 rfl rfl
theorem dksX2_shift_5 : cX2_shift.data.toList.drop 114 = dktX2_shift_5 := dk_seg dksX2_shift_4 23 rfl rfl
theorem dksX2_shift_6 : cX2_shift.data.toList.drop 137 = dktX2_shift_6 := dk_seg dksX2_shift_5 23 rfl rfl
theorem dksX2_shift_7 : cX2_shift.data.toList.drop 159 = dktX2_shift_7 := dk_seg dksX2_shift_6 22 rfl rfl
theorem dksX2_shift_8 : cX2_shift.data.toList.drop 183 = dktX2_shift_8 := dk_seg dksX2_shift_7 24 rfl rfl
theorem dX2_shift_0 : decode cX2_shift 0 = .ok (.iload_n 1, 1) := dk_27 (dk_at dksX2_shift_0 0 rfl rfl)
theorem dX2_shift_1 : decode cX2_shift 1 = .ok (.invokestatic 268, 3) := dk_184 1 12 (dk_at dksX2_shift_0 1 rfl rfl)
theorem dX2_shift_4 : decode cX2_shift 4 = .ok (.ifCond .eq 10, 3) := dk_153 0 10 (dk_at dksX2_shift_0 4 rfl rfl)
theorem dX2_shift_7 : decode cX2_shift 7 = .ok (.iload_n 3, 1) := dk_29 (dk_at dksX2_shift_0 7 rfl rfl)
theorem dX2_shift_8 : decode cX2_shift 8 = .ok (.invokestatic 268, 3) := dk_184 1 12 (dk_at dksX2_shift_0 8 rfl rfl)
theorem dX2_shift_11 : decode cX2_shift 11 = .ok (.ifCond .ne 5, 3) := dk_154 0 5 (dk_at dksX2_shift_0 11 rfl rfl)
theorem dX2_shift_14 : decode cX2_shift 14 = .ok (.iconst (-1), 1) := dk_2 (dk_at dksX2_shift_0 14 rfl rfl)
theorem dX2_shift_15 : decode cX2_shift 15 = .ok (.ireturn, 1) := dk_172 (dk_at dksX2_shift_0 15 rfl rfl)
theorem dX2_shift_16 : decode cX2_shift 16 = .ok (.aload_n 0, 1) := dk_42 (dk_at dksX2_shift_0 16 rfl rfl)
theorem dX2_shift_17 : decode cX2_shift 17 = .ok (.getfield 58, 3) := dk_180 0 58 (dk_at dksX2_shift_0 17 rfl rfl)
theorem dX2_shift_20 : decode cX2_shift 20 = .ok (.iload_n 1, 1) := dk_27 (dk_at dksX2_shift_0 20 rfl rfl)
theorem dX2_shift_21 : decode cX2_shift 21 = .ok (.iaload, 1) := dk_46 (dk_at dksX2_shift_0 21 rfl rfl)
theorem dX2_shift_22 : decode cX2_shift 22 = .ok (.iconst (-1), 1) := dk_2 (dk_at dksX2_shift_0 22 rfl rfl)
theorem dX2_shift_23 : decode cX2_shift 23 = .ok (.if_icmp .eq 13, 3) := dk_159 0 13 (dk_at dksX2_shift_1 0 rfl rfl)
theorem dX2_shift_26 : decode cX2_shift 26 = .ok (.aload_n 0, 1) := dk_42 (dk_at dksX2_shift_1 3 rfl rfl)
theorem dX2_shift_27 : decode cX2_shift 27 = .ok (.getfield 58, 3) := dk_180 0 58 (dk_at dksX2_shift_1 4 rfl rfl)
theorem dX2_shift_30 : decode cX2_shift 30 = .ok (.iload_n 3, 1) := dk_29 (dk_at dksX2_shift_1 7 rfl rfl)
theorem dX2_shift_31 : decode cX2_shift 31 = .ok (.iaload, 1) := dk_46 (dk_at dksX2_shift_1 8 rfl rfl)
theorem dX2_shift_32 : decode cX2_shift 32 = .ok (.iconst (-1), 1) := dk_2 (dk_at dksX2_shift_1 9 rfl rfl)
theorem dX2_shift_33 : decode cX2_shift 33 = .ok (.if_icmp .ne 6, 3) := dk_160 0 6 (dk_at dksX2_shift_1 10 rfl rfl)
theorem dX2_shift_36 : decode cX2_shift 36 = .ok (.bipush (-11), 2) := dk_16 245 (dk_at dksX2_shift_1 13 rfl rfl)
theorem dX2_shift_38 : decode cX2_shift 38 = .ok (.ireturn, 1) := dk_172 (dk_at dksX2_shift_1 15 rfl rfl)
theorem dX2_shift_39 : decode cX2_shift 39 = .ok (.aload_n 0, 1) := dk_42 (dk_at dksX2_shift_1 16 rfl rfl)
theorem dX2_shift_40 : decode cX2_shift 40 = .ok (.getfield 58, 3) := dk_180 0 58 (dk_at dksX2_shift_1 17 rfl rfl)
theorem dX2_shift_43 : decode cX2_shift 43 = .ok (.iload_n 1, 1) := dk_27 (dk_at dksX2_shift_1 20 rfl rfl)
theorem dX2_shift_44 : decode cX2_shift 44 = .ok (.iaload, 1) := dk_46 (dk_at dksX2_shift_1 21 rfl rfl)
theorem dX2_shift_45 : decode cX2_shift 45 = .ok (.iconst 4, 1) := dk_7 (dk_at dksX2_shift_1 22 rfl rfl)
theorem dX2_shift_46 : decode cX2_shift 46 = .ok (.if_icmp .gt 18, 3) := dk_163 0 18 (dk_at dksX2_shift_2 0 rfl rfl)
theorem dX2_shift_49 : decode cX2_shift 49 = .ok (.aload_n 0, 1) := dk_42 (dk_at dksX2_shift_2 3 rfl rfl)
theorem dX2_shift_50 : decode cX2_shift 50 = .ok (.getfield 58, 3) := dk_180 0 58 (dk_at dksX2_shift_2 4 rfl rfl)
theorem dX2_shift_53 : decode cX2_shift 53 = .ok (.iload_n 1, 1) := dk_27 (dk_at dksX2_shift_2 7 rfl rfl)
theorem dX2_shift_54 : decode cX2_shift 54 = .ok (.iaload, 1) := dk_46 (dk_at dksX2_shift_2 8 rfl rfl)
theorem dX2_shift_55 : decode cX2_shift 55 = .ok (.aload_n 0, 1) := dk_42 (dk_at dksX2_shift_2 9 rfl rfl)
theorem dX2_shift_56 : decode cX2_shift 56 = .ok (.getfield 58, 3) := dk_180 0 58 (dk_at dksX2_shift_2 10 rfl rfl)
theorem dX2_shift_59 : decode cX2_shift 59 = .ok (.iload_n 3, 1) := dk_29 (dk_at dksX2_shift_2 13 rfl rfl)
theorem dX2_shift_60 : decode cX2_shift 60 = .ok (.iaload, 1) := dk_46 (dk_at dksX2_shift_2 14 rfl rfl)
theorem dX2_shift_61 : decode cX2_shift 61 = .ok (.if_icmp .eq 6, 3) := dk_159 0 6 (dk_at dksX2_shift_2 15 rfl rfl)
theorem dX2_shift_64 : decode cX2_shift 64 = .ok (.bipush (-12), 2) := dk_16 244 (dk_at dksX2_shift_2 18 rfl rfl)
theorem dX2_shift_66 : decode cX2_shift 66 = .ok (.ireturn, 1) := dk_172 (dk_at dksX2_shift_2 20 rfl rfl)
theorem dX2_shift_67 : decode cX2_shift 67 = .ok (.iload 5, 2) := dk_21 5 (dk_at dksX2_shift_2 21 rfl rfl)
theorem dX2_shift_69 : decode cX2_shift 69 = .ok (.ifCond .lt 39, 3) := dk_155 0 39 (dk_at dksX2_shift_3 0 rfl rfl)
theorem dX2_shift_72 : decode cX2_shift 72 = .ok (.iload_n 2, 1) := dk_28 (dk_at dksX2_shift_3 3 rfl rfl)
theorem dX2_shift_73 : decode cX2_shift 73 = .ok (.ifCond .lt 35, 3) := dk_155 0 35 (dk_at dksX2_shift_3 4 rfl rfl)
theorem dX2_shift_76 : decode cX2_shift 76 = .ok (.iload 4, 2) := dk_21 4 (dk_at dksX2_shift_3 7 rfl rfl)
theorem dX2_shift_78 : decode cX2_shift 78 = .ok (.ifCond .lt 30, 3) := dk_155 0 30 (dk_at dksX2_shift_3 9 rfl rfl)
theorem dX2_shift_81 : decode cX2_shift 81 = .ok (.iload 5, 2) := dk_21 5 (dk_at dksX2_shift_3 12 rfl rfl)
theorem dX2_shift_83 : decode cX2_shift 83 = .ok (.aload_n 0, 1) := dk_42 (dk_at dksX2_shift_3 14 rfl rfl)
theorem dX2_shift_84 : decode cX2_shift 84 = .ok (.getfield 61, 3) := dk_180 0 61 (dk_at dksX2_shift_3 15 rfl rfl)
theorem dX2_shift_87 : decode cX2_shift 87 = .ok (.iload_n 1, 1) := dk_27 (dk_at dksX2_shift_3 18 rfl rfl)
theorem dX2_shift_88 : decode cX2_shift 88 = .ok (.iaload, 1) := dk_46 (dk_at dksX2_shift_3 19 rfl rfl)
theorem dX2_shift_89 : decode cX2_shift 89 = .ok (.iload_n 2, 1) := dk_28 (dk_at dksX2_shift_3 20 rfl rfl)
theorem dX2_shift_90 : decode cX2_shift 90 = .ok (.isub, 1) := dk_100 (dk_at dksX2_shift_3 21 rfl rfl)
theorem dX2_shift_91 : decode cX2_shift 91 = .ok (.if_icmp .gt 17, 3) := dk_163 0 17 (dk_at dksX2_shift_4 0 rfl rfl)
theorem dX2_shift_94 : decode cX2_shift 94 = .ok (.iload 5, 2) := dk_21 5 (dk_at dksX2_shift_4 3 rfl rfl)
theorem dX2_shift_96 : decode cX2_shift 96 = .ok (.aload_n 0, 1) := dk_42 (dk_at dksX2_shift_4 5 rfl rfl)
theorem dX2_shift_97 : decode cX2_shift 97 = .ok (.getfield 61, 3) := dk_180 0 61 (dk_at dksX2_shift_4 6 rfl rfl)
theorem dX2_shift_100 : decode cX2_shift 100 = .ok (.iload_n 3, 1) := dk_29 (dk_at dksX2_shift_4 9 rfl rfl)
theorem dX2_shift_101 : decode cX2_shift 101 = .ok (.iaload, 1) := dk_46 (dk_at dksX2_shift_4 10 rfl rfl)
theorem dX2_shift_102 : decode cX2_shift 102 = .ok (.iload 4, 2) := dk_21 4 (dk_at dksX2_shift_4 11 rfl rfl)
theorem dX2_shift_104 : decode cX2_shift 104 = .ok (.isub, 1) := dk_100 (dk_at dksX2_shift_4 13 rfl rfl)
theorem dX2_shift_105 : decode cX2_shift 105 = .ok (.if_icmp .le 6, 3) := dk_164 0 6 (dk_at dksX2_shift_4 14 rfl rfl)
theorem dX2_shift_108 : decode cX2_shift 108 = .ok (.bipush (-13), 2) := dk_16 243 (dk_at dksX2_shift_4 17 rfl rfl)
theorem dX2_shift_110 : decode cX2_shift 110 = .ok (.ireturn, 1) := dk_172 (dk_at dksX2_shift_4 19 rfl rfl)
theorem dX2_shift_111 : decode cX2_shift 111 = .ok (.iconst 0, 1) := dk_3 (dk_at dksX2_shift_4 20 rfl rfl)
theorem dX2_shift_112 : decode cX2_shift 112 = .ok (.istore 6, 2) := dk_54 6 (dk_at dksX2_shift_4 21 rfl rfl)
theorem dX2_shift_114 : decode cX2_shift 114 = .ok (.iload 6, 2) := dk_21 6 (dk_at dksX2_shift_5 0 rfl rfl)
theorem dX2_shift_116 : decode cX2_shift 116 = .ok (.iload 5, 2) := dk_21 5 (dk_at dksX2_shift_5 2 rfl rfl)
theorem dX2_shift_118 : decode cX2_shift 118 = .ok (.if_icmp .ge 30, 3) := dk_162 0 30 (dk_at dksX2_shift_5 4 rfl rfl)
theorem dX2_shift_121 : decode cX2_shift 121 = .ok (.aload_n 0, 1) := dk_42 (dk_at dksX2_shift_5 7 rfl rfl)
theorem dX2_shift_122 : decode cX2_shift 122 = .ok (.getfield 68, 3) := dk_180 0 68 (dk_at dksX2_shift_5 8 rfl rfl)
theorem dX2_shift_125 : decode cX2_shift 125 = .ok (.iload 6, 2) := dk_21 6 (dk_at dksX2_shift_5 11 rfl rfl)
theorem dX2_shift_127 : decode cX2_shift 127 = .ok (.aload_n 0, 1) := dk_42 (dk_at dksX2_shift_5 13 rfl rfl)
theorem dX2_shift_128 : decode cX2_shift 128 = .ok (.getfield 64, 3) := dk_180 0 64 (dk_at dksX2_shift_5 14 rfl rfl)
theorem dX2_shift_131 : decode cX2_shift 131 = .ok (.bipush 60, 2) := dk_16 60 (dk_at dksX2_shift_5 17 rfl rfl)
theorem dX2_shift_133 : decode cX2_shift 133 = .ok (.iload_n 1, 1) := dk_27 (dk_at dksX2_shift_5 19 rfl rfl)
theorem dX2_shift_134 : decode cX2_shift 134 = .ok (.imul, 1) := dk_104 (dk_at dksX2_shift_5 20 rfl rfl)
theorem dX2_shift_135 : decode cX2_shift 135 = .ok (.iload_n 2, 1) := dk_28 (dk_at dksX2_shift_5 21 rfl rfl)
theorem dX2_shift_136 : decode cX2_shift 136 = .ok (.iadd, 1) := dk_96 (dk_at dksX2_shift_5 22 rfl rfl)
theorem dX2_shift_137 : decode cX2_shift 137 = .ok (.iload 6, 2) := dk_21 6 (dk_at dksX2_shift_6 0 rfl rfl)
theorem dX2_shift_139 : decode cX2_shift 139 = .ok (.iadd, 1) := dk_96 (dk_at dksX2_shift_6 2 rfl rfl)
theorem dX2_shift_140 : decode cX2_shift 140 = .ok (.laload, 1) := dk_47 (dk_at dksX2_shift_6 3 rfl rfl)
theorem dX2_shift_141 : decode cX2_shift 141 = .ok (.lastore, 1) := dk_80 (dk_at dksX2_shift_6 4 rfl rfl)
theorem dX2_shift_142 : decode cX2_shift 142 = .ok (.iinc 6 1, 3) := dk_132 6 1 (dk_at dksX2_shift_6 5 rfl rfl)
theorem dX2_shift_145 : decode cX2_shift 145 = .ok (.goto (-31), 3) := dk_167 255 225 (dk_at dksX2_shift_6 8 rfl rfl)
theorem dX2_shift_148 : decode cX2_shift 148 = .ok (.iconst 0, 1) := dk_3 (dk_at dksX2_shift_6 11 rfl rfl)
theorem dX2_shift_149 : decode cX2_shift 149 = .ok (.istore 6, 2) := dk_54 6 (dk_at dksX2_shift_6 12 rfl rfl)
theorem dX2_shift_151 : decode cX2_shift 151 = .ok (.iload 6, 2) := dk_21 6 (dk_at dksX2_shift_6 14 rfl rfl)
theorem dX2_shift_153 : decode cX2_shift 153 = .ok (.iload 5, 2) := dk_21 5 (dk_at dksX2_shift_6 16 rfl rfl)
theorem dX2_shift_155 : decode cX2_shift 155 = .ok (.if_icmp .ge 31, 3) := dk_162 0 31 (dk_at dksX2_shift_6 18 rfl rfl)
theorem dX2_shift_158 : decode cX2_shift 158 = .ok (.aload_n 0, 1) := dk_42 (dk_at dksX2_shift_6 21 rfl rfl)
theorem dX2_shift_159 : decode cX2_shift 159 = .ok (.getfield 64, 3) := dk_180 0 64 (dk_at dksX2_shift_7 0 rfl rfl)
theorem dX2_shift_162 : decode cX2_shift 162 = .ok (.bipush 60, 2) := dk_16 60 (dk_at dksX2_shift_7 3 rfl rfl)
theorem dX2_shift_164 : decode cX2_shift 164 = .ok (.iload_n 3, 1) := dk_29 (dk_at dksX2_shift_7 5 rfl rfl)
theorem dX2_shift_165 : decode cX2_shift 165 = .ok (.imul, 1) := dk_104 (dk_at dksX2_shift_7 6 rfl rfl)
theorem dX2_shift_166 : decode cX2_shift 166 = .ok (.iload 4, 2) := dk_21 4 (dk_at dksX2_shift_7 7 rfl rfl)
theorem dX2_shift_168 : decode cX2_shift 168 = .ok (.iadd, 1) := dk_96 (dk_at dksX2_shift_7 9 rfl rfl)
theorem dX2_shift_169 : decode cX2_shift 169 = .ok (.iload 6, 2) := dk_21 6 (dk_at dksX2_shift_7 10 rfl rfl)
theorem dX2_shift_171 : decode cX2_shift 171 = .ok (.iadd, 1) := dk_96 (dk_at dksX2_shift_7 12 rfl rfl)
theorem dX2_shift_172 : decode cX2_shift 172 = .ok (.aload_n 0, 1) := dk_42 (dk_at dksX2_shift_7 13 rfl rfl)
theorem dX2_shift_173 : decode cX2_shift 173 = .ok (.getfield 68, 3) := dk_180 0 68 (dk_at dksX2_shift_7 14 rfl rfl)
theorem dX2_shift_176 : decode cX2_shift 176 = .ok (.iload 6, 2) := dk_21 6 (dk_at dksX2_shift_7 17 rfl rfl)
theorem dX2_shift_178 : decode cX2_shift 178 = .ok (.laload, 1) := dk_47 (dk_at dksX2_shift_7 19 rfl rfl)
theorem dX2_shift_179 : decode cX2_shift 179 = .ok (.lastore, 1) := dk_80 (dk_at dksX2_shift_7 20 rfl rfl)
theorem dX2_shift_180 : decode cX2_shift 180 = .ok (.iinc 6 1, 3) := dk_132 6 1 (dk_at dksX2_shift_7 21 rfl rfl)
theorem dX2_shift_183 : decode cX2_shift 183 = .ok (.goto (-32), 3) := dk_167 255 224 (dk_at dksX2_shift_8 0 rfl rfl)
theorem dX2_shift_186 : decode cX2_shift 186 = .ok (.iload 5, 2) := dk_21 5 (dk_at dksX2_shift_8 3 rfl rfl)
theorem dX2_shift_188 : decode cX2_shift 188 = .ok (.ireturn, 1) := dk_172 (dk_at dksX2_shift_8 5 rfl rfl)
abbrev cX2_taken : ByteArray := prog_31_method_83_code
def yX2_taken : MethodName := ⟨RX2, "taken", "(II)I"⟩
def dkwX2_taken_4 : List UInt8 := [16, 244, 167, 0, 4, 29, 172]
abbrev dktX2_taken_4 : List UInt8 := dkwX2_taken_4 ++ []
def dkwX2_taken_3 : List UInt8 := [21, 4, 28, 159, 0, 15, 42, 180, 0, 80, 21, 4, 46, 54, 4, 167, 255, 235, 21, 4, 2, 160, 0, 8]
abbrev dktX2_taken_3 : List UInt8 := dkwX2_taken_3 ++ dktX2_taken_4
def dkwX2_taken_2 : List UInt8 := [42, 180, 0, 86, 42, 180, 0, 58, 27, 46, 16, 10, 100, 46, 62, 29, 54, 4, 21, 4, 2, 159, 0, 21]
abbrev dktX2_taken_2 : List UInt8 := dkwX2_taken_2 ++ dktX2_taken_3
def dkwX2_taken_1 : List UInt8 := [46, 16, 10, 162, 0, 21, 42, 180, 0, 58, 27, 46, 2, 160, 0, 8, 16, 245, 167, 0, 5, 16, 244, 172]
abbrev dktX2_taken_1 : List UInt8 := dkwX2_taken_1 ++ dktX2_taken_2
def dkwX2_taken_0 : List UInt8 := [27, 184, 1, 12, 153, 0, 13, 28, 3, 16, 7, 184, 0, 104, 154, 0, 5, 2, 172, 42, 180, 0, 58, 27]
abbrev dktX2_taken_0 : List UInt8 := dkwX2_taken_0 ++ dktX2_taken_1
theorem dksX2_taken_0 : cX2_taken.data.toList.drop 0 = dktX2_taken_0 := by decide +kernel
theorem dksX2_taken_1 : cX2_taken.data.toList.drop 24 = dktX2_taken_1 := dk_seg dksX2_taken_0 24 rfl rfl
theorem dksX2_taken_2 : cX2_taken.data.toList.drop 48 = dktX2_taken_2 := dk_seg dksX2_taken_1 24 rfl rfl
theorem dksX2_taken_3 : cX2_taken.data.toList.drop 72 = dktX2_taken_3 := dk_seg dksX2_taken_2 24 rfl rfl
theorem dksX2_taken_4 : cX2_taken.data.toList.drop 96 = dktX2_taken_4 := dk_seg dksX2_taken_3 24 rfl rfl
theorem dX2_taken_0 : decode cX2_taken 0 = .ok (.iload_n 1, 1) := dk_27 (dk_at dksX2_taken_0 0 rfl rfl)
theorem dX2_taken_1 : decode cX2_taken 1 = .ok (.invokestatic 268, 3) := dk_184 1 12 (dk_at dksX2_taken_0 1 rfl rfl)
theorem dX2_taken_4 : decode cX2_taken 4 = .ok (.ifCond .eq 13, 3) := dk_153 0 13 (dk_at dksX2_taken_0 4 rfl rfl)
theorem dX2_taken_7 : decode cX2_taken 7 = .ok (.iload_n 2, 1) := dk_28 (dk_at dksX2_taken_0 7 rfl rfl)
theorem dX2_taken_8 : decode cX2_taken 8 = .ok (.iconst 0, 1) := dk_3 (dk_at dksX2_taken_0 8 rfl rfl)
theorem dX2_taken_9 : decode cX2_taken 9 = .ok (.bipush 7, 2) := dk_16 7 (dk_at dksX2_taken_0 9 rfl rfl)
theorem dX2_taken_11 : decode cX2_taken 11 = .ok (.invokestatic 104, 3) := dk_184 0 104 (dk_at dksX2_taken_0 11 rfl rfl)
theorem dX2_taken_14 : decode cX2_taken 14 = .ok (.ifCond .ne 5, 3) := dk_154 0 5 (dk_at dksX2_taken_0 14 rfl rfl)
theorem dX2_taken_17 : decode cX2_taken 17 = .ok (.iconst (-1), 1) := dk_2 (dk_at dksX2_taken_0 17 rfl rfl)
theorem dX2_taken_18 : decode cX2_taken 18 = .ok (.ireturn, 1) := dk_172 (dk_at dksX2_taken_0 18 rfl rfl)
theorem dX2_taken_19 : decode cX2_taken 19 = .ok (.aload_n 0, 1) := dk_42 (dk_at dksX2_taken_0 19 rfl rfl)
theorem dX2_taken_20 : decode cX2_taken 20 = .ok (.getfield 58, 3) := dk_180 0 58 (dk_at dksX2_taken_0 20 rfl rfl)
theorem dX2_taken_23 : decode cX2_taken 23 = .ok (.iload_n 1, 1) := dk_27 (dk_at dksX2_taken_0 23 rfl rfl)
theorem dX2_taken_24 : decode cX2_taken 24 = .ok (.iaload, 1) := dk_46 (dk_at dksX2_taken_1 0 rfl rfl)
theorem dX2_taken_25 : decode cX2_taken 25 = .ok (.bipush 10, 2) := dk_16 10 (dk_at dksX2_taken_1 1 rfl rfl)
theorem dX2_taken_27 : decode cX2_taken 27 = .ok (.if_icmp .ge 21, 3) := dk_162 0 21 (dk_at dksX2_taken_1 3 rfl rfl)
theorem dX2_taken_30 : decode cX2_taken 30 = .ok (.aload_n 0, 1) := dk_42 (dk_at dksX2_taken_1 6 rfl rfl)
theorem dX2_taken_31 : decode cX2_taken 31 = .ok (.getfield 58, 3) := dk_180 0 58 (dk_at dksX2_taken_1 7 rfl rfl)
theorem dX2_taken_34 : decode cX2_taken 34 = .ok (.iload_n 1, 1) := dk_27 (dk_at dksX2_taken_1 10 rfl rfl)
theorem dX2_taken_35 : decode cX2_taken 35 = .ok (.iaload, 1) := dk_46 (dk_at dksX2_taken_1 11 rfl rfl)
theorem dX2_taken_36 : decode cX2_taken 36 = .ok (.iconst (-1), 1) := dk_2 (dk_at dksX2_taken_1 12 rfl rfl)
theorem dX2_taken_37 : decode cX2_taken 37 = .ok (.if_icmp .ne 8, 3) := dk_160 0 8 (dk_at dksX2_taken_1 13 rfl rfl)
theorem dX2_taken_40 : decode cX2_taken 40 = .ok (.bipush (-11), 2) := dk_16 245 (dk_at dksX2_taken_1 16 rfl rfl)
theorem dX2_taken_42 : decode cX2_taken 42 = .ok (.goto 5, 3) := dk_167 0 5 (dk_at dksX2_taken_1 18 rfl rfl)
theorem dX2_taken_45 : decode cX2_taken 45 = .ok (.bipush (-12), 2) := dk_16 244 (dk_at dksX2_taken_1 21 rfl rfl)
theorem dX2_taken_47 : decode cX2_taken 47 = .ok (.ireturn, 1) := dk_172 (dk_at dksX2_taken_1 23 rfl rfl)
theorem dX2_taken_48 : decode cX2_taken 48 = .ok (.aload_n 0, 1) := dk_42 (dk_at dksX2_taken_2 0 rfl rfl)
theorem dX2_taken_49 : decode cX2_taken 49 = .ok (.getfield 86, 3) := dk_180 0 86 (dk_at dksX2_taken_2 1 rfl rfl)
theorem dX2_taken_52 : decode cX2_taken 52 = .ok (.aload_n 0, 1) := dk_42 (dk_at dksX2_taken_2 4 rfl rfl)
theorem dX2_taken_53 : decode cX2_taken 53 = .ok (.getfield 58, 3) := dk_180 0 58 (dk_at dksX2_taken_2 5 rfl rfl)
theorem dX2_taken_56 : decode cX2_taken 56 = .ok (.iload_n 1, 1) := dk_27 (dk_at dksX2_taken_2 8 rfl rfl)
theorem dX2_taken_57 : decode cX2_taken 57 = .ok (.iaload, 1) := dk_46 (dk_at dksX2_taken_2 9 rfl rfl)
theorem dX2_taken_58 : decode cX2_taken 58 = .ok (.bipush 10, 2) := dk_16 10 (dk_at dksX2_taken_2 10 rfl rfl)
theorem dX2_taken_60 : decode cX2_taken 60 = .ok (.isub, 1) := dk_100 (dk_at dksX2_taken_2 12 rfl rfl)
theorem dX2_taken_61 : decode cX2_taken 61 = .ok (.iaload, 1) := dk_46 (dk_at dksX2_taken_2 13 rfl rfl)
theorem dX2_taken_62 : decode cX2_taken 62 = .ok (.istore_n 3, 1) := dk_62 (dk_at dksX2_taken_2 14 rfl rfl)
theorem dX2_taken_63 : decode cX2_taken 63 = .ok (.iload_n 3, 1) := dk_29 (dk_at dksX2_taken_2 15 rfl rfl)
theorem dX2_taken_64 : decode cX2_taken 64 = .ok (.istore 4, 2) := dk_54 4 (dk_at dksX2_taken_2 16 rfl rfl)
theorem dX2_taken_66 : decode cX2_taken 66 = .ok (.iload 4, 2) := dk_21 4 (dk_at dksX2_taken_2 18 rfl rfl)
theorem dX2_taken_68 : decode cX2_taken 68 = .ok (.iconst (-1), 1) := dk_2 (dk_at dksX2_taken_2 20 rfl rfl)
theorem dX2_taken_69 : decode cX2_taken 69 = .ok (.if_icmp .eq 21, 3) := dk_159 0 21 (dk_at dksX2_taken_2 21 rfl rfl)
theorem dX2_taken_72 : decode cX2_taken 72 = .ok (.iload 4, 2) := dk_21 4 (dk_at dksX2_taken_3 0 rfl rfl)
theorem dX2_taken_74 : decode cX2_taken 74 = .ok (.iload_n 2, 1) := dk_28 (dk_at dksX2_taken_3 2 rfl rfl)
theorem dX2_taken_75 : decode cX2_taken 75 = .ok (.if_icmp .eq 15, 3) := dk_159 0 15 (dk_at dksX2_taken_3 3 rfl rfl)
theorem dX2_taken_78 : decode cX2_taken 78 = .ok (.aload_n 0, 1) := dk_42 (dk_at dksX2_taken_3 6 rfl rfl)
theorem dX2_taken_79 : decode cX2_taken 79 = .ok (.getfield 80, 3) := dk_180 0 80 (dk_at dksX2_taken_3 7 rfl rfl)
theorem dX2_taken_82 : decode cX2_taken 82 = .ok (.iload 4, 2) := dk_21 4 (dk_at dksX2_taken_3 10 rfl rfl)
theorem dX2_taken_84 : decode cX2_taken 84 = .ok (.iaload, 1) := dk_46 (dk_at dksX2_taken_3 12 rfl rfl)
theorem dX2_taken_85 : decode cX2_taken 85 = .ok (.istore 4, 2) := dk_54 4 (dk_at dksX2_taken_3 13 rfl rfl)
theorem dX2_taken_87 : decode cX2_taken 87 = .ok (.goto (-21), 3) := dk_167 255 235 (dk_at dksX2_taken_3 15 rfl rfl)
theorem dX2_taken_90 : decode cX2_taken 90 = .ok (.iload 4, 2) := dk_21 4 (dk_at dksX2_taken_3 18 rfl rfl)
theorem dX2_taken_92 : decode cX2_taken 92 = .ok (.iconst (-1), 1) := dk_2 (dk_at dksX2_taken_3 20 rfl rfl)
theorem dX2_taken_93 : decode cX2_taken 93 = .ok (.if_icmp .ne 8, 3) := dk_160 0 8 (dk_at dksX2_taken_3 21 rfl rfl)
theorem dX2_taken_96 : decode cX2_taken 96 = .ok (.bipush (-12), 2) := dk_16 244 (dk_at dksX2_taken_4 0 rfl rfl)
theorem dX2_taken_98 : decode cX2_taken 98 = .ok (.goto 4, 3) := dk_167 0 4 (dk_at dksX2_taken_4 2 rfl rfl)
theorem dX2_taken_101 : decode cX2_taken 101 = .ok (.iload_n 3, 1) := dk_29 (dk_at dksX2_taken_4 5 rfl rfl)
theorem dX2_taken_102 : decode cX2_taken 102 = .ok (.ireturn, 1) := dk_172 (dk_at dksX2_taken_4 6 rfl rfl)
abbrev cX2_count : ByteArray := prog_31_method_84_code
def yX2_count : MethodName := ⟨RX2, "count", "(I)I"⟩
def dkwX2_count_3 : List UInt8 := [180, 1, 48, 172, 42, 180, 1, 55, 172, 2, 172]
abbrev dktX2_count_3 : List UInt8 := dkwX2_count_3 ++ []
def dkwX2_count_2 : List UInt8 := [42, 180, 0, 101, 172, 42, 182, 0, 227, 184, 0, 238, 172, 42, 180, 0, 130, 172, 42, 180, 0, 124, 172, 42]
abbrev dktX2_count_2 : List UInt8 := dkwX2_count_2 ++ dktX2_count_3
def dkwX2_count_1 : List UInt8 := [170, 0, 0, 0, 0, 0, 72, 0, 0, 0, 0, 0, 0, 0, 5, 0, 0, 0, 39, 0, 0, 0, 44, 0, 0, 0, 52, 0, 0, 0, 57, 0, 0, 0, 62, 0, 0, 0, 67]
abbrev dktX2_count_1 : List UInt8 := dkwX2_count_1 ++ dktX2_count_2
def dkwX2_count_0 : List UInt8 := [27]
abbrev dktX2_count_0 : List UInt8 := dkwX2_count_0 ++ dktX2_count_1
theorem dksX2_count_0 : cX2_count.data.toList.drop 0 = dktX2_count_0 := by decide +kernel
theorem dksX2_count_1 : cX2_count.data.toList.drop 1 = dktX2_count_1 := dk_seg dksX2_count_0 1 rfl rfl
theorem dksX2_count_2 : cX2_count.data.toList.drop 40 = dktX2_count_2 := dk_seg dksX2_count_1 39 rfl rfl
theorem dksX2_count_3 : cX2_count.data.toList.drop 64 = dktX2_count_3 := dk_seg dksX2_count_2 24 rfl rfl
theorem dX2_count_0 : decode cX2_count 0 = .ok (.iload_n 1, 1) := dk_27 (dk_at dksX2_count_0 0 rfl rfl)
theorem dX2_count_1 : decode cX2_count 1 = .ok (.tableswitch 72 0 5 #[39, 44, 52, 57, 62, 67], 39) := by decide +kernel
theorem dX2_count_40 : decode cX2_count 40 = .ok (.aload_n 0, 1) := dk_42 (dk_at dksX2_count_2 0 rfl rfl)
theorem dX2_count_41 : decode cX2_count 41 = .ok (.getfield 101, 3) := dk_180 0 101 (dk_at dksX2_count_2 1 rfl rfl)
theorem dX2_count_44 : decode cX2_count 44 = .ok (.ireturn, 1) := dk_172 (dk_at dksX2_count_2 4 rfl rfl)
theorem dX2_count_45 : decode cX2_count 45 = .ok (.aload_n 0, 1) := dk_42 (dk_at dksX2_count_2 5 rfl rfl)
theorem dX2_count_46 : decode cX2_count 46 = .ok (.invokevirtual 227, 3) := dk_182 0 227 (dk_at dksX2_count_2 6 rfl rfl)
theorem dX2_count_49 : decode cX2_count 49 = .ok (.invokestatic 238, 3) := dk_184 0 238 (dk_at dksX2_count_2 9 rfl rfl)
theorem dX2_count_52 : decode cX2_count 52 = .ok (.ireturn, 1) := dk_172 (dk_at dksX2_count_2 12 rfl rfl)
theorem dX2_count_53 : decode cX2_count 53 = .ok (.aload_n 0, 1) := dk_42 (dk_at dksX2_count_2 13 rfl rfl)
theorem dX2_count_54 : decode cX2_count 54 = .ok (.getfield 130, 3) := dk_180 0 130 (dk_at dksX2_count_2 14 rfl rfl)
theorem dX2_count_57 : decode cX2_count 57 = .ok (.ireturn, 1) := dk_172 (dk_at dksX2_count_2 17 rfl rfl)
theorem dX2_count_58 : decode cX2_count 58 = .ok (.aload_n 0, 1) := dk_42 (dk_at dksX2_count_2 18 rfl rfl)
theorem dX2_count_59 : decode cX2_count 59 = .ok (.getfield 124, 3) := dk_180 0 124 (dk_at dksX2_count_2 19 rfl rfl)
theorem dX2_count_62 : decode cX2_count 62 = .ok (.ireturn, 1) := dk_172 (dk_at dksX2_count_2 22 rfl rfl)
theorem dX2_count_63 : decode cX2_count 63 = .ok (.aload_n 0, 1) := dk_42 (dk_at dksX2_count_2 23 rfl rfl)
theorem dX2_count_64 : decode cX2_count 64 = .ok (.getfield 304, 3) := dk_180 1 48 (dk_at dksX2_count_3 0 rfl rfl)
theorem dX2_count_67 : decode cX2_count 67 = .ok (.ireturn, 1) := dk_172 (dk_at dksX2_count_3 3 rfl rfl)
theorem dX2_count_68 : decode cX2_count 68 = .ok (.aload_n 0, 1) := dk_42 (dk_at dksX2_count_3 4 rfl rfl)
theorem dX2_count_69 : decode cX2_count 69 = .ok (.getfield 311, 3) := dk_180 1 55 (dk_at dksX2_count_3 5 rfl rfl)
theorem dX2_count_72 : decode cX2_count 72 = .ok (.ireturn, 1) := dk_172 (dk_at dksX2_count_3 8 rfl rfl)
theorem dX2_count_73 : decode cX2_count 73 = .ok (.iconst (-1), 1) := dk_2 (dk_at dksX2_count_3 9 rfl rfl)
theorem dX2_count_74 : decode cX2_count 74 = .ok (.ireturn, 1) := dk_172 (dk_at dksX2_count_3 10 rfl rfl)
theorem q92 : (Jvm.Cond.initialized "ShieldLineModel") ∈ lw_all := lw_g (lw_at lw_m1 3 rfl) rfl
theorem q1529 : (Jvm.Cond.instantiable "ShieldLineModel" (44 : Nat)) ∈ lw_all := lw_g (lw_at lw_m7 0 rfl) rfl
theorem q1531 : (Jvm.Cond.instanceMethod ({ cls := "ShieldLineModel", name := "<init>", desc := "()V" } : Jvm.MethodName)) ∈ lw_all := lw_g (lw_at lw_m7 2 rfl) rfl
theorem q1532 : (Jvm.Cond.code ({ cls := "ShieldLineModel", name := "<init>", desc := "()V" } : Jvm.MethodName) prog_31_method_1_code (1 : Nat) (Option.none : Option Jvm.ClassFile.FieldType)) ∈ lw_all := lw_g (lw_at lw_m7 3 rfl) rfl
theorem q1533 : (Jvm.Cond.methodLink "ShieldLineModel" (1 : Nat) ({ cls := "java/lang/Object", name := "<init>", desc := "()V" } : Jvm.MethodName)) ∈ lw_all := lw_g (lw_at lw_m7 4 rfl) rfl
theorem q1534 : (Jvm.Cond.methodLink "ShieldLineModel" (7 : Nat) ({ cls := "ShieldLineModel", name := "fresh", desc := "()[I" } : Jvm.MethodName)) ∈ lw_all := lw_g (lw_at lw_m7 5 rfl) rfl
theorem q1535 : (Jvm.Cond.static ({ cls := "ShieldLineModel", name := "fresh", desc := "()[I" } : Jvm.MethodName)) ∈ lw_all := lw_g (lw_at lw_m7 6 rfl) rfl
theorem q1536 : (Jvm.Cond.code ({ cls := "ShieldLineModel", name := "fresh", desc := "()[I" } : Jvm.MethodName) prog_31_method_4_code (1 : Nat) (Option.some (Jvm.ClassFile.FieldType.array Jvm.ClassFile.FieldType.int))) ∈ lw_all := lw_g (lw_at lw_m7 7 rfl) rfl
theorem q1537 : (Jvm.Cond.fieldLink "ShieldLineModel" (13 : Nat) "ShieldLineModel" "now" "[I") ∈ lw_all := lw_g (lw_at lw_m7 8 rfl) rfl
theorem q1538 : (Jvm.Cond.fieldLink "ShieldLineModel" (17 : Nat) "ShieldLineModel" "minds" "[I") ∈ lw_all := lw_g (lw_at lw_m7 9 rfl) rfl
theorem q1539 : (Jvm.Cond.fieldLink "ShieldLineModel" (101 : Nat) "ShieldLineModel" "many" "I") ∈ lw_all := lw_g (lw_at lw_m7 10 rfl) rfl
theorem q1540 : (Jvm.Cond.fieldLink "ShieldLineModel" (20 : Nat) "ShieldLineModel" "changed" "[I") ∈ lw_all := lw_g (lw_at lw_m7 11 rfl) rfl
theorem q1541 : (Jvm.Cond.fieldLink "ShieldLineModel" (23 : Nat) "ShieldLineModel" "old" "[I") ∈ lw_all := lw_g (lw_at lw_m7 12 rfl) rfl
theorem q1542 : (Jvm.Cond.fieldLink "ShieldLineModel" (26 : Nat) "ShieldLineModel" "young" "[I") ∈ lw_all := lw_g (lw_at lw_m7 13 rfl) rfl
theorem q1543 : (Jvm.Cond.fieldLink "ShieldLineModel" (124 : Nat) "ShieldLineModel" "done" "I") ∈ lw_all := lw_g (lw_at lw_m7 14 rfl) rfl
theorem q1544 : (Jvm.Cond.fieldLink "ShieldLineModel" (127 : Nat) "ShieldLineModel" "known" "I") ∈ lw_all := lw_g (lw_at lw_m7 15 rfl) rfl
theorem q1545 : (Jvm.Cond.fieldLink "ShieldLineModel" (29 : Nat) "ShieldLineModel" "tape" "[I") ∈ lw_all := lw_g (lw_at lw_m7 16 rfl) rfl
theorem q1546 : (Jvm.Cond.fieldLink "ShieldLineModel" (130 : Nat) "ShieldLineModel" "taped" "I") ∈ lw_all := lw_g (lw_at lw_m7 17 rfl) rfl
theorem q1547 : (Jvm.Cond.fieldLink "ShieldLineModel" (32 : Nat) "ShieldLineModel" "text" "[I") ∈ lw_all := lw_g (lw_at lw_m7 18 rfl) rfl
theorem q1548 : (Jvm.Cond.fieldLink "ShieldLineModel" (181 : Nat) "ShieldLineModel" "texted" "I") ∈ lw_all := lw_g (lw_at lw_m7 19 rfl) rfl
theorem q1549 : (Jvm.Cond.fieldLink "ShieldLineModel" (184 : Nat) "ShieldLineModel" "isLaw" "Z") ∈ lw_all := lw_g (lw_at lw_m7 20 rfl) rfl
theorem q1550 : (Jvm.Cond.fieldLink "ShieldLineModel" (35 : Nat) "ShieldLineModel" "read" "[I") ∈ lw_all := lw_g (lw_at lw_m7 21 rfl) rfl
theorem q1551 : (Jvm.Cond.fieldLink "ShieldLineModel" (140 : Nat) "ShieldLineModel" "size" "I") ∈ lw_all := lw_g (lw_at lw_m7 22 rfl) rfl
theorem q1552 : (Jvm.Cond.fieldLink "ShieldLineModel" (137 : Nat) "ShieldLineModel" "at" "I") ∈ lw_all := lw_g (lw_at lw_m7 23 rfl) rfl
theorem q1553 : (Jvm.Cond.fieldLink "ShieldLineModel" (133 : Nat) "ShieldLineModel" "well" "Z") ∈ lw_all := lw_g (lw_at lw_m7 24 rfl) rfl
theorem q1554 : (Jvm.Cond.fieldLink "ShieldLineModel" (147 : Nat) "ShieldLineModel" "open" "I") ∈ lw_all := lw_g (lw_at lw_m7 25 rfl) rfl
theorem q1555 : (Jvm.Cond.fieldLink "ShieldLineModel" (38 : Nat) "ShieldLineModel" "names" "[I") ∈ lw_all := lw_g (lw_at lw_m7 26 rfl) rfl
theorem q1556 : (Jvm.Cond.fieldLink "ShieldLineModel" (41 : Nat) "ShieldLineModel" "letters" "[C") ∈ lw_all := lw_g (lw_at lw_m7 27 rfl) rfl
theorem q1557 : (Jvm.Cond.fieldLink "ShieldLineModel" (45 : Nat) "ShieldLineModel" "gone" "I") ∈ lw_all := lw_g (lw_at lw_m7 28 rfl) rfl
theorem q1558 : (Jvm.Cond.fieldLink "ShieldLineModel" (49 : Nat) "ShieldLineModel" "more" "[I") ∈ lw_all := lw_g (lw_at lw_m7 29 rfl) rfl
theorem q1559 : (Jvm.Cond.fieldLink "ShieldLineModel" (208 : Nat) "ShieldLineModel" "came" "I") ∈ lw_all := lw_g (lw_at lw_m7 30 rfl) rfl
theorem q1560 : (Jvm.Cond.fieldLink "ShieldLineModel" (52 : Nat) "ShieldLineModel" "whom" "[I") ∈ lw_all := lw_g (lw_at lw_m7 31 rfl) rfl
theorem q1561 : (Jvm.Cond.fieldLink "ShieldLineModel" (55 : Nat) "ShieldLineModel" "best" "[I") ∈ lw_all := lw_g (lw_at lw_m7 32 rfl) rfl
theorem q1562 : (Jvm.Cond.fieldLink "ShieldLineModel" (245 : Nat) "ShieldLineModel" "fewest" "I") ∈ lw_all := lw_g (lw_at lw_m7 33 rfl) rfl
theorem q1563 : (Jvm.Cond.fieldLink "ShieldLineModel" (248 : Nat) "ShieldLineModel" "most" "I") ∈ lw_all := lw_g (lw_at lw_m7 34 rfl) rfl
theorem q1564 : (Jvm.Cond.fieldLink "ShieldLineModel" (235 : Nat) "ShieldLineModel" "days" "I") ∈ lw_all := lw_g (lw_at lw_m7 35 rfl) rfl
theorem q1565 : (Jvm.Cond.fieldLink "ShieldLineModel" (58 : Nat) "ShieldLineModel" "holds" "[I") ∈ lw_all := lw_g (lw_at lw_m7 36 rfl) rfl
theorem q1566 : (Jvm.Cond.fieldLink "ShieldLineModel" (61 : Nat) "ShieldLineModel" "sizes" "[I") ∈ lw_all := lw_g (lw_at lw_m7 37 rfl) rfl
theorem q1567 : (Jvm.Cond.fieldLink "ShieldLineModel" (64 : Nat) "ShieldLineModel" "elements" "[J") ∈ lw_all := lw_g (lw_at lw_m7 38 rfl) rfl
theorem q1568 : (Jvm.Cond.fieldLink "ShieldLineModel" (68 : Nat) "ShieldLineModel" "moved" "[J") ∈ lw_all := lw_g (lw_at lw_m7 39 rfl) rfl
theorem q1569 : (Jvm.Cond.fieldLink "ShieldLineModel" (294 : Nat) "ShieldLineModel" "begun" "I") ∈ lw_all := lw_g (lw_at lw_m7 40 rfl) rfl
theorem q1570 : (Jvm.Cond.fieldLink "ShieldLineModel" (71 : Nat) "ShieldLineModel" "led" "[I") ∈ lw_all := lw_g (lw_at lw_m7 41 rfl) rfl
theorem q1571 : (Jvm.Cond.fieldLink "ShieldLineModel" (74 : Nat) "ShieldLineModel" "kept" "[I") ∈ lw_all := lw_g (lw_at lw_m7 42 rfl) rfl
theorem q1572 : (Jvm.Cond.fieldLink "ShieldLineModel" (77 : Nat) "ShieldLineModel" "keptLed" "[I") ∈ lw_all := lw_g (lw_at lw_m7 43 rfl) rfl
theorem q1573 : (Jvm.Cond.fieldLink "ShieldLineModel" (298 : Nat) "ShieldLineModel" "keptMany" "I") ∈ lw_all := lw_g (lw_at lw_m7 44 rfl) rfl
theorem q1574 : (Jvm.Cond.fieldLink "ShieldLineModel" (301 : Nat) "ShieldLineModel" "isKept" "Z") ∈ lw_all := lw_g (lw_at lw_m7 45 rfl) rfl
theorem q1575 : (Jvm.Cond.fieldLink "ShieldLineModel" (80 : Nat) "ShieldLineModel" "above" "[I") ∈ lw_all := lw_g (lw_at lw_m7 46 rfl) rfl
theorem q1576 : (Jvm.Cond.fieldLink "ShieldLineModel" (83 : Nat) "ShieldLineModel" "acts" "[I") ∈ lw_all := lw_g (lw_at lw_m7 47 rfl) rfl
theorem q1577 : (Jvm.Cond.fieldLink "ShieldLineModel" (86 : Nat) "ShieldLineModel" "kinds" "[I") ∈ lw_all := lw_g (lw_at lw_m7 48 rfl) rfl
theorem q1578 : (Jvm.Cond.fieldLink "ShieldLineModel" (304 : Nat) "ShieldLineModel" "bodies" "I") ∈ lw_all := lw_g (lw_at lw_m7 49 rfl) rfl
theorem q1579 : (Jvm.Cond.fieldLink "ShieldLineModel" (89 : Nat) "ShieldLineModel" "trace" "[I") ∈ lw_all := lw_g (lw_at lw_m7 50 rfl) rfl
theorem q1580 : (Jvm.Cond.fieldLink "ShieldLineModel" (311 : Nat) "ShieldLineModel" "ran" "I") ∈ lw_all := lw_g (lw_at lw_m7 51 rfl) rfl
theorem q1581 : (Jvm.Cond.laysFinal "ShieldLineModel" "ShieldLineModel" "now" "[I") ∈ lw_all := lw_g (lw_at lw_m7 52 rfl) rfl
theorem q1582 : (Jvm.Cond.soleField "ShieldLineModel" "now") ∈ lw_all := lw_g (lw_at lw_m7 53 rfl) rfl
theorem q1583 : (Jvm.Cond.laysFinal "ShieldLineModel" "ShieldLineModel" "minds" "[I") ∈ lw_all := lw_g (lw_at lw_m7 54 rfl) rfl
theorem q1584 : (Jvm.Cond.soleField "ShieldLineModel" "minds") ∈ lw_all := lw_g (lw_at lw_m7 55 rfl) rfl
theorem q1585 : (Jvm.Cond.lays "ShieldLineModel" "ShieldLineModel" "many" "I") ∈ lw_all := lw_g (lw_at lw_m7 56 rfl) rfl
theorem q1586 : (Jvm.Cond.soleField "ShieldLineModel" "many") ∈ lw_all := lw_g (lw_at lw_m7 57 rfl) rfl
theorem q1587 : (Jvm.Cond.laysFinal "ShieldLineModel" "ShieldLineModel" "changed" "[I") ∈ lw_all := lw_g (lw_at lw_m7 58 rfl) rfl
theorem q1588 : (Jvm.Cond.soleField "ShieldLineModel" "changed") ∈ lw_all := lw_g (lw_at lw_m7 59 rfl) rfl
theorem q1589 : (Jvm.Cond.laysFinal "ShieldLineModel" "ShieldLineModel" "old" "[I") ∈ lw_all := lw_g (lw_at lw_m7 60 rfl) rfl
theorem q1590 : (Jvm.Cond.soleField "ShieldLineModel" "old") ∈ lw_all := lw_g (lw_at lw_m7 61 rfl) rfl
theorem q1591 : (Jvm.Cond.laysFinal "ShieldLineModel" "ShieldLineModel" "young" "[I") ∈ lw_all := lw_g (lw_at lw_m7 62 rfl) rfl
theorem q1592 : (Jvm.Cond.soleField "ShieldLineModel" "young") ∈ lw_all := lw_g (lw_at lw_m7 63 rfl) rfl
theorem q1593 : (Jvm.Cond.lays "ShieldLineModel" "ShieldLineModel" "done" "I") ∈ lw_all := lw_g (lw_at lw_m7 64 rfl) rfl
theorem q1594 : (Jvm.Cond.soleField "ShieldLineModel" "done") ∈ lw_all := lw_g (lw_at lw_m7 65 rfl) rfl
theorem q1595 : (Jvm.Cond.lays "ShieldLineModel" "ShieldLineModel" "known" "I") ∈ lw_all := lw_g (lw_at lw_m7 66 rfl) rfl
theorem q1596 : (Jvm.Cond.soleField "ShieldLineModel" "known") ∈ lw_all := lw_g (lw_at lw_m7 67 rfl) rfl
theorem q1597 : (Jvm.Cond.laysFinal "ShieldLineModel" "ShieldLineModel" "tape" "[I") ∈ lw_all := lw_g (lw_at lw_m7 68 rfl) rfl
theorem q1598 : (Jvm.Cond.soleField "ShieldLineModel" "tape") ∈ lw_all := lw_g (lw_at lw_m7 69 rfl) rfl
theorem q1599 : (Jvm.Cond.lays "ShieldLineModel" "ShieldLineModel" "taped" "I") ∈ lw_all := lw_g (lw_at lw_m7 70 rfl) rfl
theorem q1600 : (Jvm.Cond.soleField "ShieldLineModel" "taped") ∈ lw_all := lw_g (lw_at lw_m7 71 rfl) rfl
theorem q1601 : (Jvm.Cond.laysFinal "ShieldLineModel" "ShieldLineModel" "text" "[I") ∈ lw_all := lw_g (lw_at lw_m7 72 rfl) rfl
theorem q1602 : (Jvm.Cond.soleField "ShieldLineModel" "text") ∈ lw_all := lw_g (lw_at lw_m7 73 rfl) rfl
theorem q1603 : (Jvm.Cond.lays "ShieldLineModel" "ShieldLineModel" "texted" "I") ∈ lw_all := lw_g (lw_at lw_m7 74 rfl) rfl
theorem q1604 : (Jvm.Cond.soleField "ShieldLineModel" "texted") ∈ lw_all := lw_g (lw_at lw_m7 75 rfl) rfl
theorem q1605 : (Jvm.Cond.lays "ShieldLineModel" "ShieldLineModel" "isLaw" "Z") ∈ lw_all := lw_g (lw_at lw_m7 76 rfl) rfl
theorem q1606 : (Jvm.Cond.soleField "ShieldLineModel" "isLaw") ∈ lw_all := lw_g (lw_at lw_m7 77 rfl) rfl
theorem q1607 : (Jvm.Cond.laysFinal "ShieldLineModel" "ShieldLineModel" "read" "[I") ∈ lw_all := lw_g (lw_at lw_m7 78 rfl) rfl
theorem q1608 : (Jvm.Cond.soleField "ShieldLineModel" "read") ∈ lw_all := lw_g (lw_at lw_m7 79 rfl) rfl
theorem q1609 : (Jvm.Cond.lays "ShieldLineModel" "ShieldLineModel" "size" "I") ∈ lw_all := lw_g (lw_at lw_m7 80 rfl) rfl
theorem q1610 : (Jvm.Cond.soleField "ShieldLineModel" "size") ∈ lw_all := lw_g (lw_at lw_m7 81 rfl) rfl
theorem q1611 : (Jvm.Cond.lays "ShieldLineModel" "ShieldLineModel" "at" "I") ∈ lw_all := lw_g (lw_at lw_m7 82 rfl) rfl
theorem q1612 : (Jvm.Cond.soleField "ShieldLineModel" "at") ∈ lw_all := lw_g (lw_at lw_m7 83 rfl) rfl
theorem q1613 : (Jvm.Cond.lays "ShieldLineModel" "ShieldLineModel" "well" "Z") ∈ lw_all := lw_g (lw_at lw_m7 84 rfl) rfl
theorem q1614 : (Jvm.Cond.soleField "ShieldLineModel" "well") ∈ lw_all := lw_g (lw_at lw_m7 85 rfl) rfl
theorem q1615 : (Jvm.Cond.lays "ShieldLineModel" "ShieldLineModel" "open" "I") ∈ lw_all := lw_g (lw_at lw_m7 86 rfl) rfl
theorem q1616 : (Jvm.Cond.soleField "ShieldLineModel" "open") ∈ lw_all := lw_g (lw_at lw_m7 87 rfl) rfl
theorem q1617 : (Jvm.Cond.laysFinal "ShieldLineModel" "ShieldLineModel" "names" "[I") ∈ lw_all := lw_g (lw_at lw_m7 88 rfl) rfl
theorem q1618 : (Jvm.Cond.soleField "ShieldLineModel" "names") ∈ lw_all := lw_g (lw_at lw_m7 89 rfl) rfl
theorem q1619 : (Jvm.Cond.laysFinal "ShieldLineModel" "ShieldLineModel" "letters" "[C") ∈ lw_all := lw_g (lw_at lw_m7 90 rfl) rfl
theorem q1620 : (Jvm.Cond.soleField "ShieldLineModel" "letters") ∈ lw_all := lw_g (lw_at lw_m7 91 rfl) rfl
theorem q1621 : (Jvm.Cond.lays "ShieldLineModel" "ShieldLineModel" "gone" "I") ∈ lw_all := lw_g (lw_at lw_m7 92 rfl) rfl
theorem q1622 : (Jvm.Cond.soleField "ShieldLineModel" "gone") ∈ lw_all := lw_g (lw_at lw_m7 93 rfl) rfl
theorem q1623 : (Jvm.Cond.laysFinal "ShieldLineModel" "ShieldLineModel" "more" "[I") ∈ lw_all := lw_g (lw_at lw_m7 94 rfl) rfl
theorem q1624 : (Jvm.Cond.soleField "ShieldLineModel" "more") ∈ lw_all := lw_g (lw_at lw_m7 95 rfl) rfl
theorem q1625 : (Jvm.Cond.lays "ShieldLineModel" "ShieldLineModel" "came" "I") ∈ lw_all := lw_g (lw_at lw_m7 96 rfl) rfl
theorem q1626 : (Jvm.Cond.soleField "ShieldLineModel" "came") ∈ lw_all := lw_g (lw_at lw_m7 97 rfl) rfl
theorem q1627 : (Jvm.Cond.laysFinal "ShieldLineModel" "ShieldLineModel" "whom" "[I") ∈ lw_all := lw_g (lw_at lw_m7 98 rfl) rfl
theorem q1628 : (Jvm.Cond.soleField "ShieldLineModel" "whom") ∈ lw_all := lw_g (lw_at lw_m7 99 rfl) rfl
theorem q1629 : (Jvm.Cond.laysFinal "ShieldLineModel" "ShieldLineModel" "best" "[I") ∈ lw_all := lw_g (lw_at lw_m7 100 rfl) rfl
theorem q1630 : (Jvm.Cond.soleField "ShieldLineModel" "best") ∈ lw_all := lw_g (lw_at lw_m7 101 rfl) rfl
theorem q1631 : (Jvm.Cond.lays "ShieldLineModel" "ShieldLineModel" "fewest" "I") ∈ lw_all := lw_g (lw_at lw_m7 102 rfl) rfl
theorem q1632 : (Jvm.Cond.soleField "ShieldLineModel" "fewest") ∈ lw_all := lw_g (lw_at lw_m7 103 rfl) rfl
theorem q1633 : (Jvm.Cond.lays "ShieldLineModel" "ShieldLineModel" "most" "I") ∈ lw_all := lw_g (lw_at lw_m7 104 rfl) rfl
theorem q1634 : (Jvm.Cond.soleField "ShieldLineModel" "most") ∈ lw_all := lw_g (lw_at lw_m7 105 rfl) rfl
theorem q1635 : (Jvm.Cond.lays "ShieldLineModel" "ShieldLineModel" "days" "I") ∈ lw_all := lw_g (lw_at lw_m7 106 rfl) rfl
theorem q1636 : (Jvm.Cond.soleField "ShieldLineModel" "days") ∈ lw_all := lw_g (lw_at lw_m7 107 rfl) rfl
theorem q1637 : (Jvm.Cond.laysFinal "ShieldLineModel" "ShieldLineModel" "holds" "[I") ∈ lw_all := lw_g (lw_at lw_m7 108 rfl) rfl
theorem q1638 : (Jvm.Cond.soleField "ShieldLineModel" "holds") ∈ lw_all := lw_g (lw_at lw_m7 109 rfl) rfl
theorem q1639 : (Jvm.Cond.laysFinal "ShieldLineModel" "ShieldLineModel" "sizes" "[I") ∈ lw_all := lw_g (lw_at lw_m7 110 rfl) rfl
theorem q1640 : (Jvm.Cond.soleField "ShieldLineModel" "sizes") ∈ lw_all := lw_g (lw_at lw_m7 111 rfl) rfl
theorem q1641 : (Jvm.Cond.laysFinal "ShieldLineModel" "ShieldLineModel" "elements" "[J") ∈ lw_all := lw_g (lw_at lw_m7 112 rfl) rfl
theorem q1642 : (Jvm.Cond.soleField "ShieldLineModel" "elements") ∈ lw_all := lw_g (lw_at lw_m7 113 rfl) rfl
theorem q1643 : (Jvm.Cond.laysFinal "ShieldLineModel" "ShieldLineModel" "moved" "[J") ∈ lw_all := lw_g (lw_at lw_m7 114 rfl) rfl
theorem q1644 : (Jvm.Cond.soleField "ShieldLineModel" "moved") ∈ lw_all := lw_g (lw_at lw_m7 115 rfl) rfl
theorem q1645 : (Jvm.Cond.lays "ShieldLineModel" "ShieldLineModel" "begun" "I") ∈ lw_all := lw_g (lw_at lw_m7 116 rfl) rfl
theorem q1646 : (Jvm.Cond.soleField "ShieldLineModel" "begun") ∈ lw_all := lw_g (lw_at lw_m7 117 rfl) rfl
theorem q1647 : (Jvm.Cond.laysFinal "ShieldLineModel" "ShieldLineModel" "led" "[I") ∈ lw_all := lw_g (lw_at lw_m7 118 rfl) rfl
theorem q1648 : (Jvm.Cond.soleField "ShieldLineModel" "led") ∈ lw_all := lw_g (lw_at lw_m7 119 rfl) rfl
theorem q1649 : (Jvm.Cond.laysFinal "ShieldLineModel" "ShieldLineModel" "kept" "[I") ∈ lw_all := lw_g (lw_at lw_m7 120 rfl) rfl
theorem q1650 : (Jvm.Cond.soleField "ShieldLineModel" "kept") ∈ lw_all := lw_g (lw_at lw_m7 121 rfl) rfl
theorem q1651 : (Jvm.Cond.laysFinal "ShieldLineModel" "ShieldLineModel" "keptLed" "[I") ∈ lw_all := lw_g (lw_at lw_m7 122 rfl) rfl
theorem q1652 : (Jvm.Cond.soleField "ShieldLineModel" "keptLed") ∈ lw_all := lw_g (lw_at lw_m7 123 rfl) rfl
theorem q1653 : (Jvm.Cond.lays "ShieldLineModel" "ShieldLineModel" "keptMany" "I") ∈ lw_all := lw_g (lw_at lw_m7 124 rfl) rfl
theorem q1654 : (Jvm.Cond.soleField "ShieldLineModel" "keptMany") ∈ lw_all := lw_g (lw_at lw_m7 125 rfl) rfl
theorem q1655 : (Jvm.Cond.lays "ShieldLineModel" "ShieldLineModel" "isKept" "Z") ∈ lw_all := lw_g (lw_at lw_m7 126 rfl) rfl
theorem q1656 : (Jvm.Cond.soleField "ShieldLineModel" "isKept") ∈ lw_all := lw_g (lw_at lw_m7 127 rfl) rfl
theorem q1657 : (Jvm.Cond.laysFinal "ShieldLineModel" "ShieldLineModel" "above" "[I") ∈ lw_all := lw_g (lw_at lw_m7 128 rfl) rfl
theorem q1658 : (Jvm.Cond.soleField "ShieldLineModel" "above") ∈ lw_all := lw_g (lw_at lw_m7 129 rfl) rfl
theorem q1659 : (Jvm.Cond.laysFinal "ShieldLineModel" "ShieldLineModel" "acts" "[I") ∈ lw_all := lw_g (lw_at lw_m7 130 rfl) rfl
theorem q1660 : (Jvm.Cond.soleField "ShieldLineModel" "acts") ∈ lw_all := lw_g (lw_at lw_m7 131 rfl) rfl
theorem q1661 : (Jvm.Cond.laysFinal "ShieldLineModel" "ShieldLineModel" "kinds" "[I") ∈ lw_all := lw_g (lw_at lw_m7 132 rfl) rfl
theorem q1662 : (Jvm.Cond.soleField "ShieldLineModel" "kinds") ∈ lw_all := lw_g (lw_at lw_m7 133 rfl) rfl
theorem q1663 : (Jvm.Cond.lays "ShieldLineModel" "ShieldLineModel" "bodies" "I") ∈ lw_all := lw_g (lw_at lw_m7 134 rfl) rfl
theorem q1664 : (Jvm.Cond.soleField "ShieldLineModel" "bodies") ∈ lw_all := lw_g (lw_at lw_m7 135 rfl) rfl
theorem q1665 : (Jvm.Cond.laysFinal "ShieldLineModel" "ShieldLineModel" "trace" "[I") ∈ lw_all := lw_g (lw_at lw_m7 136 rfl) rfl
theorem q1666 : (Jvm.Cond.soleField "ShieldLineModel" "trace") ∈ lw_all := lw_g (lw_at lw_m7 137 rfl) rfl
theorem q1667 : (Jvm.Cond.lays "ShieldLineModel" "ShieldLineModel" "ran" "I") ∈ lw_all := lw_g (lw_at lw_m7 138 rfl) rfl
theorem q1668 : (Jvm.Cond.soleField "ShieldLineModel" "ran") ∈ lw_all := lw_g (lw_at lw_m7 139 rfl) rfl
theorem q1669 : (Jvm.Cond.superclass "ShieldLineModel" "java/lang/Object") ∈ lw_all := lw_g (lw_at lw_m7 140 rfl) rfl
theorem q1672 : (Jvm.Cond.instanceMethod ({ cls := "ShieldLineModel", name := "person", desc := "(I)I" } : Jvm.MethodName)) ∈ lw_all := lw_g (lw_at lw_m7 143 rfl) rfl
theorem q1673 : (Jvm.Cond.selects "ShieldLineModel" ({ cls := "ShieldLineModel", name := "person", desc := "(I)I" } : Jvm.MethodName) ({ cls := "ShieldLineModel", name := "person", desc := "(I)I" } : Jvm.MethodName)) ∈ lw_all := lw_g (lw_at lw_m7 144 rfl) rfl
theorem q1674 : (Jvm.Cond.code ({ cls := "ShieldLineModel", name := "person", desc := "(I)I" } : Jvm.MethodName) prog_31_method_11_code (2 : Nat) (Option.some Jvm.ClassFile.FieldType.int)) ∈ lw_all := lw_g (lw_at lw_m7 145 rfl) rfl
theorem q1675 : (Jvm.Cond.methodLink "ShieldLineModel" (104 : Nat) ({ cls := "ShieldLineModel", name := "isIn", desc := "(III)Z" } : Jvm.MethodName)) ∈ lw_all := lw_g (lw_at lw_m7 146 rfl) rfl
theorem q1676 : (Jvm.Cond.static ({ cls := "ShieldLineModel", name := "isIn", desc := "(III)Z" } : Jvm.MethodName)) ∈ lw_all := lw_g (lw_at lw_m7 147 rfl) rfl
theorem q1677 : (Jvm.Cond.code ({ cls := "ShieldLineModel", name := "isIn", desc := "(III)Z" } : Jvm.MethodName) prog_31_method_2_code (3 : Nat) (Option.some Jvm.ClassFile.FieldType.boolean)) ∈ lw_all := lw_g (lw_at lw_m7 148 rfl) rfl
theorem q1678 : (Jvm.Cond.methodLink "ShieldLineModel" (112 : Nat) ({ cls := "ShieldLineModel", name := "add", desc := "(III)I" } : Jvm.MethodName)) ∈ lw_all := lw_g (lw_at lw_m7 149 rfl) rfl
theorem q1679 : (Jvm.Cond.privateMethod ({ cls := "ShieldLineModel", name := "add", desc := "(III)I" } : Jvm.MethodName)) ∈ lw_tbl := lw_at lw_m7 150 rfl
theorem q1680 : (Jvm.Cond.instanceMethod ({ cls := "ShieldLineModel", name := "add", desc := "(III)I" } : Jvm.MethodName)) ∈ lw_all := lw_g (lw_at lw_m7 151 rfl) rfl
theorem q1681 : (Jvm.Cond.code ({ cls := "ShieldLineModel", name := "add", desc := "(III)I" } : Jvm.MethodName) prog_31_method_10_code (5 : Nat) (Option.some Jvm.ClassFile.FieldType.int)) ∈ lw_all := lw_g (lw_at lw_m7 152 rfl) rfl
theorem q1682 : (Jvm.Cond.methodLink "ShieldLineModel" (108 : Nat) ({ cls := "ShieldLineModel", name := "change", desc := "(III)V" } : Jvm.MethodName)) ∈ lw_all := lw_g (lw_at lw_m7 153 rfl) rfl
theorem q1683 : (Jvm.Cond.privateMethod ({ cls := "ShieldLineModel", name := "change", desc := "(III)V" } : Jvm.MethodName)) ∈ lw_tbl := lw_at lw_m7 154 rfl
theorem q1684 : (Jvm.Cond.instanceMethod ({ cls := "ShieldLineModel", name := "change", desc := "(III)V" } : Jvm.MethodName)) ∈ lw_all := lw_g (lw_at lw_m7 155 rfl) rfl
theorem q1685 : (Jvm.Cond.code ({ cls := "ShieldLineModel", name := "change", desc := "(III)V" } : Jvm.MethodName) prog_31_method_9_code (4 : Nat) (Option.none : Option Jvm.ClassFile.FieldType)) ∈ lw_all := lw_g (lw_at lw_m7 156 rfl) rfl
theorem q1687 : (Jvm.Cond.instanceMethod ({ cls := "ShieldLineModel", name := "mend", desc := "(III)I" } : Jvm.MethodName)) ∈ lw_all := lw_g (lw_at lw_m7 158 rfl) rfl
theorem q1688 : (Jvm.Cond.selects "ShieldLineModel" ({ cls := "ShieldLineModel", name := "mend", desc := "(III)I" } : Jvm.MethodName) ({ cls := "ShieldLineModel", name := "mend", desc := "(III)I" } : Jvm.MethodName)) ∈ lw_all := lw_g (lw_at lw_m7 159 rfl) rfl
theorem q1689 : (Jvm.Cond.code ({ cls := "ShieldLineModel", name := "mend", desc := "(III)I" } : Jvm.MethodName) prog_31_method_13_code (8 : Nat) (Option.some Jvm.ClassFile.FieldType.int)) ∈ lw_all := lw_g (lw_at lw_m7 160 rfl) rfl
theorem q1690 : (Jvm.Cond.methodLink "ShieldLineModel" (120 : Nat) ({ cls := "ShieldLineModel", name := "place", desc := "(II)I" } : Jvm.MethodName)) ∈ lw_all := lw_g (lw_at lw_m7 161 rfl) rfl
theorem q1691 : (Jvm.Cond.privateMethod ({ cls := "ShieldLineModel", name := "place", desc := "(II)I" } : Jvm.MethodName)) ∈ lw_tbl := lw_at lw_m7 162 rfl
theorem q1692 : (Jvm.Cond.instanceMethod ({ cls := "ShieldLineModel", name := "place", desc := "(II)I" } : Jvm.MethodName)) ∈ lw_all := lw_g (lw_at lw_m7 163 rfl) rfl
theorem q1693 : (Jvm.Cond.code ({ cls := "ShieldLineModel", name := "place", desc := "(II)I" } : Jvm.MethodName) prog_31_method_12_code (3 : Nat) (Option.some Jvm.ClassFile.FieldType.int)) ∈ lw_all := lw_g (lw_at lw_m7 164 rfl) rfl
theorem q1694 : (Jvm.Cond.methodLink "ShieldLineModel" (116 : Nat) ({ cls := "ShieldLineModel", name := "isOne", desc := "(I)Z" } : Jvm.MethodName)) ∈ lw_all := lw_g (lw_at lw_m7 165 rfl) rfl
theorem q1695 : (Jvm.Cond.privateMethod ({ cls := "ShieldLineModel", name := "isOne", desc := "(I)Z" } : Jvm.MethodName)) ∈ lw_tbl := lw_at lw_m7 166 rfl
theorem q1696 : (Jvm.Cond.instanceMethod ({ cls := "ShieldLineModel", name := "isOne", desc := "(I)Z" } : Jvm.MethodName)) ∈ lw_all := lw_g (lw_at lw_m7 167 rfl) rfl
theorem q1697 : (Jvm.Cond.code ({ cls := "ShieldLineModel", name := "isOne", desc := "(I)Z" } : Jvm.MethodName) prog_31_method_7_code (2 : Nat) (Option.some Jvm.ClassFile.FieldType.boolean)) ∈ lw_all := lw_g (lw_at lw_m7 168 rfl) rfl
theorem q1698 : (Jvm.Cond.constant "ShieldLineModel" (123 : Nat) (-2000000000 : Int32)) ∈ lw_all := lw_g (lw_at lw_m7 169 rfl) rfl
theorem q1700 : (Jvm.Cond.instanceMethod ({ cls := "ShieldLineModel", name := "of", desc := "(II)I" } : Jvm.MethodName)) ∈ lw_all := lw_g (lw_at lw_m7 171 rfl) rfl
theorem q1701 : (Jvm.Cond.selects "ShieldLineModel" ({ cls := "ShieldLineModel", name := "of", desc := "(II)I" } : Jvm.MethodName) ({ cls := "ShieldLineModel", name := "of", desc := "(II)I" } : Jvm.MethodName)) ∈ lw_all := lw_g (lw_at lw_m7 172 rfl) rfl
theorem q1702 : (Jvm.Cond.code ({ cls := "ShieldLineModel", name := "of", desc := "(II)I" } : Jvm.MethodName) prog_31_method_14_code (4 : Nat) (Option.some Jvm.ClassFile.FieldType.int)) ∈ lw_all := lw_g (lw_at lw_m7 173 rfl) rfl
theorem q1704 : (Jvm.Cond.instanceMethod ({ cls := "ShieldLineModel", name := "undo", desc := "()I" } : Jvm.MethodName)) ∈ lw_all := lw_g (lw_at lw_m7 175 rfl) rfl
theorem q1705 : (Jvm.Cond.selects "ShieldLineModel" ({ cls := "ShieldLineModel", name := "undo", desc := "()I" } : Jvm.MethodName) ({ cls := "ShieldLineModel", name := "undo", desc := "()I" } : Jvm.MethodName)) ∈ lw_all := lw_g (lw_at lw_m7 176 rfl) rfl
theorem q1706 : (Jvm.Cond.code ({ cls := "ShieldLineModel", name := "undo", desc := "()I" } : Jvm.MethodName) prog_31_method_15_code (1 : Nat) (Option.some Jvm.ClassFile.FieldType.int)) ∈ lw_all := lw_g (lw_at lw_m7 177 rfl) rfl
theorem q1708 : (Jvm.Cond.instanceMethod ({ cls := "ShieldLineModel", name := "redo", desc := "()I" } : Jvm.MethodName)) ∈ lw_all := lw_g (lw_at lw_m7 179 rfl) rfl
theorem q1709 : (Jvm.Cond.selects "ShieldLineModel" ({ cls := "ShieldLineModel", name := "redo", desc := "()I" } : Jvm.MethodName) ({ cls := "ShieldLineModel", name := "redo", desc := "()I" } : Jvm.MethodName)) ∈ lw_all := lw_g (lw_at lw_m7 180 rfl) rfl
theorem q1710 : (Jvm.Cond.code ({ cls := "ShieldLineModel", name := "redo", desc := "()I" } : Jvm.MethodName) prog_31_method_16_code (1 : Nat) (Option.some Jvm.ClassFile.FieldType.int)) ∈ lw_all := lw_g (lw_at lw_m7 181 rfl) rfl
theorem q1712 : (Jvm.Cond.instanceMethod ({ cls := "ShieldLineModel", name := "feed", desc := "(I)I" } : Jvm.MethodName)) ∈ lw_all := lw_g (lw_at lw_m7 183 rfl) rfl
theorem q1713 : (Jvm.Cond.selects "ShieldLineModel" ({ cls := "ShieldLineModel", name := "feed", desc := "(I)I" } : Jvm.MethodName) ({ cls := "ShieldLineModel", name := "feed", desc := "(I)I" } : Jvm.MethodName)) ∈ lw_all := lw_g (lw_at lw_m7 184 rfl) rfl
theorem q1714 : (Jvm.Cond.code ({ cls := "ShieldLineModel", name := "feed", desc := "(I)I" } : Jvm.MethodName) prog_31_method_17_code (2 : Nat) (Option.some Jvm.ClassFile.FieldType.int)) ∈ lw_all := lw_g (lw_at lw_m7 185 rfl) rfl
theorem q1716 : (Jvm.Cond.instanceMethod ({ cls := "ShieldLineModel", name := "law", desc := "()I" } : Jvm.MethodName)) ∈ lw_all := lw_g (lw_at lw_m7 187 rfl) rfl
theorem q1717 : (Jvm.Cond.selects "ShieldLineModel" ({ cls := "ShieldLineModel", name := "law", desc := "()I" } : Jvm.MethodName) ({ cls := "ShieldLineModel", name := "law", desc := "()I" } : Jvm.MethodName)) ∈ lw_all := lw_g (lw_at lw_m7 188 rfl) rfl
theorem q1718 : (Jvm.Cond.code ({ cls := "ShieldLineModel", name := "law", desc := "()I" } : Jvm.MethodName) prog_31_method_29_code (2 : Nat) (Option.some Jvm.ClassFile.FieldType.int)) ∈ lw_all := lw_g (lw_at lw_m7 189 rfl) rfl
theorem q1719 : (Jvm.Cond.methodLink "ShieldLineModel" (178 : Nat) ({ cls := "ShieldLineModel", name := "gives", desc := "()I" } : Jvm.MethodName)) ∈ lw_all := lw_g (lw_at lw_m7 190 rfl) rfl
theorem q1720 : (Jvm.Cond.privateMethod ({ cls := "ShieldLineModel", name := "gives", desc := "()I" } : Jvm.MethodName)) ∈ lw_tbl := lw_at lw_m7 191 rfl
theorem q1721 : (Jvm.Cond.instanceMethod ({ cls := "ShieldLineModel", name := "gives", desc := "()I" } : Jvm.MethodName)) ∈ lw_all := lw_g (lw_at lw_m7 192 rfl) rfl
theorem q1722 : (Jvm.Cond.code ({ cls := "ShieldLineModel", name := "gives", desc := "()I" } : Jvm.MethodName) prog_31_method_28_code (6 : Nat) (Option.some Jvm.ClassFile.FieldType.int)) ∈ lw_all := lw_g (lw_at lw_m7 193 rfl) rfl
theorem q1723 : (Jvm.Cond.methodLink "ShieldLineModel" (163 : Nat) ({ cls := "ShieldLineModel", name := "any", desc := "()I" } : Jvm.MethodName)) ∈ lw_all := lw_g (lw_at lw_m7 194 rfl) rfl
theorem q1724 : (Jvm.Cond.privateMethod ({ cls := "ShieldLineModel", name := "any", desc := "()I" } : Jvm.MethodName)) ∈ lw_tbl := lw_at lw_m7 195 rfl
theorem q1725 : (Jvm.Cond.instanceMethod ({ cls := "ShieldLineModel", name := "any", desc := "()I" } : Jvm.MethodName)) ∈ lw_all := lw_g (lw_at lw_m7 196 rfl) rfl
theorem q1726 : (Jvm.Cond.code ({ cls := "ShieldLineModel", name := "any", desc := "()I" } : Jvm.MethodName) prog_31_method_27_code (3 : Nat) (Option.some Jvm.ClassFile.FieldType.int)) ∈ lw_all := lw_g (lw_at lw_m7 197 rfl) rfl
theorem q1727 : (Jvm.Cond.methodLink "ShieldLineModel" (175 : Nat) ({ cls := "ShieldLineModel", name := "both", desc := "()I" } : Jvm.MethodName)) ∈ lw_all := lw_g (lw_at lw_m7 198 rfl) rfl
theorem q1728 : (Jvm.Cond.privateMethod ({ cls := "ShieldLineModel", name := "both", desc := "()I" } : Jvm.MethodName)) ∈ lw_tbl := lw_at lw_m7 199 rfl
theorem q1729 : (Jvm.Cond.instanceMethod ({ cls := "ShieldLineModel", name := "both", desc := "()I" } : Jvm.MethodName)) ∈ lw_all := lw_g (lw_at lw_m7 200 rfl) rfl
theorem q1730 : (Jvm.Cond.code ({ cls := "ShieldLineModel", name := "both", desc := "()I" } : Jvm.MethodName) prog_31_method_26_code (3 : Nat) (Option.some Jvm.ClassFile.FieldType.int)) ∈ lw_all := lw_g (lw_at lw_m7 201 rfl) rfl
theorem q1731 : (Jvm.Cond.methodLink "ShieldLineModel" (172 : Nat) ({ cls := "ShieldLineModel", name := "compared", desc := "()I" } : Jvm.MethodName)) ∈ lw_all := lw_g (lw_at lw_m7 202 rfl) rfl
theorem q1732 : (Jvm.Cond.privateMethod ({ cls := "ShieldLineModel", name := "compared", desc := "()I" } : Jvm.MethodName)) ∈ lw_tbl := lw_at lw_m7 203 rfl
theorem q1733 : (Jvm.Cond.instanceMethod ({ cls := "ShieldLineModel", name := "compared", desc := "()I" } : Jvm.MethodName)) ∈ lw_all := lw_g (lw_at lw_m7 204 rfl) rfl
theorem q1734 : (Jvm.Cond.code ({ cls := "ShieldLineModel", name := "compared", desc := "()I" } : Jvm.MethodName) prog_31_method_25_code (5 : Nat) (Option.some Jvm.ClassFile.FieldType.int)) ∈ lw_all := lw_g (lw_at lw_m7 205 rfl) rfl
theorem q1735 : (Jvm.Cond.methodLink "ShieldLineModel" (169 : Nat) ({ cls := "ShieldLineModel", name := "total", desc := "()I" } : Jvm.MethodName)) ∈ lw_all := lw_g (lw_at lw_m7 206 rfl) rfl
theorem q1736 : (Jvm.Cond.privateMethod ({ cls := "ShieldLineModel", name := "total", desc := "()I" } : Jvm.MethodName)) ∈ lw_tbl := lw_at lw_m7 207 rfl
theorem q1737 : (Jvm.Cond.instanceMethod ({ cls := "ShieldLineModel", name := "total", desc := "()I" } : Jvm.MethodName)) ∈ lw_all := lw_g (lw_at lw_m7 208 rfl) rfl
theorem q1738 : (Jvm.Cond.code ({ cls := "ShieldLineModel", name := "total", desc := "()I" } : Jvm.MethodName) prog_31_method_24_code (4 : Nat) (Option.some Jvm.ClassFile.FieldType.int)) ∈ lw_all := lw_g (lw_at lw_m7 209 rfl) rfl
theorem q1739 : (Jvm.Cond.methodLink "ShieldLineModel" (166 : Nat) ({ cls := "ShieldLineModel", name := "product", desc := "()I" } : Jvm.MethodName)) ∈ lw_all := lw_g (lw_at lw_m7 210 rfl) rfl
theorem q1740 : (Jvm.Cond.privateMethod ({ cls := "ShieldLineModel", name := "product", desc := "()I" } : Jvm.MethodName)) ∈ lw_tbl := lw_at lw_m7 211 rfl
theorem q1741 : (Jvm.Cond.instanceMethod ({ cls := "ShieldLineModel", name := "product", desc := "()I" } : Jvm.MethodName)) ∈ lw_all := lw_g (lw_at lw_m7 212 rfl) rfl
theorem q1742 : (Jvm.Cond.code ({ cls := "ShieldLineModel", name := "product", desc := "()I" } : Jvm.MethodName) prog_31_method_23_code (4 : Nat) (Option.some Jvm.ClassFile.FieldType.int)) ∈ lw_all := lw_g (lw_at lw_m7 213 rfl) rfl
theorem q1743 : (Jvm.Cond.methodLink "ShieldLineModel" (160 : Nat) ({ cls := "ShieldLineModel", name := "one", desc := "()I" } : Jvm.MethodName)) ∈ lw_all := lw_g (lw_at lw_m7 214 rfl) rfl
theorem q1744 : (Jvm.Cond.privateMethod ({ cls := "ShieldLineModel", name := "one", desc := "()I" } : Jvm.MethodName)) ∈ lw_tbl := lw_at lw_m7 215 rfl
theorem q1745 : (Jvm.Cond.instanceMethod ({ cls := "ShieldLineModel", name := "one", desc := "()I" } : Jvm.MethodName)) ∈ lw_all := lw_g (lw_at lw_m7 216 rfl) rfl
theorem q1746 : (Jvm.Cond.code ({ cls := "ShieldLineModel", name := "one", desc := "()I" } : Jvm.MethodName) prog_31_method_22_code (4 : Nat) (Option.some Jvm.ClassFile.FieldType.int)) ∈ lw_all := lw_g (lw_at lw_m7 217 rfl) rfl
theorem q1747 : (Jvm.Cond.methodLink "ShieldLineModel" (143 : Nat) ({ cls := "ShieldLineModel", name := "isDigit", desc := "()Z" } : Jvm.MethodName)) ∈ lw_all := lw_g (lw_at lw_m7 218 rfl) rfl
theorem q1748 : (Jvm.Cond.privateMethod ({ cls := "ShieldLineModel", name := "isDigit", desc := "()Z" } : Jvm.MethodName)) ∈ lw_tbl := lw_at lw_m7 219 rfl
theorem q1749 : (Jvm.Cond.instanceMethod ({ cls := "ShieldLineModel", name := "isDigit", desc := "()Z" } : Jvm.MethodName)) ∈ lw_all := lw_g (lw_at lw_m7 220 rfl) rfl
theorem q1750 : (Jvm.Cond.code ({ cls := "ShieldLineModel", name := "isDigit", desc := "()Z" } : Jvm.MethodName) prog_31_method_19_code (1 : Nat) (Option.some Jvm.ClassFile.FieldType.boolean)) ∈ lw_all := lw_g (lw_at lw_m7 221 rfl) rfl
theorem q1751 : (Jvm.Cond.methodLink "ShieldLineModel" (150 : Nat) ({ cls := "ShieldLineModel", name := "number", desc := "()I" } : Jvm.MethodName)) ∈ lw_all := lw_g (lw_at lw_m7 222 rfl) rfl
theorem q1752 : (Jvm.Cond.privateMethod ({ cls := "ShieldLineModel", name := "number", desc := "()I" } : Jvm.MethodName)) ∈ lw_tbl := lw_at lw_m7 223 rfl
theorem q1753 : (Jvm.Cond.instanceMethod ({ cls := "ShieldLineModel", name := "number", desc := "()I" } : Jvm.MethodName)) ∈ lw_all := lw_g (lw_at lw_m7 224 rfl) rfl
theorem q1754 : (Jvm.Cond.code ({ cls := "ShieldLineModel", name := "number", desc := "()I" } : Jvm.MethodName) prog_31_method_20_code (3 : Nat) (Option.some Jvm.ClassFile.FieldType.int)) ∈ lw_all := lw_g (lw_at lw_m7 225 rfl) rfl
theorem q1755 : (Jvm.Cond.methodLink "ShieldLineModel" (154 : Nat) ({ cls := "ShieldLineModel", name := "isAt", desc := "(I)Z" } : Jvm.MethodName)) ∈ lw_all := lw_g (lw_at lw_m7 226 rfl) rfl
theorem q1756 : (Jvm.Cond.privateMethod ({ cls := "ShieldLineModel", name := "isAt", desc := "(I)Z" } : Jvm.MethodName)) ∈ lw_tbl := lw_at lw_m7 227 rfl
theorem q1757 : (Jvm.Cond.instanceMethod ({ cls := "ShieldLineModel", name := "isAt", desc := "(I)Z" } : Jvm.MethodName)) ∈ lw_all := lw_g (lw_at lw_m7 228 rfl) rfl
theorem q1758 : (Jvm.Cond.code ({ cls := "ShieldLineModel", name := "isAt", desc := "(I)Z" } : Jvm.MethodName) prog_31_method_18_code (2 : Nat) (Option.some Jvm.ClassFile.FieldType.boolean)) ∈ lw_all := lw_g (lw_at lw_m7 229 rfl) rfl
theorem q1759 : (Jvm.Cond.methodLink "ShieldLineModel" (157 : Nat) ({ cls := "ShieldLineModel", name := "opens", desc := "()Z" } : Jvm.MethodName)) ∈ lw_all := lw_g (lw_at lw_m7 230 rfl) rfl
theorem q1760 : (Jvm.Cond.privateMethod ({ cls := "ShieldLineModel", name := "opens", desc := "()Z" } : Jvm.MethodName)) ∈ lw_tbl := lw_at lw_m7 231 rfl
theorem q1761 : (Jvm.Cond.instanceMethod ({ cls := "ShieldLineModel", name := "opens", desc := "()Z" } : Jvm.MethodName)) ∈ lw_all := lw_g (lw_at lw_m7 232 rfl) rfl
theorem q1762 : (Jvm.Cond.code ({ cls := "ShieldLineModel", name := "opens", desc := "()Z" } : Jvm.MethodName) prog_31_method_21_code (1 : Nat) (Option.some Jvm.ClassFile.FieldType.boolean)) ∈ lw_all := lw_g (lw_at lw_m7 233 rfl) rfl
theorem q1764 : (Jvm.Cond.instanceMethod ({ cls := "ShieldLineModel", name := "comes", desc := "(I)I" } : Jvm.MethodName)) ∈ lw_all := lw_g (lw_at lw_m7 235 rfl) rfl
theorem q1765 : (Jvm.Cond.selects "ShieldLineModel" ({ cls := "ShieldLineModel", name := "comes", desc := "(I)I" } : Jvm.MethodName) ({ cls := "ShieldLineModel", name := "comes", desc := "(I)I" } : Jvm.MethodName)) ∈ lw_all := lw_g (lw_at lw_m7 236 rfl) rfl
theorem q1766 : (Jvm.Cond.code ({ cls := "ShieldLineModel", name := "comes", desc := "(I)I" } : Jvm.MethodName) prog_31_method_34_code (2 : Nat) (Option.some Jvm.ClassFile.FieldType.int)) ∈ lw_all := lw_g (lw_at lw_m7 237 rfl) rfl
theorem q1767 : (Jvm.Cond.methodLink "ShieldLineModel" (205 : Nat) ({ cls := "ShieldLineModel", name := "comesFrom", desc := "(I)I" } : Jvm.MethodName)) ∈ lw_all := lw_g (lw_at lw_m7 238 rfl) rfl
theorem q1768 : (Jvm.Cond.privateMethod ({ cls := "ShieldLineModel", name := "comesFrom", desc := "(I)I" } : Jvm.MethodName)) ∈ lw_tbl := lw_at lw_m7 239 rfl
theorem q1769 : (Jvm.Cond.instanceMethod ({ cls := "ShieldLineModel", name := "comesFrom", desc := "(I)I" } : Jvm.MethodName)) ∈ lw_all := lw_g (lw_at lw_m8 0 rfl) rfl
theorem q1770 : (Jvm.Cond.code ({ cls := "ShieldLineModel", name := "comesFrom", desc := "(I)I" } : Jvm.MethodName) prog_31_method_33_code (3 : Nat) (Option.some Jvm.ClassFile.FieldType.int)) ∈ lw_all := lw_g (lw_at lw_m8 1 rfl) rfl
theorem q1771 : (Jvm.Cond.methodLink "ShieldLineModel" (191 : Nat) ({ cls := "ShieldLineModel", name := "number", desc := "(II)I" } : Jvm.MethodName)) ∈ lw_all := lw_g (lw_at lw_m8 2 rfl) rfl
theorem q1772 : (Jvm.Cond.privateMethod ({ cls := "ShieldLineModel", name := "number", desc := "(II)I" } : Jvm.MethodName)) ∈ lw_tbl := lw_at lw_m8 3 rfl
theorem q1773 : (Jvm.Cond.instanceMethod ({ cls := "ShieldLineModel", name := "number", desc := "(II)I" } : Jvm.MethodName)) ∈ lw_all := lw_g (lw_at lw_m8 4 rfl) rfl
theorem q1774 : (Jvm.Cond.code ({ cls := "ShieldLineModel", name := "number", desc := "(II)I" } : Jvm.MethodName) prog_31_method_8_code (3 : Nat) (Option.some Jvm.ClassFile.FieldType.int)) ∈ lw_all := lw_g (lw_at lw_m8 5 rfl) rfl
theorem q1775 : (Jvm.Cond.methodLink "ShieldLineModel" (193 : Nat) ({ cls := "ShieldLineModel", name := "far", desc := "(II)I" } : Jvm.MethodName)) ∈ lw_all := lw_g (lw_at lw_m8 6 rfl) rfl
theorem q1776 : (Jvm.Cond.static ({ cls := "ShieldLineModel", name := "far", desc := "(II)I" } : Jvm.MethodName)) ∈ lw_all := lw_g (lw_at lw_m8 7 rfl) rfl
theorem q1777 : (Jvm.Cond.code ({ cls := "ShieldLineModel", name := "far", desc := "(II)I" } : Jvm.MethodName) prog_31_method_31_code (2 : Nat) (Option.some Jvm.ClassFile.FieldType.int)) ∈ lw_all := lw_g (lw_at lw_m8 8 rfl) rfl
theorem q1778 : (Jvm.Cond.methodLink "ShieldLineModel" (187 : Nat) ({ cls := "java/lang/Math", name := "abs", desc := "(I)I" } : Jvm.MethodName)) ∈ lw_all := lw_g (lw_at lw_m8 9 rfl) rfl
theorem q1779 : (Jvm.Cond.methodLink "ShieldLineModel" (196 : Nat) ({ cls := "ShieldLineModel", name := "carers", desc := "(I)I" } : Jvm.MethodName)) ∈ lw_all := lw_g (lw_at lw_m8 10 rfl) rfl
theorem q1780 : (Jvm.Cond.privateMethod ({ cls := "ShieldLineModel", name := "carers", desc := "(I)I" } : Jvm.MethodName)) ∈ lw_tbl := lw_at lw_m8 11 rfl
theorem q1781 : (Jvm.Cond.instanceMethod ({ cls := "ShieldLineModel", name := "carers", desc := "(I)I" } : Jvm.MethodName)) ∈ lw_all := lw_g (lw_at lw_m8 12 rfl) rfl
theorem q1782 : (Jvm.Cond.code ({ cls := "ShieldLineModel", name := "carers", desc := "(I)I" } : Jvm.MethodName) prog_31_method_32_code (4 : Nat) (Option.some Jvm.ClassFile.FieldType.int)) ∈ lw_all := lw_g (lw_at lw_m8 13 rfl) rfl
theorem q1783 : (Jvm.Cond.methodLink "ShieldLineModel" (199 : Nat) ({ cls := "ShieldLineModel", name := "comesBy", desc := "()I" } : Jvm.MethodName)) ∈ lw_all := lw_g (lw_at lw_m8 14 rfl) rfl
theorem q1784 : (Jvm.Cond.privateMethod ({ cls := "ShieldLineModel", name := "comesBy", desc := "()I" } : Jvm.MethodName)) ∈ lw_tbl := lw_at lw_m8 15 rfl
theorem q1785 : (Jvm.Cond.instanceMethod ({ cls := "ShieldLineModel", name := "comesBy", desc := "()I" } : Jvm.MethodName)) ∈ lw_all := lw_g (lw_at lw_m8 16 rfl) rfl
theorem q1786 : (Jvm.Cond.code ({ cls := "ShieldLineModel", name := "comesBy", desc := "()I" } : Jvm.MethodName) prog_31_method_30_code (2 : Nat) (Option.some Jvm.ClassFile.FieldType.int)) ∈ lw_all := lw_g (lw_at lw_m8 17 rfl) rfl
theorem q1787 : (Jvm.Cond.methodLink "ShieldLineModel" (202 : Nat) ({ cls := "ShieldLineModel", name := "bound", desc := "(III)I" } : Jvm.MethodName)) ∈ lw_all := lw_g (lw_at lw_m8 18 rfl) rfl
theorem q1788 : (Jvm.Cond.static ({ cls := "ShieldLineModel", name := "bound", desc := "(III)I" } : Jvm.MethodName)) ∈ lw_all := lw_g (lw_at lw_m8 19 rfl) rfl
theorem q1789 : (Jvm.Cond.code ({ cls := "ShieldLineModel", name := "bound", desc := "(III)I" } : Jvm.MethodName) prog_31_method_3_code (3 : Nat) (Option.some Jvm.ClassFile.FieldType.int)) ∈ lw_all := lw_g (lw_at lw_m8 20 rfl) rfl
theorem q1790 : (Jvm.Cond.methodLink "ShieldLineModel" (92 : Nat) ({ cls := "java/lang/Math", name := "min", desc := "(II)I" } : Jvm.MethodName)) ∈ lw_all := lw_g (lw_at lw_m8 21 rfl) rfl
theorem q1791 : (Jvm.Cond.methodLink "ShieldLineModel" (98 : Nat) ({ cls := "java/lang/Math", name := "max", desc := "(II)I" } : Jvm.MethodName)) ∈ lw_all := lw_g (lw_at lw_m8 22 rfl) rfl
theorem q1793 : (Jvm.Cond.instanceMethod ({ cls := "ShieldLineModel", name := "later", desc := "(II)I" } : Jvm.MethodName)) ∈ lw_all := lw_g (lw_at lw_m8 24 rfl) rfl
theorem q1794 : (Jvm.Cond.selects "ShieldLineModel" ({ cls := "ShieldLineModel", name := "later", desc := "(II)I" } : Jvm.MethodName) ({ cls := "ShieldLineModel", name := "later", desc := "(II)I" } : Jvm.MethodName)) ∈ lw_all := lw_g (lw_at lw_m8 25 rfl) rfl
theorem q1795 : (Jvm.Cond.code ({ cls := "ShieldLineModel", name := "later", desc := "(II)I" } : Jvm.MethodName) prog_31_method_39_code (4 : Nat) (Option.some Jvm.ClassFile.FieldType.int)) ∈ lw_all := lw_g (lw_at lw_m8 26 rfl) rfl
theorem q1796 : (Jvm.Cond.methodLink "ShieldLineModel" (214 : Nat) ({ cls := "ShieldLineModel", name := "keepAll", desc := "(I)V" } : Jvm.MethodName)) ∈ lw_all := lw_g (lw_at lw_m8 27 rfl) rfl
theorem q1797 : (Jvm.Cond.privateMethod ({ cls := "ShieldLineModel", name := "keepAll", desc := "(I)V" } : Jvm.MethodName)) ∈ lw_tbl := lw_at lw_m8 28 rfl
theorem q1798 : (Jvm.Cond.instanceMethod ({ cls := "ShieldLineModel", name := "keepAll", desc := "(I)V" } : Jvm.MethodName)) ∈ lw_all := lw_g (lw_at lw_m8 29 rfl) rfl
theorem q1799 : (Jvm.Cond.code ({ cls := "ShieldLineModel", name := "keepAll", desc := "(I)V" } : Jvm.MethodName) prog_31_method_5_code (3 : Nat) (Option.none : Option Jvm.ClassFile.FieldType)) ∈ lw_all := lw_g (lw_at lw_m8 30 rfl) rfl
theorem q1800 : (Jvm.Cond.methodLink "ShieldLineModel" (218 : Nat) ({ cls := "ShieldLineModel", name := "goDays", desc := "(I)V" } : Jvm.MethodName)) ∈ lw_all := lw_g (lw_at lw_m8 31 rfl) rfl
theorem q1801 : (Jvm.Cond.privateMethod ({ cls := "ShieldLineModel", name := "goDays", desc := "(I)V" } : Jvm.MethodName)) ∈ lw_tbl := lw_at lw_m8 32 rfl
theorem q1802 : (Jvm.Cond.instanceMethod ({ cls := "ShieldLineModel", name := "goDays", desc := "(I)V" } : Jvm.MethodName)) ∈ lw_all := lw_g (lw_at lw_m8 33 rfl) rfl
theorem q1803 : (Jvm.Cond.code ({ cls := "ShieldLineModel", name := "goDays", desc := "(I)V" } : Jvm.MethodName) prog_31_method_36_code (3 : Nat) (Option.none : Option Jvm.ClassFile.FieldType)) ∈ lw_all := lw_g (lw_at lw_m8 34 rfl) rfl
theorem q1804 : (Jvm.Cond.methodLink "ShieldLineModel" (211 : Nat) ({ cls := "ShieldLineModel", name := "goDay", desc := "()V" } : Jvm.MethodName)) ∈ lw_all := lw_g (lw_at lw_m8 35 rfl) rfl
theorem q1805 : (Jvm.Cond.privateMethod ({ cls := "ShieldLineModel", name := "goDay", desc := "()V" } : Jvm.MethodName)) ∈ lw_tbl := lw_at lw_m8 36 rfl
theorem q1806 : (Jvm.Cond.instanceMethod ({ cls := "ShieldLineModel", name := "goDay", desc := "()V" } : Jvm.MethodName)) ∈ lw_all := lw_g (lw_at lw_m8 37 rfl) rfl
theorem q1807 : (Jvm.Cond.code ({ cls := "ShieldLineModel", name := "goDay", desc := "()V" } : Jvm.MethodName) prog_31_method_35_code (3 : Nat) (Option.none : Option Jvm.ClassFile.FieldType)) ∈ lw_all := lw_g (lw_at lw_m8 38 rfl) rfl
theorem q1808 : (Jvm.Cond.methodLink "ShieldLineModel" (221 : Nat) ({ cls := "ShieldLineModel", name := "stores", desc := "()I" } : Jvm.MethodName)) ∈ lw_all := lw_g (lw_at lw_m8 39 rfl) rfl
theorem q1809 : (Jvm.Cond.privateMethod ({ cls := "ShieldLineModel", name := "stores", desc := "()I" } : Jvm.MethodName)) ∈ lw_tbl := lw_at lw_m8 40 rfl
theorem q1810 : (Jvm.Cond.instanceMethod ({ cls := "ShieldLineModel", name := "stores", desc := "()I" } : Jvm.MethodName)) ∈ lw_all := lw_g (lw_at lw_m8 41 rfl) rfl
theorem q1811 : (Jvm.Cond.code ({ cls := "ShieldLineModel", name := "stores", desc := "()I" } : Jvm.MethodName) prog_31_method_38_code (3 : Nat) (Option.some Jvm.ClassFile.FieldType.int)) ∈ lw_all := lw_g (lw_at lw_m8 42 rfl) rfl
theorem q1812 : (Jvm.Cond.methodLink "ShieldLineModel" (224 : Nat) ({ cls := "ShieldLineModel", name := "layAll", desc := "(I)V" } : Jvm.MethodName)) ∈ lw_all := lw_g (lw_at lw_m8 43 rfl) rfl
theorem q1813 : (Jvm.Cond.privateMethod ({ cls := "ShieldLineModel", name := "layAll", desc := "(I)V" } : Jvm.MethodName)) ∈ lw_tbl := lw_at lw_m8 44 rfl
theorem q1814 : (Jvm.Cond.instanceMethod ({ cls := "ShieldLineModel", name := "layAll", desc := "(I)V" } : Jvm.MethodName)) ∈ lw_all := lw_g (lw_at lw_m8 45 rfl) rfl
theorem q1815 : (Jvm.Cond.code ({ cls := "ShieldLineModel", name := "layAll", desc := "(I)V" } : Jvm.MethodName) prog_31_method_6_code (3 : Nat) (Option.none : Option Jvm.ClassFile.FieldType)) ∈ lw_all := lw_g (lw_at lw_m8 46 rfl) rfl
theorem q1817 : (Jvm.Cond.instanceMethod ({ cls := "ShieldLineModel", name := "lacking", desc := "(I)I" } : Jvm.MethodName)) ∈ lw_all := lw_g (lw_at lw_m8 48 rfl) rfl
theorem q1818 : (Jvm.Cond.selects "ShieldLineModel" ({ cls := "ShieldLineModel", name := "lacking", desc := "(I)I" } : Jvm.MethodName) ({ cls := "ShieldLineModel", name := "lacking", desc := "(I)I" } : Jvm.MethodName)) ∈ lw_all := lw_g (lw_at lw_m8 49 rfl) rfl
theorem q1819 : (Jvm.Cond.code ({ cls := "ShieldLineModel", name := "lacking", desc := "(I)I" } : Jvm.MethodName) prog_31_method_40_code (3 : Nat) (Option.some Jvm.ClassFile.FieldType.int)) ∈ lw_all := lw_g (lw_at lw_m8 50 rfl) rfl
theorem q1820 : (Jvm.Cond.methodLink "ShieldLineModel" (227 : Nat) ({ cls := "ShieldLineModel", name := "lacks", desc := "()I" } : Jvm.MethodName)) ∈ lw_all := lw_g (lw_at lw_m8 51 rfl) rfl
theorem q1821 : (Jvm.Cond.privateMethod ({ cls := "ShieldLineModel", name := "lacks", desc := "()I" } : Jvm.MethodName)) ∈ lw_tbl := lw_at lw_m8 52 rfl
theorem q1822 : (Jvm.Cond.instanceMethod ({ cls := "ShieldLineModel", name := "lacks", desc := "()I" } : Jvm.MethodName)) ∈ lw_all := lw_g (lw_at lw_m8 53 rfl) rfl
theorem q1823 : (Jvm.Cond.code ({ cls := "ShieldLineModel", name := "lacks", desc := "()I" } : Jvm.MethodName) prog_31_method_37_code (3 : Nat) (Option.some Jvm.ClassFile.FieldType.int)) ∈ lw_all := lw_g (lw_at lw_m8 54 rfl) rfl
theorem q1825 : (Jvm.Cond.instanceMethod ({ cls := "ShieldLineModel", name := "first", desc := "(I)I" } : Jvm.MethodName)) ∈ lw_all := lw_g (lw_at lw_m8 56 rfl) rfl
theorem q1826 : (Jvm.Cond.selects "ShieldLineModel" ({ cls := "ShieldLineModel", name := "first", desc := "(I)I" } : Jvm.MethodName) ({ cls := "ShieldLineModel", name := "first", desc := "(I)I" } : Jvm.MethodName)) ∈ lw_all := lw_g (lw_at lw_m8 57 rfl) rfl
theorem q1827 : (Jvm.Cond.code ({ cls := "ShieldLineModel", name := "first", desc := "(I)I" } : Jvm.MethodName) prog_31_method_41_code (5 : Nat) (Option.some Jvm.ClassFile.FieldType.int)) ∈ lw_all := lw_g (lw_at lw_m8 58 rfl) rfl
theorem q1828 : (Jvm.Cond.methodLink "ShieldLineModel" (230 : Nat) ({ cls := "java/lang/Integer", name := "numberOfTrailingZeros", desc := "(I)I" } : Jvm.MethodName)) ∈ lw_all := lw_g (lw_at lw_m8 59 rfl) rfl
theorem q1830 : (Jvm.Cond.instanceMethod ({ cls := "ShieldLineModel", name := "care", desc := "(II)I" } : Jvm.MethodName)) ∈ lw_all := lw_g (lw_at lw_m8 61 rfl) rfl
theorem q1831 : (Jvm.Cond.selects "ShieldLineModel" ({ cls := "ShieldLineModel", name := "care", desc := "(II)I" } : Jvm.MethodName) ({ cls := "ShieldLineModel", name := "care", desc := "(II)I" } : Jvm.MethodName)) ∈ lw_all := lw_g (lw_at lw_m8 62 rfl) rfl
theorem q1832 : (Jvm.Cond.code ({ cls := "ShieldLineModel", name := "care", desc := "(II)I" } : Jvm.MethodName) prog_31_method_42_code (6 : Nat) (Option.some Jvm.ClassFile.FieldType.int)) ∈ lw_all := lw_g (lw_at lw_m8 63 rfl) rfl
theorem q1834 : (Jvm.Cond.instanceMethod ({ cls := "ShieldLineModel", name := "cared", desc := "(I)I" } : Jvm.MethodName)) ∈ lw_all := lw_g (lw_at lw_m8 65 rfl) rfl
theorem q1835 : (Jvm.Cond.selects "ShieldLineModel" ({ cls := "ShieldLineModel", name := "cared", desc := "(I)I" } : Jvm.MethodName) ({ cls := "ShieldLineModel", name := "cared", desc := "(I)I" } : Jvm.MethodName)) ∈ lw_all := lw_g (lw_at lw_m8 66 rfl) rfl
theorem q1836 : (Jvm.Cond.code ({ cls := "ShieldLineModel", name := "cared", desc := "(I)I" } : Jvm.MethodName) prog_31_method_43_code (4 : Nat) (Option.some Jvm.ClassFile.FieldType.int)) ∈ lw_all := lw_g (lw_at lw_m8 67 rfl) rfl
theorem q1838 : (Jvm.Cond.instanceMethod ({ cls := "ShieldLineModel", name := "round", desc := "(II)I" } : Jvm.MethodName)) ∈ lw_all := lw_g (lw_at lw_m8 69 rfl) rfl
theorem q1839 : (Jvm.Cond.selects "ShieldLineModel" ({ cls := "ShieldLineModel", name := "round", desc := "(II)I" } : Jvm.MethodName) ({ cls := "ShieldLineModel", name := "round", desc := "(II)I" } : Jvm.MethodName)) ∈ lw_all := lw_g (lw_at lw_m8 70 rfl) rfl
theorem q1840 : (Jvm.Cond.code ({ cls := "ShieldLineModel", name := "round", desc := "(II)I" } : Jvm.MethodName) prog_31_method_49_code (3 : Nat) (Option.some Jvm.ClassFile.FieldType.int)) ∈ lw_all := lw_g (lw_at lw_m8 71 rfl) rfl
theorem q1841 : (Jvm.Cond.methodLink "ShieldLineModel" (262 : Nat) ({ cls := "ShieldLineModel", name := "begin", desc := "()V" } : Jvm.MethodName)) ∈ lw_all := lw_g (lw_at lw_m8 72 rfl) rfl
theorem q1842 : (Jvm.Cond.privateMethod ({ cls := "ShieldLineModel", name := "begin", desc := "()V" } : Jvm.MethodName)) ∈ lw_tbl := lw_at lw_m8 73 rfl
theorem q1843 : (Jvm.Cond.instanceMethod ({ cls := "ShieldLineModel", name := "begin", desc := "()V" } : Jvm.MethodName)) ∈ lw_all := lw_g (lw_at lw_m8 74 rfl) rfl
theorem q1844 : (Jvm.Cond.code ({ cls := "ShieldLineModel", name := "begin", desc := "()V" } : Jvm.MethodName) prog_31_method_48_code (1 : Nat) (Option.none : Option Jvm.ClassFile.FieldType)) ∈ lw_all := lw_g (lw_at lw_m8 75 rfl) rfl
theorem q1845 : (Jvm.Cond.constant "ShieldLineModel" (261 : Nat) (2147483647 : Int32)) ∈ lw_all := lw_g (lw_at lw_m8 76 rfl) rfl
theorem q1846 : (Jvm.Cond.methodLink "ShieldLineModel" (257 : Nat) ({ cls := "ShieldLineModel", name := "care", desc := "(IIZI)V" } : Jvm.MethodName)) ∈ lw_all := lw_g (lw_at lw_m8 77 rfl) rfl
theorem q1847 : (Jvm.Cond.privateMethod ({ cls := "ShieldLineModel", name := "care", desc := "(IIZI)V" } : Jvm.MethodName)) ∈ lw_tbl := lw_at lw_m8 78 rfl
theorem q1848 : (Jvm.Cond.instanceMethod ({ cls := "ShieldLineModel", name := "care", desc := "(IIZI)V" } : Jvm.MethodName)) ∈ lw_all := lw_g (lw_at lw_m8 79 rfl) rfl
theorem q1849 : (Jvm.Cond.code ({ cls := "ShieldLineModel", name := "care", desc := "(IIZI)V" } : Jvm.MethodName) prog_31_method_47_code (6 : Nat) (Option.none : Option Jvm.ClassFile.FieldType)) ∈ lw_all := lw_g (lw_at lw_m8 80 rfl) rfl
theorem q1850 : (Jvm.Cond.methodLink "ShieldLineModel" (241 : Nat) ({ cls := "ShieldLineModel", name := "take", desc := "(II)V" } : Jvm.MethodName)) ∈ lw_all := lw_g (lw_at lw_m8 81 rfl) rfl
theorem q1851 : (Jvm.Cond.privateMethod ({ cls := "ShieldLineModel", name := "take", desc := "(II)V" } : Jvm.MethodName)) ∈ lw_tbl := lw_at lw_m8 82 rfl
theorem q1852 : (Jvm.Cond.instanceMethod ({ cls := "ShieldLineModel", name := "take", desc := "(II)V" } : Jvm.MethodName)) ∈ lw_all := lw_g (lw_at lw_m8 83 rfl) rfl
theorem q1853 : (Jvm.Cond.code ({ cls := "ShieldLineModel", name := "take", desc := "(II)V" } : Jvm.MethodName) prog_31_method_46_code (4 : Nat) (Option.none : Option Jvm.ClassFile.FieldType)) ∈ lw_all := lw_g (lw_at lw_m8 84 rfl) rfl
theorem q1854 : (Jvm.Cond.methodLink "ShieldLineModel" (251 : Nat) ({ cls := "ShieldLineModel", name := "isRing", desc := "()Z" } : Jvm.MethodName)) ∈ lw_all := lw_g (lw_at lw_m8 85 rfl) rfl
theorem q1855 : (Jvm.Cond.privateMethod ({ cls := "ShieldLineModel", name := "isRing", desc := "()Z" } : Jvm.MethodName)) ∈ lw_tbl := lw_at lw_m8 86 rfl
theorem q1856 : (Jvm.Cond.instanceMethod ({ cls := "ShieldLineModel", name := "isRing", desc := "()Z" } : Jvm.MethodName)) ∈ lw_all := lw_g (lw_at lw_m8 87 rfl) rfl
theorem q1857 : (Jvm.Cond.code ({ cls := "ShieldLineModel", name := "isRing", desc := "()Z" } : Jvm.MethodName) prog_31_method_44_code (3 : Nat) (Option.some Jvm.ClassFile.FieldType.boolean)) ∈ lw_all := lw_g (lw_at lw_m8 88 rfl) rfl
theorem q1858 : (Jvm.Cond.methodLink "ShieldLineModel" (254 : Nat) ({ cls := "ShieldLineModel", name := "tryRound", desc := "()V" } : Jvm.MethodName)) ∈ lw_all := lw_g (lw_at lw_m8 89 rfl) rfl
theorem q1859 : (Jvm.Cond.privateMethod ({ cls := "ShieldLineModel", name := "tryRound", desc := "()V" } : Jvm.MethodName)) ∈ lw_tbl := lw_at lw_m8 90 rfl
theorem q1860 : (Jvm.Cond.instanceMethod ({ cls := "ShieldLineModel", name := "tryRound", desc := "()V" } : Jvm.MethodName)) ∈ lw_all := lw_g (lw_at lw_m8 91 rfl) rfl
theorem q1861 : (Jvm.Cond.code ({ cls := "ShieldLineModel", name := "tryRound", desc := "()V" } : Jvm.MethodName) prog_31_method_45_code (3 : Nat) (Option.none : Option Jvm.ClassFile.FieldType)) ∈ lw_all := lw_g (lw_at lw_m8 92 rfl) rfl
theorem q1862 : (Jvm.Cond.methodLink "ShieldLineModel" (238 : Nat) ({ cls := "java/lang/Integer", name := "bitCount", desc := "(I)I" } : Jvm.MethodName)) ∈ lw_all := lw_g (lw_at lw_m8 93 rfl) rfl
theorem q1864 : (Jvm.Cond.instanceMethod ({ cls := "ShieldLineModel", name := "mended", desc := "(I)I" } : Jvm.MethodName)) ∈ lw_all := lw_g (lw_at lw_m8 95 rfl) rfl
theorem q1865 : (Jvm.Cond.selects "ShieldLineModel" ({ cls := "ShieldLineModel", name := "mended", desc := "(I)I" } : Jvm.MethodName) ({ cls := "ShieldLineModel", name := "mended", desc := "(I)I" } : Jvm.MethodName)) ∈ lw_all := lw_g (lw_at lw_m8 96 rfl) rfl
theorem q1866 : (Jvm.Cond.code ({ cls := "ShieldLineModel", name := "mended", desc := "(I)I" } : Jvm.MethodName) prog_31_method_50_code (2 : Nat) (Option.some Jvm.ClassFile.FieldType.int)) ∈ lw_all := lw_g (lw_at lw_m8 97 rfl) rfl
theorem q1868 : (Jvm.Cond.instanceMethod ({ cls := "ShieldLineModel", name := "gone", desc := "(II)I" } : Jvm.MethodName)) ∈ lw_all := lw_g (lw_at lw_m8 99 rfl) rfl
theorem q1869 : (Jvm.Cond.selects "ShieldLineModel" ({ cls := "ShieldLineModel", name := "gone", desc := "(II)I" } : Jvm.MethodName) ({ cls := "ShieldLineModel", name := "gone", desc := "(II)I" } : Jvm.MethodName)) ∈ lw_all := lw_g (lw_at lw_m8 100 rfl) rfl
theorem q1870 : (Jvm.Cond.code ({ cls := "ShieldLineModel", name := "gone", desc := "(II)I" } : Jvm.MethodName) prog_31_method_52_code (7 : Nat) (Option.some Jvm.ClassFile.FieldType.int)) ∈ lw_all := lw_g (lw_at lw_m8 101 rfl) rfl
theorem q1871 : (Jvm.Cond.methodLink "ShieldLineModel" (265 : Nat) ({ cls := "ShieldLineModel", name := "lackBut", desc := "(II)I" } : Jvm.MethodName)) ∈ lw_all := lw_g (lw_at lw_m8 102 rfl) rfl
theorem q1872 : (Jvm.Cond.privateMethod ({ cls := "ShieldLineModel", name := "lackBut", desc := "(II)I" } : Jvm.MethodName)) ∈ lw_tbl := lw_at lw_m8 103 rfl
theorem q1873 : (Jvm.Cond.instanceMethod ({ cls := "ShieldLineModel", name := "lackBut", desc := "(II)I" } : Jvm.MethodName)) ∈ lw_all := lw_g (lw_at lw_m8 104 rfl) rfl
theorem q1874 : (Jvm.Cond.code ({ cls := "ShieldLineModel", name := "lackBut", desc := "(II)I" } : Jvm.MethodName) prog_31_method_51_code (4 : Nat) (Option.some Jvm.ClassFile.FieldType.int)) ∈ lw_all := lw_g (lw_at lw_m8 105 rfl) rfl
theorem q1876 : (Jvm.Cond.instanceMethod ({ cls := "ShieldLineModel", name := "people", desc := "(III)I" } : Jvm.MethodName)) ∈ lw_all := lw_g (lw_at lw_m8 107 rfl) rfl
theorem q1877 : (Jvm.Cond.selects "ShieldLineModel" ({ cls := "ShieldLineModel", name := "people", desc := "(III)I" } : Jvm.MethodName) ({ cls := "ShieldLineModel", name := "people", desc := "(III)I" } : Jvm.MethodName)) ∈ lw_all := lw_g (lw_at lw_m8 108 rfl) rfl
theorem q1878 : (Jvm.Cond.code ({ cls := "ShieldLineModel", name := "people", desc := "(III)I" } : Jvm.MethodName) prog_31_method_56_code (11 : Nat) (Option.some Jvm.ClassFile.FieldType.int)) ∈ lw_all := lw_g (lw_at lw_m8 109 rfl) rfl
theorem q1879 : (Jvm.Cond.methodLink "ShieldLineModel" (268 : Nat) ({ cls := "ShieldLineModel", name := "isShelf", desc := "(I)Z" } : Jvm.MethodName)) ∈ lw_all := lw_g (lw_at lw_m8 110 rfl) rfl
theorem q1880 : (Jvm.Cond.static ({ cls := "ShieldLineModel", name := "isShelf", desc := "(I)Z" } : Jvm.MethodName)) ∈ lw_all := lw_g (lw_at lw_m8 111 rfl) rfl
theorem q1881 : (Jvm.Cond.code ({ cls := "ShieldLineModel", name := "isShelf", desc := "(I)Z" } : Jvm.MethodName) prog_31_method_53_code (1 : Nat) (Option.some Jvm.ClassFile.FieldType.boolean)) ∈ lw_all := lw_g (lw_at lw_m8 112 rfl) rfl
theorem q1882 : (Jvm.Cond.constantLong "ShieldLineModel" (271 : Nat) (3 : Int64)) ∈ lw_all := lw_g (lw_at lw_m8 113 rfl) rfl
theorem q1883 : (Jvm.Cond.constantLong "ShieldLineModel" (273 : Nat) (2 : Int64)) ∈ lw_all := lw_g (lw_at lw_m8 114 rfl) rfl
theorem q1884 : (Jvm.Cond.methodLink "ShieldLineModel" (275 : Nat) ({ cls := "ShieldLineModel", name := "byteAt", desc := "(II)I" } : Jvm.MethodName)) ∈ lw_all := lw_g (lw_at lw_m8 115 rfl) rfl
theorem q1885 : (Jvm.Cond.privateMethod ({ cls := "ShieldLineModel", name := "byteAt", desc := "(II)I" } : Jvm.MethodName)) ∈ lw_tbl := lw_at lw_m8 116 rfl
theorem q1886 : (Jvm.Cond.instanceMethod ({ cls := "ShieldLineModel", name := "byteAt", desc := "(II)I" } : Jvm.MethodName)) ∈ lw_all := lw_g (lw_at lw_m8 117 rfl) rfl
theorem q1887 : (Jvm.Cond.code ({ cls := "ShieldLineModel", name := "byteAt", desc := "(II)I" } : Jvm.MethodName) prog_31_method_55_code (3 : Nat) (Option.some Jvm.ClassFile.FieldType.int)) ∈ lw_all := lw_g (lw_at lw_m8 118 rfl) rfl
theorem q1889 : (Jvm.Cond.instanceMethod ({ cls := "ShieldLineModel", name := "judge", desc := "(II)I" } : Jvm.MethodName)) ∈ lw_all := lw_g (lw_at lw_m8 120 rfl) rfl
theorem q1890 : (Jvm.Cond.selects "ShieldLineModel" ({ cls := "ShieldLineModel", name := "judge", desc := "(II)I" } : Jvm.MethodName) ({ cls := "ShieldLineModel", name := "judge", desc := "(II)I" } : Jvm.MethodName)) ∈ lw_all := lw_g (lw_at lw_m8 121 rfl) rfl
theorem q1891 : (Jvm.Cond.code ({ cls := "ShieldLineModel", name := "judge", desc := "(II)I" } : Jvm.MethodName) prog_31_method_58_code (3 : Nat) (Option.some Jvm.ClassFile.FieldType.int)) ∈ lw_all := lw_g (lw_at lw_m8 122 rfl) rfl
theorem q1892 : (Jvm.Cond.methodLink "ShieldLineModel" (278 : Nat) ({ cls := "ShieldLineModel", name := "bytesIn", desc := "(I)I" } : Jvm.MethodName)) ∈ lw_all := lw_g (lw_at lw_m8 123 rfl) rfl
theorem q1893 : (Jvm.Cond.privateMethod ({ cls := "ShieldLineModel", name := "bytesIn", desc := "(I)I" } : Jvm.MethodName)) ∈ lw_tbl := lw_at lw_m8 124 rfl
theorem q1894 : (Jvm.Cond.instanceMethod ({ cls := "ShieldLineModel", name := "bytesIn", desc := "(I)I" } : Jvm.MethodName)) ∈ lw_all := lw_g (lw_at lw_m8 125 rfl) rfl
theorem q1895 : (Jvm.Cond.code ({ cls := "ShieldLineModel", name := "bytesIn", desc := "(I)I" } : Jvm.MethodName) prog_31_method_54_code (2 : Nat) (Option.some Jvm.ClassFile.FieldType.int)) ∈ lw_all := lw_g (lw_at lw_m8 126 rfl) rfl
theorem q1896 : (Jvm.Cond.methodLink "ShieldLineModel" (281 : Nat) ({ cls := "ShieldLineModel", name := "wrong", desc := "(II)I" } : Jvm.MethodName)) ∈ lw_all := lw_g (lw_at lw_m8 127 rfl) rfl
theorem q1897 : (Jvm.Cond.privateMethod ({ cls := "ShieldLineModel", name := "wrong", desc := "(II)I" } : Jvm.MethodName)) ∈ lw_tbl := lw_at lw_m8 128 rfl
theorem q1898 : (Jvm.Cond.instanceMethod ({ cls := "ShieldLineModel", name := "wrong", desc := "(II)I" } : Jvm.MethodName)) ∈ lw_all := lw_g (lw_at lw_m8 129 rfl) rfl
theorem q1899 : (Jvm.Cond.code ({ cls := "ShieldLineModel", name := "wrong", desc := "(II)I" } : Jvm.MethodName) prog_31_method_57_code (5 : Nat) (Option.some Jvm.ClassFile.FieldType.int)) ∈ lw_all := lw_g (lw_at lw_m8 130 rfl) rfl
theorem q1901 : (Jvm.Cond.instanceMethod ({ cls := "ShieldLineModel", name := "fits", desc := "(III)I" } : Jvm.MethodName)) ∈ lw_all := lw_g (lw_at lw_m8 132 rfl) rfl
theorem q1902 : (Jvm.Cond.selects "ShieldLineModel" ({ cls := "ShieldLineModel", name := "fits", desc := "(III)I" } : Jvm.MethodName) ({ cls := "ShieldLineModel", name := "fits", desc := "(III)I" } : Jvm.MethodName)) ∈ lw_all := lw_g (lw_at lw_m8 133 rfl) rfl
theorem q1903 : (Jvm.Cond.code ({ cls := "ShieldLineModel", name := "fits", desc := "(III)I" } : Jvm.MethodName) prog_31_method_59_code (12 : Nat) (Option.some Jvm.ClassFile.FieldType.int)) ∈ lw_all := lw_g (lw_at lw_m8 134 rfl) rfl
theorem q1905 : (Jvm.Cond.instanceMethod ({ cls := "ShieldLineModel", name := "can", desc := "(II)J" } : Jvm.MethodName)) ∈ lw_all := lw_g (lw_at lw_m8 136 rfl) rfl
theorem q1906 : (Jvm.Cond.selects "ShieldLineModel" ({ cls := "ShieldLineModel", name := "can", desc := "(II)J" } : Jvm.MethodName) ({ cls := "ShieldLineModel", name := "can", desc := "(II)J" } : Jvm.MethodName)) ∈ lw_all := lw_g (lw_at lw_m8 137 rfl) rfl
theorem q1907 : (Jvm.Cond.code ({ cls := "ShieldLineModel", name := "can", desc := "(II)J" } : Jvm.MethodName) prog_31_method_60_code (7 : Nat) (Option.some Jvm.ClassFile.FieldType.long)) ∈ lw_all := lw_g (lw_at lw_m8 138 rfl) rfl
theorem q1908 : (Jvm.Cond.constantLong "ShieldLineModel" (286 : Nat) (-9223372036854775808 : Int64)) ∈ lw_all := lw_g (lw_at lw_m8 139 rfl) rfl
theorem q1910 : (Jvm.Cond.instanceMethod ({ cls := "ShieldLineModel", name := "paid", desc := "(II)I" } : Jvm.MethodName)) ∈ lw_all := lw_g (lw_at lw_m8 141 rfl) rfl
theorem q1911 : (Jvm.Cond.selects "ShieldLineModel" ({ cls := "ShieldLineModel", name := "paid", desc := "(II)I" } : Jvm.MethodName) ({ cls := "ShieldLineModel", name := "paid", desc := "(II)I" } : Jvm.MethodName)) ∈ lw_all := lw_g (lw_at lw_m8 142 rfl) rfl
theorem q1912 : (Jvm.Cond.code ({ cls := "ShieldLineModel", name := "paid", desc := "(II)I" } : Jvm.MethodName) prog_31_method_61_code (7 : Nat) (Option.some Jvm.ClassFile.FieldType.int)) ∈ lw_all := lw_g (lw_at lw_m8 143 rfl) rfl
theorem q1914 : (Jvm.Cond.instanceMethod ({ cls := "ShieldLineModel", name := "byTurns", desc := "(II)I" } : Jvm.MethodName)) ∈ lw_all := lw_g (lw_at lw_m8 145 rfl) rfl
theorem q1915 : (Jvm.Cond.selects "ShieldLineModel" ({ cls := "ShieldLineModel", name := "byTurns", desc := "(II)I" } : Jvm.MethodName) ({ cls := "ShieldLineModel", name := "byTurns", desc := "(II)I" } : Jvm.MethodName)) ∈ lw_all := lw_g (lw_at lw_m8 146 rfl) rfl
theorem q1916 : (Jvm.Cond.code ({ cls := "ShieldLineModel", name := "byTurns", desc := "(II)I" } : Jvm.MethodName) prog_31_method_64_code (4 : Nat) (Option.some Jvm.ClassFile.FieldType.int)) ∈ lw_all := lw_g (lw_at lw_m8 147 rfl) rfl
theorem q1917 : (Jvm.Cond.methodLink "ShieldLineModel" (291 : Nat) ({ cls := "ShieldLineModel", name := "turns", desc := "(III)I" } : Jvm.MethodName)) ∈ lw_all := lw_g (lw_at lw_m8 148 rfl) rfl
theorem q1918 : (Jvm.Cond.privateMethod ({ cls := "ShieldLineModel", name := "turns", desc := "(III)I" } : Jvm.MethodName)) ∈ lw_tbl := lw_at lw_m8 149 rfl
theorem q1919 : (Jvm.Cond.instanceMethod ({ cls := "ShieldLineModel", name := "turns", desc := "(III)I" } : Jvm.MethodName)) ∈ lw_all := lw_g (lw_at lw_m8 150 rfl) rfl
theorem q1920 : (Jvm.Cond.code ({ cls := "ShieldLineModel", name := "turns", desc := "(III)I" } : Jvm.MethodName) prog_31_method_63_code (10 : Nat) (Option.some Jvm.ClassFile.FieldType.int)) ∈ lw_all := lw_g (lw_at lw_m8 151 rfl) rfl
theorem q1921 : (Jvm.Cond.methodLink "ShieldLineModel" (288 : Nat) ({ cls := "ShieldLineModel", name := "passOn", desc := "(I)V" } : Jvm.MethodName)) ∈ lw_all := lw_g (lw_at lw_m8 152 rfl) rfl
theorem q1922 : (Jvm.Cond.privateMethod ({ cls := "ShieldLineModel", name := "passOn", desc := "(I)V" } : Jvm.MethodName)) ∈ lw_tbl := lw_at lw_m8 153 rfl
theorem q1923 : (Jvm.Cond.instanceMethod ({ cls := "ShieldLineModel", name := "passOn", desc := "(I)V" } : Jvm.MethodName)) ∈ lw_all := lw_g (lw_at lw_m8 154 rfl) rfl
theorem q1924 : (Jvm.Cond.code ({ cls := "ShieldLineModel", name := "passOn", desc := "(I)V" } : Jvm.MethodName) prog_31_method_62_code (3 : Nat) (Option.none : Option Jvm.ClassFile.FieldType)) ∈ lw_all := lw_g (lw_at lw_m8 155 rfl) rfl
theorem q1926 : (Jvm.Cond.instanceMethod ({ cls := "ShieldLineModel", name := "drawn", desc := "(III)I" } : Jvm.MethodName)) ∈ lw_all := lw_g (lw_at lw_m8 157 rfl) rfl
theorem q1927 : (Jvm.Cond.selects "ShieldLineModel" ({ cls := "ShieldLineModel", name := "drawn", desc := "(III)I" } : Jvm.MethodName) ({ cls := "ShieldLineModel", name := "drawn", desc := "(III)I" } : Jvm.MethodName)) ∈ lw_all := lw_g (lw_at lw_m8 158 rfl) rfl
theorem q1928 : (Jvm.Cond.code ({ cls := "ShieldLineModel", name := "drawn", desc := "(III)I" } : Jvm.MethodName) prog_31_method_65_code (9 : Nat) (Option.some Jvm.ClassFile.FieldType.int)) ∈ lw_all := lw_g (lw_at lw_m8 159 rfl) rfl
theorem q1929 : (Jvm.Cond.constant "ShieldLineModel" (297 : Nat) (1103515245 : Int32)) ∈ lw_all := lw_g (lw_at lw_m8 160 rfl) rfl
theorem q1931 : (Jvm.Cond.instanceMethod ({ cls := "ShieldLineModel", name := "day", desc := "()I" } : Jvm.MethodName)) ∈ lw_all := lw_g (lw_at lw_m8 162 rfl) rfl
theorem q1932 : (Jvm.Cond.selects "ShieldLineModel" ({ cls := "ShieldLineModel", name := "day", desc := "()I" } : Jvm.MethodName) ({ cls := "ShieldLineModel", name := "day", desc := "()I" } : Jvm.MethodName)) ∈ lw_all := lw_g (lw_at lw_m8 163 rfl) rfl
theorem q1933 : (Jvm.Cond.code ({ cls := "ShieldLineModel", name := "day", desc := "()I" } : Jvm.MethodName) prog_31_method_66_code (2 : Nat) (Option.some Jvm.ClassFile.FieldType.int)) ∈ lw_all := lw_g (lw_at lw_m8 164 rfl) rfl
theorem q1935 : (Jvm.Cond.instanceMethod ({ cls := "ShieldLineModel", name := "cares", desc := "(II)I" } : Jvm.MethodName)) ∈ lw_all := lw_g (lw_at lw_m8 166 rfl) rfl
theorem q1936 : (Jvm.Cond.selects "ShieldLineModel" ({ cls := "ShieldLineModel", name := "cares", desc := "(II)I" } : Jvm.MethodName) ({ cls := "ShieldLineModel", name := "cares", desc := "(II)I" } : Jvm.MethodName)) ∈ lw_all := lw_g (lw_at lw_m8 167 rfl) rfl
theorem q1937 : (Jvm.Cond.code ({ cls := "ShieldLineModel", name := "cares", desc := "(II)I" } : Jvm.MethodName) prog_31_method_67_code (4 : Nat) (Option.some Jvm.ClassFile.FieldType.int)) ∈ lw_all := lw_g (lw_at lw_m8 168 rfl) rfl
theorem q1939 : (Jvm.Cond.instanceMethod ({ cls := "ShieldLineModel", name := "gives", desc := "(III)I" } : Jvm.MethodName)) ∈ lw_all := lw_g (lw_at lw_m8 170 rfl) rfl
theorem q1940 : (Jvm.Cond.selects "ShieldLineModel" ({ cls := "ShieldLineModel", name := "gives", desc := "(III)I" } : Jvm.MethodName) ({ cls := "ShieldLineModel", name := "gives", desc := "(III)I" } : Jvm.MethodName)) ∈ lw_all := lw_g (lw_at lw_m8 171 rfl) rfl
theorem q1941 : (Jvm.Cond.code ({ cls := "ShieldLineModel", name := "gives", desc := "(III)I" } : Jvm.MethodName) prog_31_method_68_code (4 : Nat) (Option.some Jvm.ClassFile.FieldType.int)) ∈ lw_all := lw_g (lw_at lw_m8 172 rfl) rfl
theorem q1943 : (Jvm.Cond.instanceMethod ({ cls := "ShieldLineModel", name := "led", desc := "(I)I" } : Jvm.MethodName)) ∈ lw_all := lw_g (lw_at lw_m8 174 rfl) rfl
theorem q1944 : (Jvm.Cond.selects "ShieldLineModel" ({ cls := "ShieldLineModel", name := "led", desc := "(I)I" } : Jvm.MethodName) ({ cls := "ShieldLineModel", name := "led", desc := "(I)I" } : Jvm.MethodName)) ∈ lw_all := lw_g (lw_at lw_m8 175 rfl) rfl
theorem q1945 : (Jvm.Cond.code ({ cls := "ShieldLineModel", name := "led", desc := "(I)I" } : Jvm.MethodName) prog_31_method_69_code (2 : Nat) (Option.some Jvm.ClassFile.FieldType.int)) ∈ lw_all := lw_g (lw_at lw_m8 176 rfl) rfl
theorem q1947 : (Jvm.Cond.instanceMethod ({ cls := "ShieldLineModel", name := "image", desc := "()I" } : Jvm.MethodName)) ∈ lw_all := lw_g (lw_at lw_m8 178 rfl) rfl
theorem q1948 : (Jvm.Cond.selects "ShieldLineModel" ({ cls := "ShieldLineModel", name := "image", desc := "()I" } : Jvm.MethodName) ({ cls := "ShieldLineModel", name := "image", desc := "()I" } : Jvm.MethodName)) ∈ lw_all := lw_g (lw_at lw_m8 179 rfl) rfl
theorem q1949 : (Jvm.Cond.code ({ cls := "ShieldLineModel", name := "image", desc := "()I" } : Jvm.MethodName) prog_31_method_70_code (2 : Nat) (Option.some Jvm.ClassFile.FieldType.int)) ∈ lw_all := lw_g (lw_at lw_m8 180 rfl) rfl
theorem q1951 : (Jvm.Cond.instanceMethod ({ cls := "ShieldLineModel", name := "back", desc := "()I" } : Jvm.MethodName)) ∈ lw_all := lw_g (lw_at lw_m8 182 rfl) rfl
theorem q1952 : (Jvm.Cond.selects "ShieldLineModel" ({ cls := "ShieldLineModel", name := "back", desc := "()I" } : Jvm.MethodName) ({ cls := "ShieldLineModel", name := "back", desc := "()I" } : Jvm.MethodName)) ∈ lw_all := lw_g (lw_at lw_m8 183 rfl) rfl
theorem q1953 : (Jvm.Cond.code ({ cls := "ShieldLineModel", name := "back", desc := "()I" } : Jvm.MethodName) prog_31_method_71_code (2 : Nat) (Option.some Jvm.ClassFile.FieldType.int)) ∈ lw_all := lw_g (lw_at lw_m8 184 rfl) rfl
theorem q1955 : (Jvm.Cond.instanceMethod ({ cls := "ShieldLineModel", name := "body", desc := "(I)I" } : Jvm.MethodName)) ∈ lw_all := lw_g (lw_at lw_m8 186 rfl) rfl
theorem q1956 : (Jvm.Cond.selects "ShieldLineModel" ({ cls := "ShieldLineModel", name := "body", desc := "(I)I" } : Jvm.MethodName) ({ cls := "ShieldLineModel", name := "body", desc := "(I)I" } : Jvm.MethodName)) ∈ lw_all := lw_g (lw_at lw_m8 187 rfl) rfl
theorem q1957 : (Jvm.Cond.code ({ cls := "ShieldLineModel", name := "body", desc := "(I)I" } : Jvm.MethodName) prog_31_method_72_code (2 : Nat) (Option.some Jvm.ClassFile.FieldType.int)) ∈ lw_all := lw_g (lw_at lw_m8 188 rfl) rfl
theorem q1959 : (Jvm.Cond.instanceMethod ({ cls := "ShieldLineModel", name := "act", desc := "(III)I" } : Jvm.MethodName)) ∈ lw_all := lw_g (lw_at lw_m8 190 rfl) rfl
theorem q1960 : (Jvm.Cond.selects "ShieldLineModel" ({ cls := "ShieldLineModel", name := "act", desc := "(III)I" } : Jvm.MethodName) ({ cls := "ShieldLineModel", name := "act", desc := "(III)I" } : Jvm.MethodName)) ∈ lw_all := lw_g (lw_at lw_m8 191 rfl) rfl
theorem q1961 : (Jvm.Cond.code ({ cls := "ShieldLineModel", name := "act", desc := "(III)I" } : Jvm.MethodName) prog_31_method_75_code (4 : Nat) (Option.some Jvm.ClassFile.FieldType.int)) ∈ lw_all := lw_g (lw_at lw_m8 192 rfl) rfl
theorem q1962 : (Jvm.Cond.methodLink "ShieldLineModel" (314 : Nat) ({ cls := "ShieldLineModel", name := "does", desc := "(III)I" } : Jvm.MethodName)) ∈ lw_all := lw_g (lw_at lw_m8 193 rfl) rfl
theorem q1963 : (Jvm.Cond.privateMethod ({ cls := "ShieldLineModel", name := "does", desc := "(III)I" } : Jvm.MethodName)) ∈ lw_tbl := lw_at lw_m8 194 rfl
theorem q1964 : (Jvm.Cond.instanceMethod ({ cls := "ShieldLineModel", name := "does", desc := "(III)I" } : Jvm.MethodName)) ∈ lw_all := lw_g (lw_at lw_m8 195 rfl) rfl
theorem q1965 : (Jvm.Cond.code ({ cls := "ShieldLineModel", name := "does", desc := "(III)I" } : Jvm.MethodName) prog_31_method_73_code (4 : Nat) (Option.some Jvm.ClassFile.FieldType.int)) ∈ lw_all := lw_g (lw_at lw_m8 196 rfl) rfl
theorem q1966 : (Jvm.Cond.methodLink "ShieldLineModel" (307 : Nat) ({ cls := "ShieldLineModel", name := "byKind", desc := "(IIII)I" } : Jvm.MethodName)) ∈ lw_all := lw_g (lw_at lw_m8 197 rfl) rfl
theorem q1967 : (Jvm.Cond.privateMethod ({ cls := "ShieldLineModel", name := "byKind", desc := "(IIII)I" } : Jvm.MethodName)) ∈ lw_tbl := lw_at lw_m8 198 rfl
theorem q1968 : (Jvm.Cond.instanceMethod ({ cls := "ShieldLineModel", name := "byKind", desc := "(IIII)I" } : Jvm.MethodName)) ∈ lw_all := lw_g (lw_at lw_m8 199 rfl) rfl
theorem q1969 : (Jvm.Cond.code ({ cls := "ShieldLineModel", name := "byKind", desc := "(IIII)I" } : Jvm.MethodName) prog_31_method_74_code (8 : Nat) (Option.some Jvm.ClassFile.FieldType.int)) ∈ lw_all := lw_g (lw_at lw_m8 200 rfl) rfl
theorem q1971 : (Jvm.Cond.instanceMethod ({ cls := "ShieldLineModel", name := "trace", desc := "(I)I" } : Jvm.MethodName)) ∈ lw_all := lw_g (lw_at lw_m8 202 rfl) rfl
theorem q1972 : (Jvm.Cond.selects "ShieldLineModel" ({ cls := "ShieldLineModel", name := "trace", desc := "(I)I" } : Jvm.MethodName) ({ cls := "ShieldLineModel", name := "trace", desc := "(I)I" } : Jvm.MethodName)) ∈ lw_all := lw_g (lw_at lw_m8 203 rfl) rfl
theorem q1973 : (Jvm.Cond.code ({ cls := "ShieldLineModel", name := "trace", desc := "(I)I" } : Jvm.MethodName) prog_31_method_76_code (2 : Nat) (Option.some Jvm.ClassFile.FieldType.int)) ∈ lw_all := lw_g (lw_at lw_m8 204 rfl) rfl
theorem q1975 : (Jvm.Cond.instanceMethod ({ cls := "ShieldLineModel", name := "keep", desc := "(II)I" } : Jvm.MethodName)) ∈ lw_all := lw_g (lw_at lw_m8 206 rfl) rfl
theorem q1976 : (Jvm.Cond.selects "ShieldLineModel" ({ cls := "ShieldLineModel", name := "keep", desc := "(II)I" } : Jvm.MethodName) ({ cls := "ShieldLineModel", name := "keep", desc := "(II)I" } : Jvm.MethodName)) ∈ lw_all := lw_g (lw_at lw_m8 207 rfl) rfl
theorem q1977 : (Jvm.Cond.code ({ cls := "ShieldLineModel", name := "keep", desc := "(II)I" } : Jvm.MethodName) prog_31_method_77_code (3 : Nat) (Option.some Jvm.ClassFile.FieldType.int)) ∈ lw_all := lw_g (lw_at lw_m8 208 rfl) rfl
theorem q1979 : (Jvm.Cond.instanceMethod ({ cls := "ShieldLineModel", name := "row", desc := "(III)I" } : Jvm.MethodName)) ∈ lw_all := lw_g (lw_at lw_m8 210 rfl) rfl
theorem q1980 : (Jvm.Cond.selects "ShieldLineModel" ({ cls := "ShieldLineModel", name := "row", desc := "(III)I" } : Jvm.MethodName) ({ cls := "ShieldLineModel", name := "row", desc := "(III)I" } : Jvm.MethodName)) ∈ lw_all := lw_g (lw_at lw_m8 211 rfl) rfl
theorem q1981 : (Jvm.Cond.code ({ cls := "ShieldLineModel", name := "row", desc := "(III)I" } : Jvm.MethodName) prog_31_method_78_code (5 : Nat) (Option.some Jvm.ClassFile.FieldType.int)) ∈ lw_all := lw_g (lw_at lw_m8 212 rfl) rfl
theorem q1983 : (Jvm.Cond.instanceMethod ({ cls := "ShieldLineModel", name := "put", desc := "(IIJ)I" } : Jvm.MethodName)) ∈ lw_all := lw_g (lw_at lw_m8 214 rfl) rfl
theorem q1984 : (Jvm.Cond.selects "ShieldLineModel" ({ cls := "ShieldLineModel", name := "put", desc := "(IIJ)I" } : Jvm.MethodName) ({ cls := "ShieldLineModel", name := "put", desc := "(IIJ)I" } : Jvm.MethodName)) ∈ lw_all := lw_g (lw_at lw_m8 215 rfl) rfl
theorem q1985 : (Jvm.Cond.code ({ cls := "ShieldLineModel", name := "put", desc := "(IIJ)I" } : Jvm.MethodName) prog_31_method_80_code (7 : Nat) (Option.some Jvm.ClassFile.FieldType.int)) ∈ lw_all := lw_g (lw_at lw_m8 216 rfl) rfl
theorem q1986 : (Jvm.Cond.methodLink "ShieldLineModel" (317 : Nat) ({ cls := "ShieldLineModel", name := "rowAt", desc := "(II)I" } : Jvm.MethodName)) ∈ lw_all := lw_g (lw_at lw_m8 217 rfl) rfl
theorem q1987 : (Jvm.Cond.privateMethod ({ cls := "ShieldLineModel", name := "rowAt", desc := "(II)I" } : Jvm.MethodName)) ∈ lw_tbl := lw_at lw_m8 218 rfl
theorem q1988 : (Jvm.Cond.instanceMethod ({ cls := "ShieldLineModel", name := "rowAt", desc := "(II)I" } : Jvm.MethodName)) ∈ lw_all := lw_g (lw_at lw_m8 219 rfl) rfl
theorem q1989 : (Jvm.Cond.code ({ cls := "ShieldLineModel", name := "rowAt", desc := "(II)I" } : Jvm.MethodName) prog_31_method_79_code (3 : Nat) (Option.some Jvm.ClassFile.FieldType.int)) ∈ lw_all := lw_g (lw_at lw_m8 220 rfl) rfl
theorem q1991 : (Jvm.Cond.instanceMethod ({ cls := "ShieldLineModel", name := "element", desc := "(II)J" } : Jvm.MethodName)) ∈ lw_all := lw_g (lw_at lw_m8 222 rfl) rfl
theorem q1992 : (Jvm.Cond.selects "ShieldLineModel" ({ cls := "ShieldLineModel", name := "element", desc := "(II)J" } : Jvm.MethodName) ({ cls := "ShieldLineModel", name := "element", desc := "(II)J" } : Jvm.MethodName)) ∈ lw_all := lw_g (lw_at lw_m8 223 rfl) rfl
theorem q1993 : (Jvm.Cond.code ({ cls := "ShieldLineModel", name := "element", desc := "(II)J" } : Jvm.MethodName) prog_31_method_81_code (3 : Nat) (Option.some Jvm.ClassFile.FieldType.long)) ∈ lw_all := lw_g (lw_at lw_m8 224 rfl) rfl
theorem q1995 : (Jvm.Cond.instanceMethod ({ cls := "ShieldLineModel", name := "shift", desc := "(IIIII)I" } : Jvm.MethodName)) ∈ lw_all := lw_g (lw_at lw_m8 226 rfl) rfl
theorem q1996 : (Jvm.Cond.selects "ShieldLineModel" ({ cls := "ShieldLineModel", name := "shift", desc := "(IIIII)I" } : Jvm.MethodName) ({ cls := "ShieldLineModel", name := "shift", desc := "(IIIII)I" } : Jvm.MethodName)) ∈ lw_all := lw_g (lw_at lw_m8 227 rfl) rfl
theorem q1997 : (Jvm.Cond.code ({ cls := "ShieldLineModel", name := "shift", desc := "(IIIII)I" } : Jvm.MethodName) prog_31_method_82_code (7 : Nat) (Option.some Jvm.ClassFile.FieldType.int)) ∈ lw_all := lw_g (lw_at lw_m8 228 rfl) rfl
theorem q1999 : (Jvm.Cond.instanceMethod ({ cls := "ShieldLineModel", name := "taken", desc := "(II)I" } : Jvm.MethodName)) ∈ lw_all := lw_g (lw_at lw_m8 230 rfl) rfl
theorem q2000 : (Jvm.Cond.selects "ShieldLineModel" ({ cls := "ShieldLineModel", name := "taken", desc := "(II)I" } : Jvm.MethodName) ({ cls := "ShieldLineModel", name := "taken", desc := "(II)I" } : Jvm.MethodName)) ∈ lw_all := lw_g (lw_at lw_m8 231 rfl) rfl
theorem q2001 : (Jvm.Cond.code ({ cls := "ShieldLineModel", name := "taken", desc := "(II)I" } : Jvm.MethodName) prog_31_method_83_code (5 : Nat) (Option.some Jvm.ClassFile.FieldType.int)) ∈ lw_all := lw_g (lw_at lw_m8 232 rfl) rfl
theorem q2003 : (Jvm.Cond.instanceMethod ({ cls := "ShieldLineModel", name := "count", desc := "(I)I" } : Jvm.MethodName)) ∈ lw_all := lw_g (lw_at lw_m8 234 rfl) rfl
theorem q2004 : (Jvm.Cond.selects "ShieldLineModel" ({ cls := "ShieldLineModel", name := "count", desc := "(I)I" } : Jvm.MethodName) ({ cls := "ShieldLineModel", name := "count", desc := "(I)I" } : Jvm.MethodName)) ∈ lw_all := lw_g (lw_at lw_m8 235 rfl) rfl
theorem q2005 : (Jvm.Cond.code ({ cls := "ShieldLineModel", name := "count", desc := "(I)I" } : Jvm.MethodName) prog_31_method_84_code (2 : Nat) (Option.some Jvm.ClassFile.FieldType.int)) ∈ lw_all := lw_g (lw_at lw_m8 236 rfl) rfl
theorem in_X2 : ∀ w ∈ wsX20, w ∈ lw_all := lw_in wsX20 [1581, 1583, 1585, 1587, 1589, 1591, 1593, 1595, 1597, 1599, 1601, 1603, 1605, 1607, 1609, 1611, 1613, 1615, 1617, 1619, 1621, 1623, 1625, 1627, 1629, 1631, 1633, 1635, 1637, 1639, 1641, 1643, 1645, 1647, 1649, 1651, 1653, 1655, 1657, 1659, 1661, 1663, 1665, 1667] (by decide +kernel) (by decide +kernel)

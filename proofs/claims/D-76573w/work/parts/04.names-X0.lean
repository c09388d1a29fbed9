/-! ShieldLine -/
set_option maxRecDepth 100000
def RX0 : String := "ShieldLine"
def TX0 : u_T := fun k => match k with
  | 0 => ("ShieldLine", "people", "[LShieldLine$Person;", true)
  | 1 => ("ShieldLine", "many", "I", false)
  | 2 => ("ShieldLine", "wind", "I", false)
  | 3 => ("ShieldLine", "dayNow", "I", false)
  | 4 => ("ShieldLine", "changes", "[LShieldLine$Change;", true)
  | 5 => ("ShieldLine", "doneMany", "I", false)
  | 6 => ("ShieldLine", "undoneMany", "I", false)
  | 7 => ("ShieldLine", "tape", "[B", true)
  | 8 => ("ShieldLine", "taped", "I", false)
  | 9 => ("ShieldLine", "law", "LShieldLine$Line;", false)
  | 10 => ("ShieldLine", "facts", "LShieldLine$Facts;", true)
  | 11 => ("ShieldLine", "store1", "[I", true)
  | 12 => ("ShieldLine", "whom1", "[I", true)
  | 13 => ("ShieldLine", "came1", "[I", true)
  | 14 => ("ShieldLine", "carers1", "[I", true)
  | 15 => ("ShieldLine", "day1", "I", false)
  | 16 => ("ShieldLine", "there1", "I", false)
  | 17 => ("ShieldLine", "allCame", "I", false)
  | 18 => ("ShieldLine", "tried", "[I", true)
  | 19 => ("ShieldLine", "bestTried", "[I", true)
  | 20 => ("ShieldLine", "bestCount", "I", false)
  | 21 => ("ShieldLine", "bestStore", "I", false)
  | 22 => ("ShieldLine", "told", "[I", true)
  | 23 => ("ShieldLine", "toldMany", "I", false)
  | 24 => ("ShieldLine", "turnDays", "I", false)
  | 25 => ("ShieldLine", "ledDays", "I", false)
  | 26 => ("ShieldLine", "ledCame", "I", false)
  | 27 => ("ShieldLine", "ledCares", "I", false)
  | 28 => ("ShieldLine", "ledGiven", "I", false)
  | 29 => ("ShieldLine", "ledLacked", "I", false)
  | 30 => ("ShieldLine", "hasImage", "Z", false)
  | 31 => ("ShieldLine", "keptStore", "[I", true)
  | 32 => ("ShieldLine", "keptWhom", "[I", true)
  | 33 => ("ShieldLine", "keptMany", "I", false)
  | 34 => ("ShieldLine", "keptDay", "I", false)
  | 35 => ("ShieldLine", "keptDays", "I", false)
  | 36 => ("ShieldLine", "keptCame", "I", false)
  | 37 => ("ShieldLine", "keptCares", "I", false)
  | 38 => ("ShieldLine", "keptGiven", "I", false)
  | 39 => ("ShieldLine", "keptLacked", "I", false)
  | 40 => ("ShieldLine", "traces", "I", false)
  | 41 => ("ShieldLine", "traced", "[B", true)
  | 42 => ("ShieldLine", "bodies", "[LShieldLine$Shield;", true)
  | 43 => ("ShieldLine", "bodyMany", "I", false)
  | _ => ("ShieldLine", "shelves", "[LShieldLine$Held;", true)
def tyX0 : Nat → FieldType := fun k => match k with
  | 0 => .array (.object "ShieldLine$Person")
  | 1 => .int
  | 2 => .int
  | 3 => .int
  | 4 => .array (.object "ShieldLine$Change")
  | 5 => .int
  | 6 => .int
  | 7 => .array .byte
  | 8 => .int
  | 9 => .object "ShieldLine$Line"
  | 10 => .object "ShieldLine$Facts"
  | 11 => .array .int
  | 12 => .array .int
  | 13 => .array .int
  | 14 => .array .int
  | 15 => .int
  | 16 => .int
  | 17 => .int
  | 18 => .array .int
  | 19 => .array .int
  | 20 => .int
  | 21 => .int
  | 22 => .array .int
  | 23 => .int
  | 24 => .int
  | 25 => .int
  | 26 => .int
  | 27 => .int
  | 28 => .int
  | 29 => .int
  | 30 => .boolean
  | 31 => .array .int
  | 32 => .array .int
  | 33 => .int
  | 34 => .int
  | 35 => .int
  | 36 => .int
  | 37 => .int
  | 38 => .int
  | 39 => .int
  | 40 => .int
  | 41 => .array .byte
  | 42 => .array (.object "ShieldLine$Shield")
  | 43 => .int
  | _ => .array (.object "ShieldLine$Held")
abbrev wsX00 : List Cond := u_ws RX0 TX0 45
set_option maxRecDepth 100000 in
theorem nmX0 : ∀ a, a < 45 → ∀ b, b < 45 → a ≠ b → (TX0 a).2.1 ≠ (TX0 b).2.1 := by decide +kernel
set_option maxRecDepth 100000 in
theorem tyX0_ok : ∀ k, k < 45 → parseFieldDescriptor (TX0 k).2.2.1 = some (tyX0 k) := by decide +kernel
abbrev cX0_init : ByteArray := prog_1_method_1_code
def yX0_init : MethodName := ⟨RX0, "<init>", "()V"⟩
def dkwX0_init_6 : List UInt8 := [181, 0, 77, 177]
abbrev dktX0_init_6 : List UInt8 := dkwX0_init_6 ++ []
def dkwX0_init_5 : List UInt8 := [16, 24, 188, 8, 181, 0, 66, 42, 16, 50, 189, 0, 69, 181, 0, 71, 42, 16, 6, 189, 0, 75]
abbrev dktX0_init_5 : List UInt8 := dkwX0_init_5 ++ dktX0_init_6
def dkwX0_init_4 : List UInt8 := [16, 60, 188, 10, 181, 0, 57, 42, 16, 8, 188, 10, 181, 0, 60, 42, 16, 8, 188, 10, 181, 0, 63, 42]
abbrev dktX0_init_4 : List UInt8 := dkwX0_init_4 ++ dktX0_init_5
def dkwX0_init_3 : List UInt8 := [16, 8, 188, 10, 181, 0, 48, 42, 16, 8, 188, 10, 181, 0, 51, 42, 16, 8, 188, 10, 181, 0, 54, 42]
abbrev dktX0_init_3 : List UInt8 := dkwX0_init_3 ++ dktX0_init_4
def dkwX0_init_2 : List UInt8 := [16, 8, 188, 10, 181, 0, 38, 42, 16, 8, 188, 10, 181, 0, 42, 42, 16, 8, 188, 10, 181, 0, 45, 42]
abbrev dktX0_init_2 : List UInt8 := dkwX0_init_2 ++ dktX0_init_3
def dkwX0_init_1 : List UInt8 := [181, 0, 23, 42, 16, 120, 188, 8, 181, 0, 27, 42, 187, 0, 31, 89, 183, 0, 33, 181, 0, 34, 42]
abbrev dktX0_init_1 : List UInt8 := dkwX0_init_1 ++ dktX0_init_2
def dkwX0_init_0 : List UInt8 := [42, 183, 0, 3, 42, 16, 8, 189, 0, 11, 181, 0, 13, 42, 5, 181, 0, 17, 42, 16, 40, 189, 0, 21]
abbrev dktX0_init_0 : List UInt8 := dkwX0_init_0 ++ dktX0_init_1
theorem dksX0_init_0 : cX0_init.data.toList.drop 0 = dktX0_init_0 := by decide +kernel
theorem dksX0_init_1 : cX0_init.data.toList.drop 24 = dktX0_init_1 := dk_seg dksX0_init_0 24 rfl rfl
theorem dksX0_init_2 : cX0_init.data.toList.drop 47 = dktX0_init_2 := dk_seg dksX0_init_1 23 rfl rfl
theorem dksX0_init_3 : cX0_init.data.toList.drop 71 = dktX0_init_3 := dk_seg dksX0_init_2 24 rfl rfl
theorem dksX0_init_4 : cX0_init.data.toList.drop 95 = dktX0_init_4 := dk_seg dksX0_init_3 24 rfl rfl
theorem dksX0_init_5 : cX0_init.data.toList.drop 119 = dktX0_init_5 := dk_seg dksX0_init_4 24 rfl rfl
theorem dksX0_init_6 : cX0_init.data.toList.drop 141 = dktX0_init_6 := dk_seg dksX0_init_5 22 rfl rfl
theorem dX0_init_0 : decode cX0_init 0 = .ok (.aload_n 0, 1) := dk_42 (dk_at dksX0_init_0 0 rfl rfl)
theorem dX0_init_1 : decode cX0_init 1 = .ok (.invokespecial 3, 3) := dk_183 0 3 (dk_at dksX0_init_0 1 rfl rfl)
theorem dX0_init_4 : decode cX0_init 4 = .ok (.aload_n 0, 1) := dk_42 (dk_at dksX0_init_0 4 rfl rfl)
theorem dX0_init_5 : decode cX0_init 5 = .ok (.bipush 8, 2) := dk_16 8 (dk_at dksX0_init_0 5 rfl rfl)
theorem dX0_init_7 : decode cX0_init 7 = .ok (.anewarray 11, 3) := dk_189 0 11 (dk_at dksX0_init_0 7 rfl rfl)
theorem dX0_init_10 : decode cX0_init 10 = .ok (.putfield 13, 3) := dk_181 0 13 (dk_at dksX0_init_0 10 rfl rfl)
theorem dX0_init_13 : decode cX0_init 13 = .ok (.aload_n 0, 1) := dk_42 (dk_at dksX0_init_0 13 rfl rfl)
theorem dX0_init_14 : decode cX0_init 14 = .ok (.iconst 2, 1) := dk_5 (dk_at dksX0_init_0 14 rfl rfl)
theorem dX0_init_15 : decode cX0_init 15 = .ok (.putfield 17, 3) := dk_181 0 17 (dk_at dksX0_init_0 15 rfl rfl)
theorem dX0_init_18 : decode cX0_init 18 = .ok (.aload_n 0, 1) := dk_42 (dk_at dksX0_init_0 18 rfl rfl)
theorem dX0_init_19 : decode cX0_init 19 = .ok (.bipush 40, 2) := dk_16 40 (dk_at dksX0_init_0 19 rfl rfl)
theorem dX0_init_21 : decode cX0_init 21 = .ok (.anewarray 21, 3) := dk_189 0 21 (dk_at dksX0_init_0 21 rfl rfl)
theorem dX0_init_24 : decode cX0_init 24 = .ok (.putfield 23, 3) := dk_181 0 23 (dk_at dksX0_init_1 0 rfl rfl)
theorem dX0_init_27 : decode cX0_init 27 = .ok (.aload_n 0, 1) := dk_42 (dk_at dksX0_init_1 3 rfl rfl)
theorem dX0_init_28 : decode cX0_init 28 = .ok (.bipush 120, 2) := dk_16 120 (dk_at dksX0_init_1 4 rfl rfl)
theorem dX0_init_30 : decode cX0_init 30 = .ok (.newarray .byte, 2) := dk_188_8 (dk_at dksX0_init_1 6 rfl rfl)
theorem dX0_init_32 : decode cX0_init 32 = .ok (.putfield 27, 3) := dk_181 0 27 (dk_at dksX0_init_1 8 rfl rfl)
theorem dX0_init_35 : decode cX0_init 35 = .ok (.aload_n 0, 1) := dk_42 (dk_at dksX0_init_1 11 rfl rfl)
theorem dX0_init_36 : decode cX0_init 36 = .ok (.new 31, 3) := dk_187 0 31 (dk_at dksX0_init_1 12 rfl rfl)
theorem dX0_init_39 : decode cX0_init 39 = .ok (.dup, 1) := dk_89 (dk_at dksX0_init_1 15 rfl rfl)
theorem dX0_init_40 : decode cX0_init 40 = .ok (.invokespecial 33, 3) := dk_183 0 33 (dk_at dksX0_init_1 16 rfl rfl)
theorem dX0_init_43 : decode cX0_init 43 = .ok (.putfield 34, 3) := dk_181 0 34 (dk_at dksX0_init_1 19 rfl rfl)
theorem dX0_init_46 : decode cX0_init 46 = .ok (.aload_n 0, 1) := dk_42 (dk_at dksX0_init_1 22 rfl rfl)
theorem dX0_init_47 : decode cX0_init 47 = .ok (.bipush 8, 2) := dk_16 8 (dk_at dksX0_init_2 0 rfl rfl)
theorem dX0_init_49 : decode cX0_init 49 = .ok (.newarray .int, 2) := dk_188_10 (dk_at dksX0_init_2 2 rfl rfl)
theorem dX0_init_51 : decode cX0_init 51 = .ok (.putfield 38, 3) := dk_181 0 38 (dk_at dksX0_init_2 4 rfl rfl)
theorem dX0_init_54 : decode cX0_init 54 = .ok (.aload_n 0, 1) := dk_42 (dk_at dksX0_init_2 7 rfl rfl)
theorem dX0_init_55 : decode cX0_init 55 = .ok (.bipush 8, 2) := dk_16 8 (dk_at dksX0_init_2 8 rfl rfl)
theorem dX0_init_57 : decode cX0_init 57 = .ok (.newarray .int, 2) := dk_188_10 (dk_at dksX0_init_2 10 rfl rfl)
theorem dX0_init_59 : decode cX0_init 59 = .ok (.putfield 42, 3) := dk_181 0 42 (dk_at dksX0_init_2 12 rfl rfl)
theorem dX0_init_62 : decode cX0_init 62 = .ok (.aload_n 0, 1) := dk_42 (dk_at dksX0_init_2 15 rfl rfl)
theorem dX0_init_63 : decode cX0_init 63 = .ok (.bipush 8, 2) := dk_16 8 (dk_at dksX0_init_2 16 rfl rfl)
theorem dX0_init_65 : decode cX0_init 65 = .ok (.newarray .int, 2) := dk_188_10 (dk_at dksX0_init_2 18 rfl rfl)
theorem dX0_init_67 : decode cX0_init 67 = .ok (.putfield 45, 3) := dk_181 0 45 (dk_at dksX0_init_2 20 rfl rfl)
theorem dX0_init_70 : decode cX0_init 70 = .ok (.aload_n 0, 1) := dk_42 (dk_at dksX0_init_2 23 rfl rfl)
theorem dX0_init_71 : decode cX0_init 71 = .ok (.bipush 8, 2) := dk_16 8 (dk_at dksX0_init_3 0 rfl rfl)
theorem dX0_init_73 : decode cX0_init 73 = .ok (.newarray .int, 2) := dk_188_10 (dk_at dksX0_init_3 2 rfl rfl)
theorem dX0_init_75 : decode cX0_init 75 = .ok (.putfield 48, 3) := dk_181 0 48 (dk_at dksX0_init_3 4 rfl rfl)
theorem dX0_init_78 : decode cX0_init 78 = .ok (.aload_n 0, 1) := dk_42 (dk_at dksX0_init_3 7 rfl rfl)
theorem dX0_init_79 : decode cX0_init 79 = .ok (.bipush 8, 2) := dk_16 8 (dk_at dksX0_init_3 8 rfl rfl)
theorem dX0_init_81 : decode cX0_init 81 = .ok (.newarray .int, 2) := dk_188_10 (dk_at dksX0_init_3 10 rfl rfl)
theorem dX0_init_83 : decode cX0_init 83 = .ok (.putfield 51, 3) := dk_181 0 51 (dk_at dksX0_init_3 12 rfl rfl)
theorem dX0_init_86 : decode cX0_init 86 = .ok (.aload_n 0, 1) := dk_42 (dk_at dksX0_init_3 15 rfl rfl)
theorem dX0_init_87 : decode cX0_init 87 = .ok (.bipush 8, 2) := dk_16 8 (dk_at dksX0_init_3 16 rfl rfl)
theorem dX0_init_89 : decode cX0_init 89 = .ok (.newarray .int, 2) := dk_188_10 (dk_at dksX0_init_3 18 rfl rfl)
theorem dX0_init_91 : decode cX0_init 91 = .ok (.putfield 54, 3) := dk_181 0 54 (dk_at dksX0_init_3 20 rfl rfl)
theorem dX0_init_94 : decode cX0_init 94 = .ok (.aload_n 0, 1) := dk_42 (dk_at dksX0_init_3 23 rfl rfl)
theorem dX0_init_95 : decode cX0_init 95 = .ok (.bipush 60, 2) := dk_16 60 (dk_at dksX0_init_4 0 rfl rfl)
theorem dX0_init_97 : decode cX0_init 97 = .ok (.newarray .int, 2) := dk_188_10 (dk_at dksX0_init_4 2 rfl rfl)
theorem dX0_init_99 : decode cX0_init 99 = .ok (.putfield 57, 3) := dk_181 0 57 (dk_at dksX0_init_4 4 rfl rfl)
theorem dX0_init_102 : decode cX0_init 102 = .ok (.aload_n 0, 1) := dk_42 (dk_at dksX0_init_4 7 rfl rfl)
theorem dX0_init_103 : decode cX0_init 103 = .ok (.bipush 8, 2) := dk_16 8 (dk_at dksX0_init_4 8 rfl rfl)
theorem dX0_init_105 : decode cX0_init 105 = .ok (.newarray .int, 2) := dk_188_10 (dk_at dksX0_init_4 10 rfl rfl)
theorem dX0_init_107 : decode cX0_init 107 = .ok (.putfield 60, 3) := dk_181 0 60 (dk_at dksX0_init_4 12 rfl rfl)
theorem dX0_init_110 : decode cX0_init 110 = .ok (.aload_n 0, 1) := dk_42 (dk_at dksX0_init_4 15 rfl rfl)
theorem dX0_init_111 : decode cX0_init 111 = .ok (.bipush 8, 2) := dk_16 8 (dk_at dksX0_init_4 16 rfl rfl)
theorem dX0_init_113 : decode cX0_init 113 = .ok (.newarray .int, 2) := dk_188_10 (dk_at dksX0_init_4 18 rfl rfl)
theorem dX0_init_115 : decode cX0_init 115 = .ok (.putfield 63, 3) := dk_181 0 63 (dk_at dksX0_init_4 20 rfl rfl)
theorem dX0_init_118 : decode cX0_init 118 = .ok (.aload_n 0, 1) := dk_42 (dk_at dksX0_init_4 23 rfl rfl)
theorem dX0_init_119 : decode cX0_init 119 = .ok (.bipush 24, 2) := dk_16 24 (dk_at dksX0_init_5 0 rfl rfl)
theorem dX0_init_121 : decode cX0_init 121 = .ok (.newarray .byte, 2) := dk_188_8 (dk_at dksX0_init_5 2 rfl rfl)
theorem dX0_init_123 : decode cX0_init 123 = .ok (.putfield 66, 3) := dk_181 0 66 (dk_at dksX0_init_5 4 rfl rfl)
theorem dX0_init_126 : decode cX0_init 126 = .ok (.aload_n 0, 1) := dk_42 (dk_at dksX0_init_5 7 rfl rfl)
theorem dX0_init_127 : decode cX0_init 127 = .ok (.bipush 50, 2) := dk_16 50 (dk_at dksX0_init_5 8 rfl rfl)
theorem dX0_init_129 : decode cX0_init 129 = .ok (.anewarray 69, 3) := dk_189 0 69 (dk_at dksX0_init_5 10 rfl rfl)
theorem dX0_init_132 : decode cX0_init 132 = .ok (.putfield 71, 3) := dk_181 0 71 (dk_at dksX0_init_5 13 rfl rfl)
theorem dX0_init_135 : decode cX0_init 135 = .ok (.aload_n 0, 1) := dk_42 (dk_at dksX0_init_5 16 rfl rfl)
theorem dX0_init_136 : decode cX0_init 136 = .ok (.bipush 6, 2) := dk_16 6 (dk_at dksX0_init_5 17 rfl rfl)
theorem dX0_init_138 : decode cX0_init 138 = .ok (.anewarray 75, 3) := dk_189 0 75 (dk_at dksX0_init_5 19 rfl rfl)
theorem dX0_init_141 : decode cX0_init 141 = .ok (.putfield 77, 3) := dk_181 0 77 (dk_at dksX0_init_6 0 rfl rfl)
theorem dX0_init_144 : decode cX0_init 144 = .ok (.return_, 1) := dk_177 (dk_at dksX0_init_6 3 rfl rfl)
abbrev cX0_person : ByteArray := prog_1_method_7_code
def yX0_person : MethodName := ⟨RX0, "person", "(I)I"⟩
def dkwX0_person_1 : List UInt8 := [182, 0, 95, 87, 42, 180, 0, 85, 4, 100, 172]
abbrev dktX0_person_1 : List UInt8 := dkwX0_person_1 ++ []
def dkwX0_person_0 : List UInt8 := [27, 184, 0, 91, 154, 0, 5, 2, 172, 42, 180, 0, 85, 16, 8, 160, 0, 6, 16, 253, 172, 42, 27]
abbrev dktX0_person_0 : List UInt8 := dkwX0_person_0 ++ dktX0_person_1
theorem dksX0_person_0 : cX0_person.data.toList.drop 0 = dktX0_person_0 := by decide +kernel
theorem dksX0_person_1 : cX0_person.data.toList.drop 23 = dktX0_person_1 := dk_seg dksX0_person_0 23 rfl rfl
theorem dX0_person_0 : decode cX0_person 0 = .ok (.iload_n 1, 1) := dk_27 (dk_at dksX0_person_0 0 rfl rfl)
theorem dX0_person_1 : decode cX0_person 1 = .ok (.invokestatic 91, 3) := dk_184 0 91 (dk_at dksX0_person_0 1 rfl rfl)
theorem dX0_person_4 : decode cX0_person 4 = .ok (.ifCond .ne 5, 3) := dk_154 0 5 (dk_at dksX0_person_0 4 rfl rfl)
theorem dX0_person_7 : decode cX0_person 7 = .ok (.iconst (-1), 1) := dk_2 (dk_at dksX0_person_0 7 rfl rfl)
theorem dX0_person_8 : decode cX0_person 8 = .ok (.ireturn, 1) := dk_172 (dk_at dksX0_person_0 8 rfl rfl)
theorem dX0_person_9 : decode cX0_person 9 = .ok (.aload_n 0, 1) := dk_42 (dk_at dksX0_person_0 9 rfl rfl)
theorem dX0_person_10 : decode cX0_person 10 = .ok (.getfield 85, 3) := dk_180 0 85 (dk_at dksX0_person_0 10 rfl rfl)
theorem dX0_person_13 : decode cX0_person 13 = .ok (.bipush 8, 2) := dk_16 8 (dk_at dksX0_person_0 13 rfl rfl)
theorem dX0_person_15 : decode cX0_person 15 = .ok (.if_icmp .ne 6, 3) := dk_160 0 6 (dk_at dksX0_person_0 15 rfl rfl)
theorem dX0_person_18 : decode cX0_person 18 = .ok (.bipush (-3), 2) := dk_16 253 (dk_at dksX0_person_0 18 rfl rfl)
theorem dX0_person_20 : decode cX0_person 20 = .ok (.ireturn, 1) := dk_172 (dk_at dksX0_person_0 20 rfl rfl)
theorem dX0_person_21 : decode cX0_person 21 = .ok (.aload_n 0, 1) := dk_42 (dk_at dksX0_person_0 21 rfl rfl)
theorem dX0_person_22 : decode cX0_person 22 = .ok (.iload_n 1, 1) := dk_27 (dk_at dksX0_person_0 22 rfl rfl)
theorem dX0_person_23 : decode cX0_person 23 = .ok (.invokevirtual 95, 3) := dk_182 0 95 (dk_at dksX0_person_1 0 rfl rfl)
theorem dX0_person_26 : decode cX0_person 26 = .ok (.pop, 1) := dk_87 (dk_at dksX0_person_1 3 rfl rfl)
theorem dX0_person_27 : decode cX0_person 27 = .ok (.aload_n 0, 1) := dk_42 (dk_at dksX0_person_1 4 rfl rfl)
theorem dX0_person_28 : decode cX0_person 28 = .ok (.getfield 85, 3) := dk_180 0 85 (dk_at dksX0_person_1 5 rfl rfl)
theorem dX0_person_31 : decode cX0_person 31 = .ok (.iconst 1, 1) := dk_4 (dk_at dksX0_person_1 8 rfl rfl)
theorem dX0_person_32 : decode cX0_person 32 = .ok (.isub, 1) := dk_100 (dk_at dksX0_person_1 9 rfl rfl)
theorem dX0_person_33 : decode cX0_person 33 = .ok (.ireturn, 1) := dk_172 (dk_at dksX0_person_1 10 rfl rfl)
abbrev cX0_isPlace : ByteArray := prog_1_method_4_code
def yX0_isPlace : MethodName := ⟨RX0, "isPlace", "(I)Z"⟩
def dkwX0_isPlace_0 : List UInt8 := [26, 3, 16, 35, 184, 0, 81, 172]
abbrev dktX0_isPlace_0 : List UInt8 := dkwX0_isPlace_0 ++ []
theorem dksX0_isPlace_0 : cX0_isPlace.data.toList.drop 0 = dktX0_isPlace_0 := by decide +kernel
theorem dX0_isPlace_0 : decode cX0_isPlace 0 = .ok (.iload_n 0, 1) := dk_26 (dk_at dksX0_isPlace_0 0 rfl rfl)
theorem dX0_isPlace_1 : decode cX0_isPlace 1 = .ok (.iconst 0, 1) := dk_3 (dk_at dksX0_isPlace_0 1 rfl rfl)
theorem dX0_isPlace_2 : decode cX0_isPlace 2 = .ok (.bipush 35, 2) := dk_16 35 (dk_at dksX0_isPlace_0 2 rfl rfl)
theorem dX0_isPlace_4 : decode cX0_isPlace 4 = .ok (.invokestatic 81, 3) := dk_184 0 81 (dk_at dksX0_isPlace_0 4 rfl rfl)
theorem dX0_isPlace_7 : decode cX0_isPlace 7 = .ok (.ireturn, 1) := dk_172 (dk_at dksX0_isPlace_0 7 rfl rfl)
abbrev cX0_in : ByteArray := prog_1_method_2_code
def yX0_in : MethodName := ⟨RX0, "in", "(III)Z"⟩
def dkwX0_in_0 : List UInt8 := [26, 27, 161, 0, 12, 26, 28, 163, 0, 7, 4, 167, 0, 4, 3, 172]
abbrev dktX0_in_0 : List UInt8 := dkwX0_in_0 ++ []
theorem dksX0_in_0 : cX0_in.data.toList.drop 0 = dktX0_in_0 := by decide +kernel
theorem dX0_in_0 : decode cX0_in 0 = .ok (.iload_n 0, 1) := dk_26 (dk_at dksX0_in_0 0 rfl rfl)
theorem dX0_in_1 : decode cX0_in 1 = .ok (.iload_n 1, 1) := dk_27 (dk_at dksX0_in_0 1 rfl rfl)
theorem dX0_in_2 : decode cX0_in 2 = .ok (.if_icmp .lt 12, 3) := dk_161 0 12 (dk_at dksX0_in_0 2 rfl rfl)
theorem dX0_in_5 : decode cX0_in 5 = .ok (.iload_n 0, 1) := dk_26 (dk_at dksX0_in_0 5 rfl rfl)
theorem dX0_in_6 : decode cX0_in 6 = .ok (.iload_n 2, 1) := dk_28 (dk_at dksX0_in_0 6 rfl rfl)
theorem dX0_in_7 : decode cX0_in 7 = .ok (.if_icmp .gt 7, 3) := dk_163 0 7 (dk_at dksX0_in_0 7 rfl rfl)
theorem dX0_in_10 : decode cX0_in 10 = .ok (.iconst 1, 1) := dk_4 (dk_at dksX0_in_0 10 rfl rfl)
theorem dX0_in_11 : decode cX0_in 11 = .ok (.goto 4, 3) := dk_167 0 4 (dk_at dksX0_in_0 11 rfl rfl)
theorem dX0_in_14 : decode cX0_in 14 = .ok (.iconst 0, 1) := dk_3 (dk_at dksX0_in_0 14 rfl rfl)
theorem dX0_in_15 : decode cX0_in 15 = .ok (.ireturn, 1) := dk_172 (dk_at dksX0_in_0 15 rfl rfl)
abbrev cX0_addPerson : ByteArray := prog_1_method_6_code
def yX0_addPerson : MethodName := ⟨RX0, "addPerson", "(I)LShieldLine$Person;"⟩
def dkwX0_addPerson_1 : List UInt8 := [181, 0, 85, 42, 180, 0, 13, 42, 180, 0, 85, 4, 100, 50, 176]
abbrev dktX0_addPerson_1 : List UInt8 := dkwX0_addPerson_1 ++ []
def dkwX0_addPerson_0 : List UInt8 := [42, 180, 0, 13, 42, 180, 0, 85, 187, 0, 11, 89, 27, 183, 0, 88, 83, 42, 89, 180, 0, 85, 4, 96]
abbrev dktX0_addPerson_0 : List UInt8 := dkwX0_addPerson_0 ++ dktX0_addPerson_1
theorem dksX0_addPerson_0 : cX0_addPerson.data.toList.drop 0 = dktX0_addPerson_0 := by decide +kernel
theorem dksX0_addPerson_1 : cX0_addPerson.data.toList.drop 24 = dktX0_addPerson_1 := dk_seg dksX0_addPerson_0 24 rfl rfl
theorem dX0_addPerson_0 : decode cX0_addPerson 0 = .ok (.aload_n 0, 1) := dk_42 (dk_at dksX0_addPerson_0 0 rfl rfl)
theorem dX0_addPerson_1 : decode cX0_addPerson 1 = .ok (.getfield 13, 3) := dk_180 0 13 (dk_at dksX0_addPerson_0 1 rfl rfl)
theorem dX0_addPerson_4 : decode cX0_addPerson 4 = .ok (.aload_n 0, 1) := dk_42 (dk_at dksX0_addPerson_0 4 rfl rfl)
theorem dX0_addPerson_5 : decode cX0_addPerson 5 = .ok (.getfield 85, 3) := dk_180 0 85 (dk_at dksX0_addPerson_0 5 rfl rfl)
theorem dX0_addPerson_8 : decode cX0_addPerson 8 = .ok (.new 11, 3) := dk_187 0 11 (dk_at dksX0_addPerson_0 8 rfl rfl)
theorem dX0_addPerson_11 : decode cX0_addPerson 11 = .ok (.dup, 1) := dk_89 (dk_at dksX0_addPerson_0 11 rfl rfl)
theorem dX0_addPerson_12 : decode cX0_addPerson 12 = .ok (.iload_n 1, 1) := dk_27 (dk_at dksX0_addPerson_0 12 rfl rfl)
theorem dX0_addPerson_13 : decode cX0_addPerson 13 = .ok (.invokespecial 88, 3) := dk_183 0 88 (dk_at dksX0_addPerson_0 13 rfl rfl)
theorem dX0_addPerson_16 : decode cX0_addPerson 16 = .ok (.aastore, 1) := dk_83 (dk_at dksX0_addPerson_0 16 rfl rfl)
theorem dX0_addPerson_17 : decode cX0_addPerson 17 = .ok (.aload_n 0, 1) := dk_42 (dk_at dksX0_addPerson_0 17 rfl rfl)
theorem dX0_addPerson_18 : decode cX0_addPerson 18 = .ok (.dup, 1) := dk_89 (dk_at dksX0_addPerson_0 18 rfl rfl)
theorem dX0_addPerson_19 : decode cX0_addPerson 19 = .ok (.getfield 85, 3) := dk_180 0 85 (dk_at dksX0_addPerson_0 19 rfl rfl)
theorem dX0_addPerson_22 : decode cX0_addPerson 22 = .ok (.iconst 1, 1) := dk_4 (dk_at dksX0_addPerson_0 22 rfl rfl)
theorem dX0_addPerson_23 : decode cX0_addPerson 23 = .ok (.iadd, 1) := dk_96 (dk_at dksX0_addPerson_0 23 rfl rfl)
theorem dX0_addPerson_24 : decode cX0_addPerson 24 = .ok (.putfield 85, 3) := dk_181 0 85 (dk_at dksX0_addPerson_1 0 rfl rfl)
theorem dX0_addPerson_27 : decode cX0_addPerson 27 = .ok (.aload_n 0, 1) := dk_42 (dk_at dksX0_addPerson_1 3 rfl rfl)
theorem dX0_addPerson_28 : decode cX0_addPerson 28 = .ok (.getfield 13, 3) := dk_180 0 13 (dk_at dksX0_addPerson_1 4 rfl rfl)
theorem dX0_addPerson_31 : decode cX0_addPerson 31 = .ok (.aload_n 0, 1) := dk_42 (dk_at dksX0_addPerson_1 7 rfl rfl)
theorem dX0_addPerson_32 : decode cX0_addPerson 32 = .ok (.getfield 85, 3) := dk_180 0 85 (dk_at dksX0_addPerson_1 8 rfl rfl)
theorem dX0_addPerson_35 : decode cX0_addPerson 35 = .ok (.iconst 1, 1) := dk_4 (dk_at dksX0_addPerson_1 11 rfl rfl)
theorem dX0_addPerson_36 : decode cX0_addPerson 36 = .ok (.isub, 1) := dk_100 (dk_at dksX0_addPerson_1 12 rfl rfl)
theorem dX0_addPerson_37 : decode cX0_addPerson 37 = .ok (.aaload, 1) := dk_50 (dk_at dksX0_addPerson_1 13 rfl rfl)
theorem dX0_addPerson_38 : decode cX0_addPerson 38 = .ok (.areturn, 1) := dk_176 (dk_at dksX0_addPerson_1 14 rfl rfl)
abbrev cX0_people : ByteArray := prog_1_method_8_code
def yX0_people : MethodName := ⟨RX0, "people", "(III)I"⟩
def dkwX0_people_7 : List UInt8 := [167, 255, 134, 167, 0, 18, 58, 5, 16, 244, 172, 58, 5, 21, 4, 172, 58, 5, 21, 4, 172, 21, 4, 172]
abbrev dktX0_people_7 : List UInt8 := dkwX0_people_7 ++ []
def dkwX0_people_6 : List UInt8 := [58, 10, 25, 10, 21, 8, 181, 0, 108, 25, 10, 21, 9, 181, 0, 111, 132, 4, 1, 132, 6, 1]
abbrev dktX0_people_6 : List UInt8 := dkwX0_people_6 ++ dktX0_people_7
def dkwX0_people_5 : List UInt8 := [153, 0, 14, 21, 9, 3, 16, 9, 184, 0, 81, 154, 0, 6, 21, 4, 172, 42, 21, 7, 182, 0, 95]
abbrev dktX0_people_5 : List UInt8 := dkwX0_people_5 ++ dktX0_people_6
def dkwX0_people_4 : List UInt8 := [182, 0, 104, 136, 54, 9, 21, 7, 184, 0, 91, 153, 0, 25, 21, 8, 3, 16, 9, 184, 0, 81]
abbrev dktX0_people_4 : List UInt8 := dkwX0_people_4 ++ dktX0_people_5
def dkwX0_people_3 : List UInt8 := [21, 6, 104, 96, 4, 96, 182, 0, 104, 136, 54, 8, 25, 5, 28, 6, 21, 6, 104, 96, 5, 96]
abbrev dktX0_people_3 : List UInt8 := dkwX0_people_3 ++ dktX0_people_4
def dkwX0_people_2 : List UInt8 := [16, 8, 162, 0, 113, 25, 5, 28, 6, 21, 6, 104, 96, 182, 0, 104, 136, 54, 7, 25, 5, 28, 6]
abbrev dktX0_people_2 : List UInt8 := dkwX0_people_2 ++ dktX0_people_3
def dkwX0_people_1 : List UInt8 := [180, 0, 77, 27, 50, 192, 0, 102, 58, 5, 3, 54, 6, 21, 6, 29, 162, 0, 122, 42, 180, 0, 85]
abbrev dktX0_people_1 : List UInt8 := dkwX0_people_1 ++ dktX0_people_2
def dkwX0_people_0 : List UInt8 := [27, 184, 0, 99, 153, 0, 13, 29, 4, 16, 8, 184, 0, 81, 154, 0, 5, 2, 172, 3, 54, 4, 42]
abbrev dktX0_people_0 : List UInt8 := dkwX0_people_0 ++ dktX0_people_1
theorem dksX0_people_0 : cX0_people.data.toList.drop 0 = dktX0_people_0 := by decide +kernel
theorem dksX0_people_1 : cX0_people.data.toList.drop 23 = dktX0_people_1 := dk_seg dksX0_people_0 23 rfl rfl
theorem dksX0_people_2 : cX0_people.data.toList.drop 46 = dktX0_people_2 := dk_seg dksX0_people_1 23 rfl rfl
theorem dksX0_people_3 : cX0_people.data.toList.drop 69 = dktX0_people_3 := dk_seg dksX0_people_2 23 rfl rfl
theorem dksX0_people_4 : cX0_people.data.toList.drop 91 = dktX0_people_4 := dk_seg dksX0_people_3 22 rfl rfl
theorem dksX0_people_5 : cX0_people.data.toList.drop 113 = dktX0_people_5 := dk_seg dksX0_people_4 22 rfl rfl
theorem dksX0_people_6 : cX0_people.data.toList.drop 136 = dktX0_people_6 := dk_seg dksX0_people_5 23 rfl rfl
theorem dksX0_people_7 : cX0_people.data.toList.drop 158 = dktX0_people_7 := dk_seg dksX0_people_6 22 rfl rfl
theorem dX0_people_0 : decode cX0_people 0 = .ok (.iload_n 1, 1) := dk_27 (dk_at dksX0_people_0 0 rfl rfl)
theorem dX0_people_1 : decode cX0_people 1 = .ok (.invokestatic 99, 3) := dk_184 0 99 (dk_at dksX0_people_0 1 rfl rfl)
theorem dX0_people_4 : decode cX0_people 4 = .ok (.ifCond .eq 13, 3) := dk_153 0 13 (dk_at dksX0_people_0 4 rfl rfl)
theorem dX0_people_7 : decode cX0_people 7 = .ok (.iload_n 3, 1) := dk_29 (dk_at dksX0_people_0 7 rfl rfl)
theorem dX0_people_8 : decode cX0_people 8 = .ok (.iconst 1, 1) := dk_4 (dk_at dksX0_people_0 8 rfl rfl)
theorem dX0_people_9 : decode cX0_people 9 = .ok (.bipush 8, 2) := dk_16 8 (dk_at dksX0_people_0 9 rfl rfl)
theorem dX0_people_11 : decode cX0_people 11 = .ok (.invokestatic 81, 3) := dk_184 0 81 (dk_at dksX0_people_0 11 rfl rfl)
theorem dX0_people_14 : decode cX0_people 14 = .ok (.ifCond .ne 5, 3) := dk_154 0 5 (dk_at dksX0_people_0 14 rfl rfl)
theorem dX0_people_17 : decode cX0_people 17 = .ok (.iconst (-1), 1) := dk_2 (dk_at dksX0_people_0 17 rfl rfl)
theorem dX0_people_18 : decode cX0_people 18 = .ok (.ireturn, 1) := dk_172 (dk_at dksX0_people_0 18 rfl rfl)
theorem dX0_people_19 : decode cX0_people 19 = .ok (.iconst 0, 1) := dk_3 (dk_at dksX0_people_0 19 rfl rfl)
theorem dX0_people_20 : decode cX0_people 20 = .ok (.istore 4, 2) := dk_54 4 (dk_at dksX0_people_0 20 rfl rfl)
theorem dX0_people_22 : decode cX0_people 22 = .ok (.aload_n 0, 1) := dk_42 (dk_at dksX0_people_0 22 rfl rfl)
theorem dX0_people_23 : decode cX0_people 23 = .ok (.getfield 77, 3) := dk_180 0 77 (dk_at dksX0_people_1 0 rfl rfl)
theorem dX0_people_26 : decode cX0_people 26 = .ok (.iload_n 1, 1) := dk_27 (dk_at dksX0_people_1 3 rfl rfl)
theorem dX0_people_27 : decode cX0_people 27 = .ok (.aaload, 1) := dk_50 (dk_at dksX0_people_1 4 rfl rfl)
theorem dX0_people_28 : decode cX0_people 28 = .ok (.checkcast 102, 3) := dk_192 0 102 (dk_at dksX0_people_1 5 rfl rfl)
theorem dX0_people_31 : decode cX0_people 31 = .ok (.astore 5, 2) := dk_58 5 (dk_at dksX0_people_1 8 rfl rfl)
theorem dX0_people_33 : decode cX0_people 33 = .ok (.iconst 0, 1) := dk_3 (dk_at dksX0_people_1 10 rfl rfl)
theorem dX0_people_34 : decode cX0_people 34 = .ok (.istore 6, 2) := dk_54 6 (dk_at dksX0_people_1 11 rfl rfl)
theorem dX0_people_36 : decode cX0_people 36 = .ok (.iload 6, 2) := dk_21 6 (dk_at dksX0_people_1 13 rfl rfl)
theorem dX0_people_38 : decode cX0_people 38 = .ok (.iload_n 3, 1) := dk_29 (dk_at dksX0_people_1 15 rfl rfl)
theorem dX0_people_39 : decode cX0_people 39 = .ok (.if_icmp .ge 122, 3) := dk_162 0 122 (dk_at dksX0_people_1 16 rfl rfl)
theorem dX0_people_42 : decode cX0_people 42 = .ok (.aload_n 0, 1) := dk_42 (dk_at dksX0_people_1 19 rfl rfl)
theorem dX0_people_43 : decode cX0_people 43 = .ok (.getfield 85, 3) := dk_180 0 85 (dk_at dksX0_people_1 20 rfl rfl)
theorem dX0_people_46 : decode cX0_people 46 = .ok (.bipush 8, 2) := dk_16 8 (dk_at dksX0_people_2 0 rfl rfl)
theorem dX0_people_48 : decode cX0_people 48 = .ok (.if_icmp .ge 113, 3) := dk_162 0 113 (dk_at dksX0_people_2 2 rfl rfl)
theorem dX0_people_51 : decode cX0_people 51 = .ok (.aload 5, 2) := dk_25 5 (dk_at dksX0_people_2 5 rfl rfl)
theorem dX0_people_53 : decode cX0_people 53 = .ok (.iload_n 2, 1) := dk_28 (dk_at dksX0_people_2 7 rfl rfl)
theorem dX0_people_54 : decode cX0_people 54 = .ok (.iconst 3, 1) := dk_6 (dk_at dksX0_people_2 8 rfl rfl)
theorem dX0_people_55 : decode cX0_people 55 = .ok (.iload 6, 2) := dk_21 6 (dk_at dksX0_people_2 9 rfl rfl)
theorem dX0_people_57 : decode cX0_people 57 = .ok (.imul, 1) := dk_104 (dk_at dksX0_people_2 11 rfl rfl)
theorem dX0_people_58 : decode cX0_people 58 = .ok (.iadd, 1) := dk_96 (dk_at dksX0_people_2 12 rfl rfl)
theorem dX0_people_59 : decode cX0_people 59 = .ok (.invokevirtual 104, 3) := dk_182 0 104 (dk_at dksX0_people_2 13 rfl rfl)
theorem dX0_people_62 : decode cX0_people 62 = .ok (.l2i, 1) := dk_136 (dk_at dksX0_people_2 16 rfl rfl)
theorem dX0_people_63 : decode cX0_people 63 = .ok (.istore 7, 2) := dk_54 7 (dk_at dksX0_people_2 17 rfl rfl)
theorem dX0_people_65 : decode cX0_people 65 = .ok (.aload 5, 2) := dk_25 5 (dk_at dksX0_people_2 19 rfl rfl)
theorem dX0_people_67 : decode cX0_people 67 = .ok (.iload_n 2, 1) := dk_28 (dk_at dksX0_people_2 21 rfl rfl)
theorem dX0_people_68 : decode cX0_people 68 = .ok (.iconst 3, 1) := dk_6 (dk_at dksX0_people_2 22 rfl rfl)
theorem dX0_people_69 : decode cX0_people 69 = .ok (.iload 6, 2) := dk_21 6 (dk_at dksX0_people_3 0 rfl rfl)
theorem dX0_people_71 : decode cX0_people 71 = .ok (.imul, 1) := dk_104 (dk_at dksX0_people_3 2 rfl rfl)
theorem dX0_people_72 : decode cX0_people 72 = .ok (.iadd, 1) := dk_96 (dk_at dksX0_people_3 3 rfl rfl)
theorem dX0_people_73 : decode cX0_people 73 = .ok (.iconst 1, 1) := dk_4 (dk_at dksX0_people_3 4 rfl rfl)
theorem dX0_people_74 : decode cX0_people 74 = .ok (.iadd, 1) := dk_96 (dk_at dksX0_people_3 5 rfl rfl)
theorem dX0_people_75 : decode cX0_people 75 = .ok (.invokevirtual 104, 3) := dk_182 0 104 (dk_at dksX0_people_3 6 rfl rfl)
theorem dX0_people_78 : decode cX0_people 78 = .ok (.l2i, 1) := dk_136 (dk_at dksX0_people_3 9 rfl rfl)
theorem dX0_people_79 : decode cX0_people 79 = .ok (.istore 8, 2) := dk_54 8 (dk_at dksX0_people_3 10 rfl rfl)
theorem dX0_people_81 : decode cX0_people 81 = .ok (.aload 5, 2) := dk_25 5 (dk_at dksX0_people_3 12 rfl rfl)
theorem dX0_people_83 : decode cX0_people 83 = .ok (.iload_n 2, 1) := dk_28 (dk_at dksX0_people_3 14 rfl rfl)
theorem dX0_people_84 : decode cX0_people 84 = .ok (.iconst 3, 1) := dk_6 (dk_at dksX0_people_3 15 rfl rfl)
theorem dX0_people_85 : decode cX0_people 85 = .ok (.iload 6, 2) := dk_21 6 (dk_at dksX0_people_3 16 rfl rfl)
theorem dX0_people_87 : decode cX0_people 87 = .ok (.imul, 1) := dk_104 (dk_at dksX0_people_3 18 rfl rfl)
theorem dX0_people_88 : decode cX0_people 88 = .ok (.iadd, 1) := dk_96 (dk_at dksX0_people_3 19 rfl rfl)
theorem dX0_people_89 : decode cX0_people 89 = .ok (.iconst 2, 1) := dk_5 (dk_at dksX0_people_3 20 rfl rfl)
theorem dX0_people_90 : decode cX0_people 90 = .ok (.iadd, 1) := dk_96 (dk_at dksX0_people_3 21 rfl rfl)
theorem dX0_people_91 : decode cX0_people 91 = .ok (.invokevirtual 104, 3) := dk_182 0 104 (dk_at dksX0_people_4 0 rfl rfl)
theorem dX0_people_94 : decode cX0_people 94 = .ok (.l2i, 1) := dk_136 (dk_at dksX0_people_4 3 rfl rfl)
theorem dX0_people_95 : decode cX0_people 95 = .ok (.istore 9, 2) := dk_54 9 (dk_at dksX0_people_4 4 rfl rfl)
theorem dX0_people_97 : decode cX0_people 97 = .ok (.iload 7, 2) := dk_21 7 (dk_at dksX0_people_4 6 rfl rfl)
theorem dX0_people_99 : decode cX0_people 99 = .ok (.invokestatic 91, 3) := dk_184 0 91 (dk_at dksX0_people_4 8 rfl rfl)
theorem dX0_people_102 : decode cX0_people 102 = .ok (.ifCond .eq 25, 3) := dk_153 0 25 (dk_at dksX0_people_4 11 rfl rfl)
theorem dX0_people_105 : decode cX0_people 105 = .ok (.iload 8, 2) := dk_21 8 (dk_at dksX0_people_4 14 rfl rfl)
theorem dX0_people_107 : decode cX0_people 107 = .ok (.iconst 0, 1) := dk_3 (dk_at dksX0_people_4 16 rfl rfl)
theorem dX0_people_108 : decode cX0_people 108 = .ok (.bipush 9, 2) := dk_16 9 (dk_at dksX0_people_4 17 rfl rfl)
theorem dX0_people_110 : decode cX0_people 110 = .ok (.invokestatic 81, 3) := dk_184 0 81 (dk_at dksX0_people_4 19 rfl rfl)
theorem dX0_people_113 : decode cX0_people 113 = .ok (.ifCond .eq 14, 3) := dk_153 0 14 (dk_at dksX0_people_5 0 rfl rfl)
theorem dX0_people_116 : decode cX0_people 116 = .ok (.iload 9, 2) := dk_21 9 (dk_at dksX0_people_5 3 rfl rfl)
theorem dX0_people_118 : decode cX0_people 118 = .ok (.iconst 0, 1) := dk_3 (dk_at dksX0_people_5 5 rfl rfl)
theorem dX0_people_119 : decode cX0_people 119 = .ok (.bipush 9, 2) := dk_16 9 (dk_at dksX0_people_5 6 rfl rfl)
theorem dX0_people_121 : decode cX0_people 121 = .ok (.invokestatic 81, 3) := dk_184 0 81 (dk_at dksX0_people_5 8 rfl rfl)
theorem dX0_people_124 : decode cX0_people 124 = .ok (.ifCond .ne 6, 3) := dk_154 0 6 (dk_at dksX0_people_5 11 rfl rfl)
theorem dX0_people_127 : decode cX0_people 127 = .ok (.iload 4, 2) := dk_21 4 (dk_at dksX0_people_5 14 rfl rfl)
theorem dX0_people_129 : decode cX0_people 129 = .ok (.ireturn, 1) := dk_172 (dk_at dksX0_people_5 16 rfl rfl)
theorem dX0_people_130 : decode cX0_people 130 = .ok (.aload_n 0, 1) := dk_42 (dk_at dksX0_people_5 17 rfl rfl)
theorem dX0_people_131 : decode cX0_people 131 = .ok (.iload 7, 2) := dk_21 7 (dk_at dksX0_people_5 18 rfl rfl)
theorem dX0_people_133 : decode cX0_people 133 = .ok (.invokevirtual 95, 3) := dk_182 0 95 (dk_at dksX0_people_5 20 rfl rfl)
theorem dX0_people_136 : decode cX0_people 136 = .ok (.astore 10, 2) := dk_58 10 (dk_at dksX0_people_6 0 rfl rfl)
theorem dX0_people_138 : decode cX0_people 138 = .ok (.aload 10, 2) := dk_25 10 (dk_at dksX0_people_6 2 rfl rfl)
theorem dX0_people_140 : decode cX0_people 140 = .ok (.iload 8, 2) := dk_21 8 (dk_at dksX0_people_6 4 rfl rfl)
theorem dX0_people_142 : decode cX0_people 142 = .ok (.putfield 108, 3) := dk_181 0 108 (dk_at dksX0_people_6 6 rfl rfl)
theorem dX0_people_145 : decode cX0_people 145 = .ok (.aload 10, 2) := dk_25 10 (dk_at dksX0_people_6 9 rfl rfl)
theorem dX0_people_147 : decode cX0_people 147 = .ok (.iload 9, 2) := dk_21 9 (dk_at dksX0_people_6 11 rfl rfl)
theorem dX0_people_149 : decode cX0_people 149 = .ok (.putfield 111, 3) := dk_181 0 111 (dk_at dksX0_people_6 13 rfl rfl)
theorem dX0_people_152 : decode cX0_people 152 = .ok (.iinc 4 1, 3) := dk_132 4 1 (dk_at dksX0_people_6 16 rfl rfl)
theorem dX0_people_155 : decode cX0_people 155 = .ok (.iinc 6 1, 3) := dk_132 6 1 (dk_at dksX0_people_6 19 rfl rfl)
theorem dX0_people_158 : decode cX0_people 158 = .ok (.goto (-122), 3) := dk_167 255 134 (dk_at dksX0_people_7 0 rfl rfl)
theorem dX0_people_161 : decode cX0_people 161 = .ok (.goto 18, 3) := dk_167 0 18 (dk_at dksX0_people_7 3 rfl rfl)
theorem dX0_people_164 : decode cX0_people 164 = .ok (.astore 5, 2) := dk_58 5 (dk_at dksX0_people_7 6 rfl rfl)
theorem dX0_people_166 : decode cX0_people 166 = .ok (.bipush (-12), 2) := dk_16 244 (dk_at dksX0_people_7 8 rfl rfl)
theorem dX0_people_168 : decode cX0_people 168 = .ok (.ireturn, 1) := dk_172 (dk_at dksX0_people_7 10 rfl rfl)
theorem dX0_people_169 : decode cX0_people 169 = .ok (.astore 5, 2) := dk_58 5 (dk_at dksX0_people_7 11 rfl rfl)
theorem dX0_people_171 : decode cX0_people 171 = .ok (.iload 4, 2) := dk_21 4 (dk_at dksX0_people_7 13 rfl rfl)
theorem dX0_people_173 : decode cX0_people 173 = .ok (.ireturn, 1) := dk_172 (dk_at dksX0_people_7 15 rfl rfl)
theorem dX0_people_174 : decode cX0_people 174 = .ok (.astore 5, 2) := dk_58 5 (dk_at dksX0_people_7 16 rfl rfl)
theorem dX0_people_176 : decode cX0_people 176 = .ok (.iload 4, 2) := dk_21 4 (dk_at dksX0_people_7 18 rfl rfl)
theorem dX0_people_178 : decode cX0_people 178 = .ok (.ireturn, 1) := dk_172 (dk_at dksX0_people_7 20 rfl rfl)
theorem dX0_people_179 : decode cX0_people 179 = .ok (.iload 4, 2) := dk_21 4 (dk_at dksX0_people_7 21 rfl rfl)
theorem dX0_people_181 : decode cX0_people 181 = .ok (.ireturn, 1) := dk_172 (dk_at dksX0_people_7 23 rfl rfl)
abbrev cX0_isShelf : ByteArray := prog_1_method_75_code
def yX0_isShelf : MethodName := ⟨RX0, "isShelf", "(I)Z"⟩
def dkwX0_isShelf_0 : List UInt8 := [26, 3, 8, 184, 0, 81, 172]
abbrev dktX0_isShelf_0 : List UInt8 := dkwX0_isShelf_0 ++ []
theorem dksX0_isShelf_0 : cX0_isShelf.data.toList.drop 0 = dktX0_isShelf_0 := by decide +kernel
theorem dX0_isShelf_0 : decode cX0_isShelf 0 = .ok (.iload_n 0, 1) := dk_26 (dk_at dksX0_isShelf_0 0 rfl rfl)
theorem dX0_isShelf_1 : decode cX0_isShelf 1 = .ok (.iconst 0, 1) := dk_3 (dk_at dksX0_isShelf_0 1 rfl rfl)
theorem dX0_isShelf_2 : decode cX0_isShelf 2 = .ok (.iconst 5, 1) := dk_8 (dk_at dksX0_isShelf_0 2 rfl rfl)
theorem dX0_isShelf_3 : decode cX0_isShelf 3 = .ok (.invokestatic 81, 3) := dk_184 0 81 (dk_at dksX0_isShelf_0 3 rfl rfl)
theorem dX0_isShelf_6 : decode cX0_isShelf 6 = .ok (.ireturn, 1) := dk_172 (dk_at dksX0_isShelf_0 6 rfl rfl)
abbrev cX0_undo : ByteArray := prog_1_method_11_code
def yX0_undo : MethodName := ⟨RX0, "undo", "()I"⟩
def dkwX0_undo_3 : List UInt8 := [182, 0, 141, 42, 180, 0, 135, 172]
abbrev dktX0_undo_3 : List UInt8 := dkwX0_undo_3 ++ []
def dkwX0_undo_2 : List UInt8 := [180, 0, 23, 42, 180, 0, 135, 50, 180, 0, 148, 42, 180, 0, 23, 42, 180, 0, 135, 50, 180, 0, 150]
abbrev dktX0_undo_2 : List UInt8 := dkwX0_undo_2 ++ dktX0_undo_3
def dkwX0_undo_1 : List UInt8 := [180, 0, 132, 4, 96, 181, 0, 132, 42, 42, 180, 0, 23, 42, 180, 0, 135, 50, 180, 0, 145, 42]
abbrev dktX0_undo_1 : List UInt8 := dkwX0_undo_1 ++ dktX0_undo_2
def dkwX0_undo_0 : List UInt8 := [42, 180, 0, 135, 154, 0, 6, 16, 251, 172, 42, 89, 180, 0, 135, 4, 100, 181, 0, 135, 42, 89]
abbrev dktX0_undo_0 : List UInt8 := dkwX0_undo_0 ++ dktX0_undo_1
theorem dksX0_undo_0 : cX0_undo.data.toList.drop 0 = dktX0_undo_0 := by decide +kernel
theorem dksX0_undo_1 : cX0_undo.data.toList.drop 22 = dktX0_undo_1 := dk_seg dksX0_undo_0 22 rfl rfl
theorem dksX0_undo_2 : cX0_undo.data.toList.drop 44 = dktX0_undo_2 := dk_seg dksX0_undo_1 22 rfl rfl
theorem dksX0_undo_3 : cX0_undo.data.toList.drop 67 = dktX0_undo_3 := dk_seg dksX0_undo_2 23 rfl rfl
theorem dX0_undo_0 : decode cX0_undo 0 = .ok (.aload_n 0, 1) := dk_42 (dk_at dksX0_undo_0 0 rfl rfl)
theorem dX0_undo_1 : decode cX0_undo 1 = .ok (.getfield 135, 3) := dk_180 0 135 (dk_at dksX0_undo_0 1 rfl rfl)
theorem dX0_undo_4 : decode cX0_undo 4 = .ok (.ifCond .ne 6, 3) := dk_154 0 6 (dk_at dksX0_undo_0 4 rfl rfl)
theorem dX0_undo_7 : decode cX0_undo 7 = .ok (.bipush (-5), 2) := dk_16 251 (dk_at dksX0_undo_0 7 rfl rfl)
theorem dX0_undo_9 : decode cX0_undo 9 = .ok (.ireturn, 1) := dk_172 (dk_at dksX0_undo_0 9 rfl rfl)
theorem dX0_undo_10 : decode cX0_undo 10 = .ok (.aload_n 0, 1) := dk_42 (dk_at dksX0_undo_0 10 rfl rfl)
theorem dX0_undo_11 : decode cX0_undo 11 = .ok (.dup, 1) := dk_89 (dk_at dksX0_undo_0 11 rfl rfl)
theorem dX0_undo_12 : decode cX0_undo 12 = .ok (.getfield 135, 3) := dk_180 0 135 (dk_at dksX0_undo_0 12 rfl rfl)
theorem dX0_undo_15 : decode cX0_undo 15 = .ok (.iconst 1, 1) := dk_4 (dk_at dksX0_undo_0 15 rfl rfl)
theorem dX0_undo_16 : decode cX0_undo 16 = .ok (.isub, 1) := dk_100 (dk_at dksX0_undo_0 16 rfl rfl)
theorem dX0_undo_17 : decode cX0_undo 17 = .ok (.putfield 135, 3) := dk_181 0 135 (dk_at dksX0_undo_0 17 rfl rfl)
theorem dX0_undo_20 : decode cX0_undo 20 = .ok (.aload_n 0, 1) := dk_42 (dk_at dksX0_undo_0 20 rfl rfl)
theorem dX0_undo_21 : decode cX0_undo 21 = .ok (.dup, 1) := dk_89 (dk_at dksX0_undo_0 21 rfl rfl)
theorem dX0_undo_22 : decode cX0_undo 22 = .ok (.getfield 132, 3) := dk_180 0 132 (dk_at dksX0_undo_1 0 rfl rfl)
theorem dX0_undo_25 : decode cX0_undo 25 = .ok (.iconst 1, 1) := dk_4 (dk_at dksX0_undo_1 3 rfl rfl)
theorem dX0_undo_26 : decode cX0_undo 26 = .ok (.iadd, 1) := dk_96 (dk_at dksX0_undo_1 4 rfl rfl)
theorem dX0_undo_27 : decode cX0_undo 27 = .ok (.putfield 132, 3) := dk_181 0 132 (dk_at dksX0_undo_1 5 rfl rfl)
theorem dX0_undo_30 : decode cX0_undo 30 = .ok (.aload_n 0, 1) := dk_42 (dk_at dksX0_undo_1 8 rfl rfl)
theorem dX0_undo_31 : decode cX0_undo 31 = .ok (.aload_n 0, 1) := dk_42 (dk_at dksX0_undo_1 9 rfl rfl)
theorem dX0_undo_32 : decode cX0_undo 32 = .ok (.getfield 23, 3) := dk_180 0 23 (dk_at dksX0_undo_1 10 rfl rfl)
theorem dX0_undo_35 : decode cX0_undo 35 = .ok (.aload_n 0, 1) := dk_42 (dk_at dksX0_undo_1 13 rfl rfl)
theorem dX0_undo_36 : decode cX0_undo 36 = .ok (.getfield 135, 3) := dk_180 0 135 (dk_at dksX0_undo_1 14 rfl rfl)
theorem dX0_undo_39 : decode cX0_undo 39 = .ok (.aaload, 1) := dk_50 (dk_at dksX0_undo_1 17 rfl rfl)
theorem dX0_undo_40 : decode cX0_undo 40 = .ok (.getfield 145, 3) := dk_180 0 145 (dk_at dksX0_undo_1 18 rfl rfl)
theorem dX0_undo_43 : decode cX0_undo 43 = .ok (.aload_n 0, 1) := dk_42 (dk_at dksX0_undo_1 21 rfl rfl)
theorem dX0_undo_44 : decode cX0_undo 44 = .ok (.getfield 23, 3) := dk_180 0 23 (dk_at dksX0_undo_2 0 rfl rfl)
theorem dX0_undo_47 : decode cX0_undo 47 = .ok (.aload_n 0, 1) := dk_42 (dk_at dksX0_undo_2 3 rfl rfl)
theorem dX0_undo_48 : decode cX0_undo 48 = .ok (.getfield 135, 3) := dk_180 0 135 (dk_at dksX0_undo_2 4 rfl rfl)
theorem dX0_undo_51 : decode cX0_undo 51 = .ok (.aaload, 1) := dk_50 (dk_at dksX0_undo_2 7 rfl rfl)
theorem dX0_undo_52 : decode cX0_undo 52 = .ok (.getfield 148, 3) := dk_180 0 148 (dk_at dksX0_undo_2 8 rfl rfl)
theorem dX0_undo_55 : decode cX0_undo 55 = .ok (.aload_n 0, 1) := dk_42 (dk_at dksX0_undo_2 11 rfl rfl)
theorem dX0_undo_56 : decode cX0_undo 56 = .ok (.getfield 23, 3) := dk_180 0 23 (dk_at dksX0_undo_2 12 rfl rfl)
theorem dX0_undo_59 : decode cX0_undo 59 = .ok (.aload_n 0, 1) := dk_42 (dk_at dksX0_undo_2 15 rfl rfl)
theorem dX0_undo_60 : decode cX0_undo 60 = .ok (.getfield 135, 3) := dk_180 0 135 (dk_at dksX0_undo_2 16 rfl rfl)
theorem dX0_undo_63 : decode cX0_undo 63 = .ok (.aaload, 1) := dk_50 (dk_at dksX0_undo_2 19 rfl rfl)
theorem dX0_undo_64 : decode cX0_undo 64 = .ok (.getfield 150, 3) := dk_180 0 150 (dk_at dksX0_undo_2 20 rfl rfl)
theorem dX0_undo_67 : decode cX0_undo 67 = .ok (.invokevirtual 141, 3) := dk_182 0 141 (dk_at dksX0_undo_3 0 rfl rfl)
theorem dX0_undo_70 : decode cX0_undo 70 = .ok (.aload_n 0, 1) := dk_42 (dk_at dksX0_undo_3 3 rfl rfl)
theorem dX0_undo_71 : decode cX0_undo 71 = .ok (.getfield 135, 3) := dk_180 0 135 (dk_at dksX0_undo_3 4 rfl rfl)
theorem dX0_undo_74 : decode cX0_undo 74 = .ok (.ireturn, 1) := dk_172 (dk_at dksX0_undo_3 7 rfl rfl)
abbrev cX0_setTo : ByteArray := prog_1_method_9_code
def yX0_setTo : MethodName := ⟨RX0, "setTo", "(III)V"⟩
def dkwX0_setTo_5 : List UInt8 := [167, 0, 8, 42, 29, 181, 0, 129, 177]
abbrev dktX0_setTo_5 : List UInt8 := dkwX0_setTo_5 ++ []
def dkwX0_setTo_4 : List UInt8 := [181, 0, 123, 167, 0, 29, 42, 180, 0, 13, 28, 50, 29, 181, 0, 126, 167, 0, 16, 42, 29, 181, 0, 17]
abbrev dktX0_setTo_4 : List UInt8 := dkwX0_setTo_4 ++ dktX0_setTo_5
def dkwX0_setTo_3 : List UInt8 := [167, 0, 55, 42, 180, 0, 13, 28, 50, 29, 181, 0, 111, 167, 0, 42, 42, 180, 0, 13, 28, 50, 29]
abbrev dktX0_setTo_3 : List UInt8 := dkwX0_setTo_3 ++ dktX0_setTo_4
def dkwX0_setTo_2 : List UInt8 := [42, 180, 0, 13, 28, 50, 29, 181, 0, 120, 167, 0, 68, 42, 180, 0, 13, 28, 50, 29, 181, 0, 108]
abbrev dktX0_setTo_2 : List UInt8 := dkwX0_setTo_2 ++ dktX0_setTo_3
def dkwX0_setTo_1 : List UInt8 := [170, 0, 0, 0, 0, 0, 112, 0, 0, 0, 0, 0, 0, 0, 5, 0, 0, 0, 39, 0, 0, 0, 52, 0, 0, 0, 65, 0, 0, 0, 78, 0, 0, 0, 91, 0, 0, 0, 104]
abbrev dktX0_setTo_1 : List UInt8 := dkwX0_setTo_1 ++ dktX0_setTo_2
def dkwX0_setTo_0 : List UInt8 := [27]
abbrev dktX0_setTo_0 : List UInt8 := dkwX0_setTo_0 ++ dktX0_setTo_1
theorem dksX0_setTo_0 : cX0_setTo.data.toList.drop 0 = dktX0_setTo_0 := by decide +kernel
theorem dksX0_setTo_1 : cX0_setTo.data.toList.drop 1 = dktX0_setTo_1 := dk_seg dksX0_setTo_0 1 rfl rfl
theorem dksX0_setTo_2 : cX0_setTo.data.toList.drop 40 = dktX0_setTo_2 := dk_seg dksX0_setTo_1 39 rfl rfl
theorem dksX0_setTo_3 : cX0_setTo.data.toList.drop 63 = dktX0_setTo_3 := dk_seg dksX0_setTo_2 23 rfl rfl
theorem dksX0_setTo_4 : cX0_setTo.data.toList.drop 86 = dktX0_setTo_4 := dk_seg dksX0_setTo_3 23 rfl rfl
theorem dksX0_setTo_5 : cX0_setTo.data.toList.drop 110 = dktX0_setTo_5 := dk_seg dksX0_setTo_4 24 rfl rfl
theorem dX0_setTo_0 : decode cX0_setTo 0 = .ok (.iload_n 1, 1) := dk_27 (dk_at dksX0_setTo_0 0 rfl rfl)
theorem dX0_setTo_1 : decode cX0_setTo 1 = .ok (.tableswitch 112 0 5 #[39, 52, 65, 78, 91, 104], 39) := by decide +kernel
theorem dX0_setTo_40 : decode cX0_setTo 40 = .ok (.aload_n 0, 1) := dk_42 (dk_at dksX0_setTo_2 0 rfl rfl)
theorem dX0_setTo_41 : decode cX0_setTo 41 = .ok (.getfield 13, 3) := dk_180 0 13 (dk_at dksX0_setTo_2 1 rfl rfl)
theorem dX0_setTo_44 : decode cX0_setTo 44 = .ok (.iload_n 2, 1) := dk_28 (dk_at dksX0_setTo_2 4 rfl rfl)
theorem dX0_setTo_45 : decode cX0_setTo 45 = .ok (.aaload, 1) := dk_50 (dk_at dksX0_setTo_2 5 rfl rfl)
theorem dX0_setTo_46 : decode cX0_setTo 46 = .ok (.iload_n 3, 1) := dk_29 (dk_at dksX0_setTo_2 6 rfl rfl)
theorem dX0_setTo_47 : decode cX0_setTo 47 = .ok (.putfield 120, 3) := dk_181 0 120 (dk_at dksX0_setTo_2 7 rfl rfl)
theorem dX0_setTo_50 : decode cX0_setTo 50 = .ok (.goto 68, 3) := dk_167 0 68 (dk_at dksX0_setTo_2 10 rfl rfl)
theorem dX0_setTo_53 : decode cX0_setTo 53 = .ok (.aload_n 0, 1) := dk_42 (dk_at dksX0_setTo_2 13 rfl rfl)
theorem dX0_setTo_54 : decode cX0_setTo 54 = .ok (.getfield 13, 3) := dk_180 0 13 (dk_at dksX0_setTo_2 14 rfl rfl)
theorem dX0_setTo_57 : decode cX0_setTo 57 = .ok (.iload_n 2, 1) := dk_28 (dk_at dksX0_setTo_2 17 rfl rfl)
theorem dX0_setTo_58 : decode cX0_setTo 58 = .ok (.aaload, 1) := dk_50 (dk_at dksX0_setTo_2 18 rfl rfl)
theorem dX0_setTo_59 : decode cX0_setTo 59 = .ok (.iload_n 3, 1) := dk_29 (dk_at dksX0_setTo_2 19 rfl rfl)
theorem dX0_setTo_60 : decode cX0_setTo 60 = .ok (.putfield 108, 3) := dk_181 0 108 (dk_at dksX0_setTo_2 20 rfl rfl)
theorem dX0_setTo_63 : decode cX0_setTo 63 = .ok (.goto 55, 3) := dk_167 0 55 (dk_at dksX0_setTo_3 0 rfl rfl)
theorem dX0_setTo_66 : decode cX0_setTo 66 = .ok (.aload_n 0, 1) := dk_42 (dk_at dksX0_setTo_3 3 rfl rfl)
theorem dX0_setTo_67 : decode cX0_setTo 67 = .ok (.getfield 13, 3) := dk_180 0 13 (dk_at dksX0_setTo_3 4 rfl rfl)
theorem dX0_setTo_70 : decode cX0_setTo 70 = .ok (.iload_n 2, 1) := dk_28 (dk_at dksX0_setTo_3 7 rfl rfl)
theorem dX0_setTo_71 : decode cX0_setTo 71 = .ok (.aaload, 1) := dk_50 (dk_at dksX0_setTo_3 8 rfl rfl)
theorem dX0_setTo_72 : decode cX0_setTo 72 = .ok (.iload_n 3, 1) := dk_29 (dk_at dksX0_setTo_3 9 rfl rfl)
theorem dX0_setTo_73 : decode cX0_setTo 73 = .ok (.putfield 111, 3) := dk_181 0 111 (dk_at dksX0_setTo_3 10 rfl rfl)
theorem dX0_setTo_76 : decode cX0_setTo 76 = .ok (.goto 42, 3) := dk_167 0 42 (dk_at dksX0_setTo_3 13 rfl rfl)
theorem dX0_setTo_79 : decode cX0_setTo 79 = .ok (.aload_n 0, 1) := dk_42 (dk_at dksX0_setTo_3 16 rfl rfl)
theorem dX0_setTo_80 : decode cX0_setTo 80 = .ok (.getfield 13, 3) := dk_180 0 13 (dk_at dksX0_setTo_3 17 rfl rfl)
theorem dX0_setTo_83 : decode cX0_setTo 83 = .ok (.iload_n 2, 1) := dk_28 (dk_at dksX0_setTo_3 20 rfl rfl)
theorem dX0_setTo_84 : decode cX0_setTo 84 = .ok (.aaload, 1) := dk_50 (dk_at dksX0_setTo_3 21 rfl rfl)
theorem dX0_setTo_85 : decode cX0_setTo 85 = .ok (.iload_n 3, 1) := dk_29 (dk_at dksX0_setTo_3 22 rfl rfl)
theorem dX0_setTo_86 : decode cX0_setTo 86 = .ok (.putfield 123, 3) := dk_181 0 123 (dk_at dksX0_setTo_4 0 rfl rfl)
theorem dX0_setTo_89 : decode cX0_setTo 89 = .ok (.goto 29, 3) := dk_167 0 29 (dk_at dksX0_setTo_4 3 rfl rfl)
theorem dX0_setTo_92 : decode cX0_setTo 92 = .ok (.aload_n 0, 1) := dk_42 (dk_at dksX0_setTo_4 6 rfl rfl)
theorem dX0_setTo_93 : decode cX0_setTo 93 = .ok (.getfield 13, 3) := dk_180 0 13 (dk_at dksX0_setTo_4 7 rfl rfl)
theorem dX0_setTo_96 : decode cX0_setTo 96 = .ok (.iload_n 2, 1) := dk_28 (dk_at dksX0_setTo_4 10 rfl rfl)
theorem dX0_setTo_97 : decode cX0_setTo 97 = .ok (.aaload, 1) := dk_50 (dk_at dksX0_setTo_4 11 rfl rfl)
theorem dX0_setTo_98 : decode cX0_setTo 98 = .ok (.iload_n 3, 1) := dk_29 (dk_at dksX0_setTo_4 12 rfl rfl)
theorem dX0_setTo_99 : decode cX0_setTo 99 = .ok (.putfield 126, 3) := dk_181 0 126 (dk_at dksX0_setTo_4 13 rfl rfl)
theorem dX0_setTo_102 : decode cX0_setTo 102 = .ok (.goto 16, 3) := dk_167 0 16 (dk_at dksX0_setTo_4 16 rfl rfl)
theorem dX0_setTo_105 : decode cX0_setTo 105 = .ok (.aload_n 0, 1) := dk_42 (dk_at dksX0_setTo_4 19 rfl rfl)
theorem dX0_setTo_106 : decode cX0_setTo 106 = .ok (.iload_n 3, 1) := dk_29 (dk_at dksX0_setTo_4 20 rfl rfl)
theorem dX0_setTo_107 : decode cX0_setTo 107 = .ok (.putfield 17, 3) := dk_181 0 17 (dk_at dksX0_setTo_4 21 rfl rfl)
theorem dX0_setTo_110 : decode cX0_setTo 110 = .ok (.goto 8, 3) := dk_167 0 8 (dk_at dksX0_setTo_5 0 rfl rfl)
theorem dX0_setTo_113 : decode cX0_setTo 113 = .ok (.aload_n 0, 1) := dk_42 (dk_at dksX0_setTo_5 3 rfl rfl)
theorem dX0_setTo_114 : decode cX0_setTo 114 = .ok (.iload_n 3, 1) := dk_29 (dk_at dksX0_setTo_5 4 rfl rfl)
theorem dX0_setTo_115 : decode cX0_setTo 115 = .ok (.putfield 129, 3) := dk_181 0 129 (dk_at dksX0_setTo_5 5 rfl rfl)
theorem dX0_setTo_118 : decode cX0_setTo 118 = .ok (.return_, 1) := dk_177 (dk_at dksX0_setTo_5 8 rfl rfl)
abbrev cX0_redo : ByteArray := prog_1_method_12_code
def yX0_redo : MethodName := ⟨RX0, "redo", "()I"⟩
def dkwX0_redo_3 : List UInt8 := [180, 0, 132, 172]
abbrev dktX0_redo_3 : List UInt8 := dkwX0_redo_3 ++ []
def dkwX0_redo_2 : List UInt8 := [182, 0, 141, 42, 89, 180, 0, 135, 4, 96, 181, 0, 135, 42, 89, 180, 0, 132, 4, 100, 181, 0, 132, 42]
abbrev dktX0_redo_2 : List UInt8 := dkwX0_redo_2 ++ dktX0_redo_3
def dkwX0_redo_1 : List UInt8 := [180, 0, 23, 42, 180, 0, 135, 50, 180, 0, 148, 42, 180, 0, 23, 42, 180, 0, 135, 50, 180, 0, 153]
abbrev dktX0_redo_1 : List UInt8 := dkwX0_redo_1 ++ dktX0_redo_2
def dkwX0_redo_0 : List UInt8 := [42, 180, 0, 132, 154, 0, 6, 16, 251, 172, 42, 42, 180, 0, 23, 42, 180, 0, 135, 50, 180, 0, 145, 42]
abbrev dktX0_redo_0 : List UInt8 := dkwX0_redo_0 ++ dktX0_redo_1
theorem dksX0_redo_0 : cX0_redo.data.toList.drop 0 = dktX0_redo_0 := by decide +kernel
theorem dksX0_redo_1 : cX0_redo.data.toList.drop 24 = dktX0_redo_1 := dk_seg dksX0_redo_0 24 rfl rfl
theorem dksX0_redo_2 : cX0_redo.data.toList.drop 47 = dktX0_redo_2 := dk_seg dksX0_redo_1 23 rfl rfl
theorem dksX0_redo_3 : cX0_redo.data.toList.drop 71 = dktX0_redo_3 := dk_seg dksX0_redo_2 24 rfl rfl
theorem dX0_redo_0 : decode cX0_redo 0 = .ok (.aload_n 0, 1) := dk_42 (dk_at dksX0_redo_0 0 rfl rfl)
theorem dX0_redo_1 : decode cX0_redo 1 = .ok (.getfield 132, 3) := dk_180 0 132 (dk_at dksX0_redo_0 1 rfl rfl)
theorem dX0_redo_4 : decode cX0_redo 4 = .ok (.ifCond .ne 6, 3) := dk_154 0 6 (dk_at dksX0_redo_0 4 rfl rfl)
theorem dX0_redo_7 : decode cX0_redo 7 = .ok (.bipush (-5), 2) := dk_16 251 (dk_at dksX0_redo_0 7 rfl rfl)
theorem dX0_redo_9 : decode cX0_redo 9 = .ok (.ireturn, 1) := dk_172 (dk_at dksX0_redo_0 9 rfl rfl)
theorem dX0_redo_10 : decode cX0_redo 10 = .ok (.aload_n 0, 1) := dk_42 (dk_at dksX0_redo_0 10 rfl rfl)
theorem dX0_redo_11 : decode cX0_redo 11 = .ok (.aload_n 0, 1) := dk_42 (dk_at dksX0_redo_0 11 rfl rfl)
theorem dX0_redo_12 : decode cX0_redo 12 = .ok (.getfield 23, 3) := dk_180 0 23 (dk_at dksX0_redo_0 12 rfl rfl)
theorem dX0_redo_15 : decode cX0_redo 15 = .ok (.aload_n 0, 1) := dk_42 (dk_at dksX0_redo_0 15 rfl rfl)
theorem dX0_redo_16 : decode cX0_redo 16 = .ok (.getfield 135, 3) := dk_180 0 135 (dk_at dksX0_redo_0 16 rfl rfl)
theorem dX0_redo_19 : decode cX0_redo 19 = .ok (.aaload, 1) := dk_50 (dk_at dksX0_redo_0 19 rfl rfl)
theorem dX0_redo_20 : decode cX0_redo 20 = .ok (.getfield 145, 3) := dk_180 0 145 (dk_at dksX0_redo_0 20 rfl rfl)
theorem dX0_redo_23 : decode cX0_redo 23 = .ok (.aload_n 0, 1) := dk_42 (dk_at dksX0_redo_0 23 rfl rfl)
theorem dX0_redo_24 : decode cX0_redo 24 = .ok (.getfield 23, 3) := dk_180 0 23 (dk_at dksX0_redo_1 0 rfl rfl)
theorem dX0_redo_27 : decode cX0_redo 27 = .ok (.aload_n 0, 1) := dk_42 (dk_at dksX0_redo_1 3 rfl rfl)
theorem dX0_redo_28 : decode cX0_redo 28 = .ok (.getfield 135, 3) := dk_180 0 135 (dk_at dksX0_redo_1 4 rfl rfl)
theorem dX0_redo_31 : decode cX0_redo 31 = .ok (.aaload, 1) := dk_50 (dk_at dksX0_redo_1 7 rfl rfl)
theorem dX0_redo_32 : decode cX0_redo 32 = .ok (.getfield 148, 3) := dk_180 0 148 (dk_at dksX0_redo_1 8 rfl rfl)
theorem dX0_redo_35 : decode cX0_redo 35 = .ok (.aload_n 0, 1) := dk_42 (dk_at dksX0_redo_1 11 rfl rfl)
theorem dX0_redo_36 : decode cX0_redo 36 = .ok (.getfield 23, 3) := dk_180 0 23 (dk_at dksX0_redo_1 12 rfl rfl)
theorem dX0_redo_39 : decode cX0_redo 39 = .ok (.aload_n 0, 1) := dk_42 (dk_at dksX0_redo_1 15 rfl rfl)
theorem dX0_redo_40 : decode cX0_redo 40 = .ok (.getfield 135, 3) := dk_180 0 135 (dk_at dksX0_redo_1 16 rfl rfl)
theorem dX0_redo_43 : decode cX0_redo 43 = .ok (.aaload, 1) := dk_50 (dk_at dksX0_redo_1 19 rfl rfl)
theorem dX0_redo_44 : decode cX0_redo 44 = .ok (.getfield 153, 3) := dk_180 0 153 (dk_at dksX0_redo_1 20 rfl rfl)
theorem dX0_redo_47 : decode cX0_redo 47 = .ok (.invokevirtual 141, 3) := dk_182 0 141 (dk_at dksX0_redo_2 0 rfl rfl)
theorem dX0_redo_50 : decode cX0_redo 50 = .ok (.aload_n 0, 1) := dk_42 (dk_at dksX0_redo_2 3 rfl rfl)
theorem dX0_redo_51 : decode cX0_redo 51 = .ok (.dup, 1) := dk_89 (dk_at dksX0_redo_2 4 rfl rfl)
theorem dX0_redo_52 : decode cX0_redo 52 = .ok (.getfield 135, 3) := dk_180 0 135 (dk_at dksX0_redo_2 5 rfl rfl)
theorem dX0_redo_55 : decode cX0_redo 55 = .ok (.iconst 1, 1) := dk_4 (dk_at dksX0_redo_2 8 rfl rfl)
theorem dX0_redo_56 : decode cX0_redo 56 = .ok (.iadd, 1) := dk_96 (dk_at dksX0_redo_2 9 rfl rfl)
theorem dX0_redo_57 : decode cX0_redo 57 = .ok (.putfield 135, 3) := dk_181 0 135 (dk_at dksX0_redo_2 10 rfl rfl)
theorem dX0_redo_60 : decode cX0_redo 60 = .ok (.aload_n 0, 1) := dk_42 (dk_at dksX0_redo_2 13 rfl rfl)
theorem dX0_redo_61 : decode cX0_redo 61 = .ok (.dup, 1) := dk_89 (dk_at dksX0_redo_2 14 rfl rfl)
theorem dX0_redo_62 : decode cX0_redo 62 = .ok (.getfield 132, 3) := dk_180 0 132 (dk_at dksX0_redo_2 15 rfl rfl)
theorem dX0_redo_65 : decode cX0_redo 65 = .ok (.iconst 1, 1) := dk_4 (dk_at dksX0_redo_2 18 rfl rfl)
theorem dX0_redo_66 : decode cX0_redo 66 = .ok (.isub, 1) := dk_100 (dk_at dksX0_redo_2 19 rfl rfl)
theorem dX0_redo_67 : decode cX0_redo 67 = .ok (.putfield 132, 3) := dk_181 0 132 (dk_at dksX0_redo_2 20 rfl rfl)
theorem dX0_redo_70 : decode cX0_redo 70 = .ok (.aload_n 0, 1) := dk_42 (dk_at dksX0_redo_2 23 rfl rfl)
theorem dX0_redo_71 : decode cX0_redo 71 = .ok (.getfield 132, 3) := dk_180 0 132 (dk_at dksX0_redo_3 0 rfl rfl)
theorem dX0_redo_74 : decode cX0_redo 74 = .ok (.ireturn, 1) := dk_172 (dk_at dksX0_redo_3 3 rfl rfl)
abbrev cX0_mend : ByteArray := prog_1_method_17_code
def yX0_mend : MethodName := ⟨RX0, "mend", "(III)I"⟩
def dkwX0_mend_1 : List UInt8 := [28, 182, 0, 169, 29, 182, 0, 173, 167, 0, 5, 18, 177, 172]
abbrev dktX0_mend_1 : List UInt8 := dkwX0_mend_1 ++ []
def dkwX0_mend_0 : List UInt8 := [42, 27, 28, 182, 0, 163, 153, 0, 29, 42, 27, 28, 29, 182, 0, 166, 153, 0, 19, 42, 28, 27, 42, 27]
abbrev dktX0_mend_0 : List UInt8 := dkwX0_mend_0 ++ dktX0_mend_1
theorem dksX0_mend_0 : cX0_mend.data.toList.drop 0 = dktX0_mend_0 := by decide +kernel
theorem dksX0_mend_1 : cX0_mend.data.toList.drop 24 = dktX0_mend_1 := dk_seg dksX0_mend_0 24 rfl rfl
theorem dX0_mend_0 : decode cX0_mend 0 = .ok (.aload_n 0, 1) := dk_42 (dk_at dksX0_mend_0 0 rfl rfl)
theorem dX0_mend_1 : decode cX0_mend 1 = .ok (.iload_n 1, 1) := dk_27 (dk_at dksX0_mend_0 1 rfl rfl)
theorem dX0_mend_2 : decode cX0_mend 2 = .ok (.iload_n 2, 1) := dk_28 (dk_at dksX0_mend_0 2 rfl rfl)
theorem dX0_mend_3 : decode cX0_mend 3 = .ok (.invokevirtual 163, 3) := dk_182 0 163 (dk_at dksX0_mend_0 3 rfl rfl)
theorem dX0_mend_6 : decode cX0_mend 6 = .ok (.ifCond .eq 29, 3) := dk_153 0 29 (dk_at dksX0_mend_0 6 rfl rfl)
theorem dX0_mend_9 : decode cX0_mend 9 = .ok (.aload_n 0, 1) := dk_42 (dk_at dksX0_mend_0 9 rfl rfl)
theorem dX0_mend_10 : decode cX0_mend 10 = .ok (.iload_n 1, 1) := dk_27 (dk_at dksX0_mend_0 10 rfl rfl)
theorem dX0_mend_11 : decode cX0_mend 11 = .ok (.iload_n 2, 1) := dk_28 (dk_at dksX0_mend_0 11 rfl rfl)
theorem dX0_mend_12 : decode cX0_mend 12 = .ok (.iload_n 3, 1) := dk_29 (dk_at dksX0_mend_0 12 rfl rfl)
theorem dX0_mend_13 : decode cX0_mend 13 = .ok (.invokevirtual 166, 3) := dk_182 0 166 (dk_at dksX0_mend_0 13 rfl rfl)
theorem dX0_mend_16 : decode cX0_mend 16 = .ok (.ifCond .eq 19, 3) := dk_153 0 19 (dk_at dksX0_mend_0 16 rfl rfl)
theorem dX0_mend_19 : decode cX0_mend 19 = .ok (.aload_n 0, 1) := dk_42 (dk_at dksX0_mend_0 19 rfl rfl)
theorem dX0_mend_20 : decode cX0_mend 20 = .ok (.iload_n 2, 1) := dk_28 (dk_at dksX0_mend_0 20 rfl rfl)
theorem dX0_mend_21 : decode cX0_mend 21 = .ok (.iload_n 1, 1) := dk_27 (dk_at dksX0_mend_0 21 rfl rfl)
theorem dX0_mend_22 : decode cX0_mend 22 = .ok (.aload_n 0, 1) := dk_42 (dk_at dksX0_mend_0 22 rfl rfl)
theorem dX0_mend_23 : decode cX0_mend 23 = .ok (.iload_n 1, 1) := dk_27 (dk_at dksX0_mend_0 23 rfl rfl)
theorem dX0_mend_24 : decode cX0_mend 24 = .ok (.iload_n 2, 1) := dk_28 (dk_at dksX0_mend_1 0 rfl rfl)
theorem dX0_mend_25 : decode cX0_mend 25 = .ok (.invokevirtual 169, 3) := dk_182 0 169 (dk_at dksX0_mend_1 1 rfl rfl)
theorem dX0_mend_28 : decode cX0_mend 28 = .ok (.iload_n 3, 1) := dk_29 (dk_at dksX0_mend_1 4 rfl rfl)
theorem dX0_mend_29 : decode cX0_mend 29 = .ok (.invokevirtual 173, 3) := dk_182 0 173 (dk_at dksX0_mend_1 5 rfl rfl)
theorem dX0_mend_32 : decode cX0_mend 32 = .ok (.goto 5, 3) := dk_167 0 5 (dk_at dksX0_mend_1 8 rfl rfl)
theorem dX0_mend_35 : decode cX0_mend 35 = .ok (.ldc 177, 2) := dk_18 177 (dk_at dksX0_mend_1 11 rfl rfl)
theorem dX0_mend_37 : decode cX0_mend 37 = .ok (.ireturn, 1) := dk_172 (dk_at dksX0_mend_1 13 rfl rfl)
abbrev cX0_isOf : ByteArray := prog_1_method_13_code
def yX0_isOf : MethodName := ⟨RX0, "isOf", "(II)Z"⟩
def dkwX0_isOf_1 : List UInt8 := [153, 0, 11, 27, 154, 0, 7, 4, 167, 0, 4, 3, 172]
abbrev dktX0_isOf_1 : List UInt8 := dkwX0_isOf_1 ++ []
def dkwX0_isOf_0 : List UInt8 := [28, 3, 7, 184, 0, 81, 153, 0, 11, 42, 27, 182, 0, 156, 167, 0, 22, 28, 8, 16, 6, 184, 0, 81]
abbrev dktX0_isOf_0 : List UInt8 := dkwX0_isOf_0 ++ dktX0_isOf_1
theorem dksX0_isOf_0 : cX0_isOf.data.toList.drop 0 = dktX0_isOf_0 := by decide +kernel
theorem dksX0_isOf_1 : cX0_isOf.data.toList.drop 24 = dktX0_isOf_1 := dk_seg dksX0_isOf_0 24 rfl rfl
theorem dX0_isOf_0 : decode cX0_isOf 0 = .ok (.iload_n 2, 1) := dk_28 (dk_at dksX0_isOf_0 0 rfl rfl)
theorem dX0_isOf_1 : decode cX0_isOf 1 = .ok (.iconst 0, 1) := dk_3 (dk_at dksX0_isOf_0 1 rfl rfl)
theorem dX0_isOf_2 : decode cX0_isOf 2 = .ok (.iconst 4, 1) := dk_7 (dk_at dksX0_isOf_0 2 rfl rfl)
theorem dX0_isOf_3 : decode cX0_isOf 3 = .ok (.invokestatic 81, 3) := dk_184 0 81 (dk_at dksX0_isOf_0 3 rfl rfl)
theorem dX0_isOf_6 : decode cX0_isOf 6 = .ok (.ifCond .eq 11, 3) := dk_153 0 11 (dk_at dksX0_isOf_0 6 rfl rfl)
theorem dX0_isOf_9 : decode cX0_isOf 9 = .ok (.aload_n 0, 1) := dk_42 (dk_at dksX0_isOf_0 9 rfl rfl)
theorem dX0_isOf_10 : decode cX0_isOf 10 = .ok (.iload_n 1, 1) := dk_27 (dk_at dksX0_isOf_0 10 rfl rfl)
theorem dX0_isOf_11 : decode cX0_isOf 11 = .ok (.invokevirtual 156, 3) := dk_182 0 156 (dk_at dksX0_isOf_0 11 rfl rfl)
theorem dX0_isOf_14 : decode cX0_isOf 14 = .ok (.goto 22, 3) := dk_167 0 22 (dk_at dksX0_isOf_0 14 rfl rfl)
theorem dX0_isOf_17 : decode cX0_isOf 17 = .ok (.iload_n 2, 1) := dk_28 (dk_at dksX0_isOf_0 17 rfl rfl)
theorem dX0_isOf_18 : decode cX0_isOf 18 = .ok (.iconst 5, 1) := dk_8 (dk_at dksX0_isOf_0 18 rfl rfl)
theorem dX0_isOf_19 : decode cX0_isOf 19 = .ok (.bipush 6, 2) := dk_16 6 (dk_at dksX0_isOf_0 19 rfl rfl)
theorem dX0_isOf_21 : decode cX0_isOf 21 = .ok (.invokestatic 81, 3) := dk_184 0 81 (dk_at dksX0_isOf_0 21 rfl rfl)
theorem dX0_isOf_24 : decode cX0_isOf 24 = .ok (.ifCond .eq 11, 3) := dk_153 0 11 (dk_at dksX0_isOf_1 0 rfl rfl)
theorem dX0_isOf_27 : decode cX0_isOf 27 = .ok (.iload_n 1, 1) := dk_27 (dk_at dksX0_isOf_1 3 rfl rfl)
theorem dX0_isOf_28 : decode cX0_isOf 28 = .ok (.ifCond .ne 7, 3) := dk_154 0 7 (dk_at dksX0_isOf_1 4 rfl rfl)
theorem dX0_isOf_31 : decode cX0_isOf 31 = .ok (.iconst 1, 1) := dk_4 (dk_at dksX0_isOf_1 7 rfl rfl)
theorem dX0_isOf_32 : decode cX0_isOf 32 = .ok (.goto 4, 3) := dk_167 0 4 (dk_at dksX0_isOf_1 8 rfl rfl)
theorem dX0_isOf_35 : decode cX0_isOf 35 = .ok (.iconst 0, 1) := dk_3 (dk_at dksX0_isOf_1 11 rfl rfl)
theorem dX0_isOf_36 : decode cX0_isOf 36 = .ok (.ireturn, 1) := dk_172 (dk_at dksX0_isOf_1 12 rfl rfl)
abbrev cX0_isPerson : ByteArray := prog_1_method_5_code
def yX0_isPerson : MethodName := ⟨RX0, "isPerson", "(I)Z"⟩
def dkwX0_isPerson_0 : List UInt8 := [27, 3, 42, 180, 0, 85, 4, 100, 184, 0, 81, 172]
abbrev dktX0_isPerson_0 : List UInt8 := dkwX0_isPerson_0 ++ []
theorem dksX0_isPerson_0 : cX0_isPerson.data.toList.drop 0 = dktX0_isPerson_0 := by decide +kernel
theorem dX0_isPerson_0 : decode cX0_isPerson 0 = .ok (.iload_n 1, 1) := dk_27 (dk_at dksX0_isPerson_0 0 rfl rfl)
theorem dX0_isPerson_1 : decode cX0_isPerson 1 = .ok (.iconst 0, 1) := dk_3 (dk_at dksX0_isPerson_0 1 rfl rfl)
theorem dX0_isPerson_2 : decode cX0_isPerson 2 = .ok (.aload_n 0, 1) := dk_42 (dk_at dksX0_isPerson_0 2 rfl rfl)
theorem dX0_isPerson_3 : decode cX0_isPerson 3 = .ok (.getfield 85, 3) := dk_180 0 85 (dk_at dksX0_isPerson_0 3 rfl rfl)
theorem dX0_isPerson_6 : decode cX0_isPerson 6 = .ok (.iconst 1, 1) := dk_4 (dk_at dksX0_isPerson_0 6 rfl rfl)
theorem dX0_isPerson_7 : decode cX0_isPerson 7 = .ok (.isub, 1) := dk_100 (dk_at dksX0_isPerson_0 7 rfl rfl)
theorem dX0_isPerson_8 : decode cX0_isPerson 8 = .ok (.invokestatic 81, 3) := dk_184 0 81 (dk_at dksX0_isPerson_0 8 rfl rfl)
theorem dX0_isPerson_11 : decode cX0_isPerson 11 = .ok (.ireturn, 1) := dk_172 (dk_at dksX0_isPerson_0 11 rfl rfl)
abbrev cX0_mayBe : ByteArray := prog_1_method_16_code
def yX0_mayBe : MethodName := ⟨RX0, "mayBe", "(III)Z"⟩
def dkwX0_mayBe_3 : List UInt8 := [184, 0, 81, 172]
abbrev dktX0_mayBe_3 : List UInt8 := dkwX0_mayBe_3 ++ []
def dkwX0_mayBe_2 : List UInt8 := [29, 184, 0, 91, 172, 29, 3, 16, 99, 184, 0, 81, 172, 42, 27, 29, 182, 0, 159, 172, 29, 3, 16, 9]
abbrev dktX0_mayBe_2 : List UInt8 := dkwX0_mayBe_2 ++ dktX0_mayBe_3
def dkwX0_mayBe_1 : List UInt8 := [170, 0, 0, 0, 0, 0, 63, 0, 0, 0, 0, 0, 0, 0, 6, 0, 0, 0, 43, 0, 0, 0, 63, 0, 0, 0, 63, 0, 0, 0, 48, 0, 0, 0, 56, 0, 0, 0, 63, 0, 0, 0, 48]
abbrev dktX0_mayBe_1 : List UInt8 := dkwX0_mayBe_1 ++ dktX0_mayBe_2
def dkwX0_mayBe_0 : List UInt8 := [28]
abbrev dktX0_mayBe_0 : List UInt8 := dkwX0_mayBe_0 ++ dktX0_mayBe_1
theorem dksX0_mayBe_0 : cX0_mayBe.data.toList.drop 0 = dktX0_mayBe_0 := by decide +kernel
theorem dksX0_mayBe_1 : cX0_mayBe.data.toList.drop 1 = dktX0_mayBe_1 := dk_seg dksX0_mayBe_0 1 rfl rfl
theorem dksX0_mayBe_2 : cX0_mayBe.data.toList.drop 44 = dktX0_mayBe_2 := dk_seg dksX0_mayBe_1 43 rfl rfl
theorem dksX0_mayBe_3 : cX0_mayBe.data.toList.drop 68 = dktX0_mayBe_3 := dk_seg dksX0_mayBe_2 24 rfl rfl
theorem dX0_mayBe_0 : decode cX0_mayBe 0 = .ok (.iload_n 2, 1) := dk_28 (dk_at dksX0_mayBe_0 0 rfl rfl)
theorem dX0_mayBe_1 : decode cX0_mayBe 1 = .ok (.tableswitch 63 0 6 #[43, 63, 63, 48, 56, 63, 48], 43) := by decide +kernel
theorem dX0_mayBe_44 : decode cX0_mayBe 44 = .ok (.iload_n 3, 1) := dk_29 (dk_at dksX0_mayBe_2 0 rfl rfl)
theorem dX0_mayBe_45 : decode cX0_mayBe 45 = .ok (.invokestatic 91, 3) := dk_184 0 91 (dk_at dksX0_mayBe_2 1 rfl rfl)
theorem dX0_mayBe_48 : decode cX0_mayBe 48 = .ok (.ireturn, 1) := dk_172 (dk_at dksX0_mayBe_2 4 rfl rfl)
theorem dX0_mayBe_49 : decode cX0_mayBe 49 = .ok (.iload_n 3, 1) := dk_29 (dk_at dksX0_mayBe_2 5 rfl rfl)
theorem dX0_mayBe_50 : decode cX0_mayBe 50 = .ok (.iconst 0, 1) := dk_3 (dk_at dksX0_mayBe_2 6 rfl rfl)
theorem dX0_mayBe_51 : decode cX0_mayBe 51 = .ok (.bipush 99, 2) := dk_16 99 (dk_at dksX0_mayBe_2 7 rfl rfl)
theorem dX0_mayBe_53 : decode cX0_mayBe 53 = .ok (.invokestatic 81, 3) := dk_184 0 81 (dk_at dksX0_mayBe_2 9 rfl rfl)
theorem dX0_mayBe_56 : decode cX0_mayBe 56 = .ok (.ireturn, 1) := dk_172 (dk_at dksX0_mayBe_2 12 rfl rfl)
theorem dX0_mayBe_57 : decode cX0_mayBe 57 = .ok (.aload_n 0, 1) := dk_42 (dk_at dksX0_mayBe_2 13 rfl rfl)
theorem dX0_mayBe_58 : decode cX0_mayBe 58 = .ok (.iload_n 1, 1) := dk_27 (dk_at dksX0_mayBe_2 14 rfl rfl)
theorem dX0_mayBe_59 : decode cX0_mayBe 59 = .ok (.iload_n 3, 1) := dk_29 (dk_at dksX0_mayBe_2 15 rfl rfl)
theorem dX0_mayBe_60 : decode cX0_mayBe 60 = .ok (.invokevirtual 159, 3) := dk_182 0 159 (dk_at dksX0_mayBe_2 16 rfl rfl)
theorem dX0_mayBe_63 : decode cX0_mayBe 63 = .ok (.ireturn, 1) := dk_172 (dk_at dksX0_mayBe_2 19 rfl rfl)
theorem dX0_mayBe_64 : decode cX0_mayBe 64 = .ok (.iload_n 3, 1) := dk_29 (dk_at dksX0_mayBe_2 20 rfl rfl)
theorem dX0_mayBe_65 : decode cX0_mayBe 65 = .ok (.iconst 0, 1) := dk_3 (dk_at dksX0_mayBe_2 21 rfl rfl)
theorem dX0_mayBe_66 : decode cX0_mayBe 66 = .ok (.bipush 9, 2) := dk_16 9 (dk_at dksX0_mayBe_2 22 rfl rfl)
theorem dX0_mayBe_68 : decode cX0_mayBe 68 = .ok (.invokestatic 81, 3) := dk_184 0 81 (dk_at dksX0_mayBe_3 0 rfl rfl)
theorem dX0_mayBe_71 : decode cX0_mayBe 71 = .ok (.ireturn, 1) := dk_172 (dk_at dksX0_mayBe_3 3 rfl rfl)
abbrev cX0_mayCare : ByteArray := prog_1_method_15_code
def yX0_mayCare : MethodName := ⟨RX0, "mayCare", "(II)Z"⟩
def dkwX0_mayCare_0 : List UInt8 := [28, 2, 159, 0, 16, 42, 28, 182, 0, 156, 153, 0, 12, 28, 27, 159, 0, 7, 4, 167, 0, 4, 3, 172]
abbrev dktX0_mayCare_0 : List UInt8 := dkwX0_mayCare_0 ++ []
theorem dksX0_mayCare_0 : cX0_mayCare.data.toList.drop 0 = dktX0_mayCare_0 := by decide +kernel
theorem dX0_mayCare_0 : decode cX0_mayCare 0 = .ok (.iload_n 2, 1) := dk_28 (dk_at dksX0_mayCare_0 0 rfl rfl)
theorem dX0_mayCare_1 : decode cX0_mayCare 1 = .ok (.iconst (-1), 1) := dk_2 (dk_at dksX0_mayCare_0 1 rfl rfl)
theorem dX0_mayCare_2 : decode cX0_mayCare 2 = .ok (.if_icmp .eq 16, 3) := dk_159 0 16 (dk_at dksX0_mayCare_0 2 rfl rfl)
theorem dX0_mayCare_5 : decode cX0_mayCare 5 = .ok (.aload_n 0, 1) := dk_42 (dk_at dksX0_mayCare_0 5 rfl rfl)
theorem dX0_mayCare_6 : decode cX0_mayCare 6 = .ok (.iload_n 2, 1) := dk_28 (dk_at dksX0_mayCare_0 6 rfl rfl)
theorem dX0_mayCare_7 : decode cX0_mayCare 7 = .ok (.invokevirtual 156, 3) := dk_182 0 156 (dk_at dksX0_mayCare_0 7 rfl rfl)
theorem dX0_mayCare_10 : decode cX0_mayCare 10 = .ok (.ifCond .eq 12, 3) := dk_153 0 12 (dk_at dksX0_mayCare_0 10 rfl rfl)
theorem dX0_mayCare_13 : decode cX0_mayCare 13 = .ok (.iload_n 2, 1) := dk_28 (dk_at dksX0_mayCare_0 13 rfl rfl)
theorem dX0_mayCare_14 : decode cX0_mayCare 14 = .ok (.iload_n 1, 1) := dk_27 (dk_at dksX0_mayCare_0 14 rfl rfl)
theorem dX0_mayCare_15 : decode cX0_mayCare 15 = .ok (.if_icmp .eq 7, 3) := dk_159 0 7 (dk_at dksX0_mayCare_0 15 rfl rfl)
theorem dX0_mayCare_18 : decode cX0_mayCare 18 = .ok (.iconst 1, 1) := dk_4 (dk_at dksX0_mayCare_0 18 rfl rfl)
theorem dX0_mayCare_19 : decode cX0_mayCare 19 = .ok (.goto 4, 3) := dk_167 0 4 (dk_at dksX0_mayCare_0 19 rfl rfl)
theorem dX0_mayCare_22 : decode cX0_mayCare 22 = .ok (.iconst 0, 1) := dk_3 (dk_at dksX0_mayCare_0 22 rfl rfl)
theorem dX0_mayCare_23 : decode cX0_mayCare 23 = .ok (.ireturn, 1) := dk_172 (dk_at dksX0_mayCare_0 23 rfl rfl)
abbrev cX0_valueOf : ByteArray := prog_1_method_14_code
def yX0_valueOf : MethodName := ⟨RX0, "valueOf", "(II)I"⟩
def dkwX0_valueOf_4 : List UInt8 := [180, 0, 126, 172, 42, 180, 0, 17, 172, 42, 180, 0, 129, 172]
abbrev dktX0_valueOf_4 : List UInt8 := dkwX0_valueOf_4 ++ []
def dkwX0_valueOf_3 : List UInt8 := [27, 50, 180, 0, 111, 172, 42, 180, 0, 13, 27, 50, 180, 0, 123, 172, 42, 180, 0, 13, 27, 50]
abbrev dktX0_valueOf_3 : List UInt8 := dkwX0_valueOf_3 ++ dktX0_valueOf_4
def dkwX0_valueOf_2 : List UInt8 := [42, 180, 0, 13, 27, 50, 180, 0, 120, 172, 42, 180, 0, 13, 27, 50, 180, 0, 108, 172, 42, 180, 0, 13]
abbrev dktX0_valueOf_2 : List UInt8 := dkwX0_valueOf_2 ++ dktX0_valueOf_3
def dkwX0_valueOf_1 : List UInt8 := [170, 0, 0, 0, 0, 0, 94, 0, 0, 0, 0, 0, 0, 0, 5, 0, 0, 0, 39, 0, 0, 0, 49, 0, 0, 0, 59, 0, 0, 0, 69, 0, 0, 0, 79, 0, 0, 0, 89]
abbrev dktX0_valueOf_1 : List UInt8 := dkwX0_valueOf_1 ++ dktX0_valueOf_2
def dkwX0_valueOf_0 : List UInt8 := [28]
abbrev dktX0_valueOf_0 : List UInt8 := dkwX0_valueOf_0 ++ dktX0_valueOf_1
theorem dksX0_valueOf_0 : cX0_valueOf.data.toList.drop 0 = dktX0_valueOf_0 := by decide +kernel
theorem dksX0_valueOf_1 : cX0_valueOf.data.toList.drop 1 = dktX0_valueOf_1 := dk_seg dksX0_valueOf_0 1 rfl rfl
theorem dksX0_valueOf_2 : cX0_valueOf.data.toList.drop 40 = dktX0_valueOf_2 := dk_seg dksX0_valueOf_1 39 rfl rfl
theorem dksX0_valueOf_3 : cX0_valueOf.data.toList.drop 64 = dktX0_valueOf_3 := dk_seg dksX0_valueOf_2 24 rfl rfl
theorem dksX0_valueOf_4 : cX0_valueOf.data.toList.drop 86 = dktX0_valueOf_4 := dk_seg dksX0_valueOf_3 22 rfl rfl
theorem dX0_valueOf_0 : decode cX0_valueOf 0 = .ok (.iload_n 2, 1) := dk_28 (dk_at dksX0_valueOf_0 0 rfl rfl)
theorem dX0_valueOf_1 : decode cX0_valueOf 1 = .ok (.tableswitch 94 0 5 #[39, 49, 59, 69, 79, 89], 39) := by decide +kernel
theorem dX0_valueOf_40 : decode cX0_valueOf 40 = .ok (.aload_n 0, 1) := dk_42 (dk_at dksX0_valueOf_2 0 rfl rfl)
theorem dX0_valueOf_41 : decode cX0_valueOf 41 = .ok (.getfield 13, 3) := dk_180 0 13 (dk_at dksX0_valueOf_2 1 rfl rfl)
theorem dX0_valueOf_44 : decode cX0_valueOf 44 = .ok (.iload_n 1, 1) := dk_27 (dk_at dksX0_valueOf_2 4 rfl rfl)
theorem dX0_valueOf_45 : decode cX0_valueOf 45 = .ok (.aaload, 1) := dk_50 (dk_at dksX0_valueOf_2 5 rfl rfl)
theorem dX0_valueOf_46 : decode cX0_valueOf 46 = .ok (.getfield 120, 3) := dk_180 0 120 (dk_at dksX0_valueOf_2 6 rfl rfl)
theorem dX0_valueOf_49 : decode cX0_valueOf 49 = .ok (.ireturn, 1) := dk_172 (dk_at dksX0_valueOf_2 9 rfl rfl)
theorem dX0_valueOf_50 : decode cX0_valueOf 50 = .ok (.aload_n 0, 1) := dk_42 (dk_at dksX0_valueOf_2 10 rfl rfl)
theorem dX0_valueOf_51 : decode cX0_valueOf 51 = .ok (.getfield 13, 3) := dk_180 0 13 (dk_at dksX0_valueOf_2 11 rfl rfl)
theorem dX0_valueOf_54 : decode cX0_valueOf 54 = .ok (.iload_n 1, 1) := dk_27 (dk_at dksX0_valueOf_2 14 rfl rfl)
theorem dX0_valueOf_55 : decode cX0_valueOf 55 = .ok (.aaload, 1) := dk_50 (dk_at dksX0_valueOf_2 15 rfl rfl)
theorem dX0_valueOf_56 : decode cX0_valueOf 56 = .ok (.getfield 108, 3) := dk_180 0 108 (dk_at dksX0_valueOf_2 16 rfl rfl)
theorem dX0_valueOf_59 : decode cX0_valueOf 59 = .ok (.ireturn, 1) := dk_172 (dk_at dksX0_valueOf_2 19 rfl rfl)
theorem dX0_valueOf_60 : decode cX0_valueOf 60 = .ok (.aload_n 0, 1) := dk_42 (dk_at dksX0_valueOf_2 20 rfl rfl)
theorem dX0_valueOf_61 : decode cX0_valueOf 61 = .ok (.getfield 13, 3) := dk_180 0 13 (dk_at dksX0_valueOf_2 21 rfl rfl)
theorem dX0_valueOf_64 : decode cX0_valueOf 64 = .ok (.iload_n 1, 1) := dk_27 (dk_at dksX0_valueOf_3 0 rfl rfl)
theorem dX0_valueOf_65 : decode cX0_valueOf 65 = .ok (.aaload, 1) := dk_50 (dk_at dksX0_valueOf_3 1 rfl rfl)
theorem dX0_valueOf_66 : decode cX0_valueOf 66 = .ok (.getfield 111, 3) := dk_180 0 111 (dk_at dksX0_valueOf_3 2 rfl rfl)
theorem dX0_valueOf_69 : decode cX0_valueOf 69 = .ok (.ireturn, 1) := dk_172 (dk_at dksX0_valueOf_3 5 rfl rfl)
theorem dX0_valueOf_70 : decode cX0_valueOf 70 = .ok (.aload_n 0, 1) := dk_42 (dk_at dksX0_valueOf_3 6 rfl rfl)
theorem dX0_valueOf_71 : decode cX0_valueOf 71 = .ok (.getfield 13, 3) := dk_180 0 13 (dk_at dksX0_valueOf_3 7 rfl rfl)
theorem dX0_valueOf_74 : decode cX0_valueOf 74 = .ok (.iload_n 1, 1) := dk_27 (dk_at dksX0_valueOf_3 10 rfl rfl)
theorem dX0_valueOf_75 : decode cX0_valueOf 75 = .ok (.aaload, 1) := dk_50 (dk_at dksX0_valueOf_3 11 rfl rfl)
theorem dX0_valueOf_76 : decode cX0_valueOf 76 = .ok (.getfield 123, 3) := dk_180 0 123 (dk_at dksX0_valueOf_3 12 rfl rfl)
theorem dX0_valueOf_79 : decode cX0_valueOf 79 = .ok (.ireturn, 1) := dk_172 (dk_at dksX0_valueOf_3 15 rfl rfl)
theorem dX0_valueOf_80 : decode cX0_valueOf 80 = .ok (.aload_n 0, 1) := dk_42 (dk_at dksX0_valueOf_3 16 rfl rfl)
theorem dX0_valueOf_81 : decode cX0_valueOf 81 = .ok (.getfield 13, 3) := dk_180 0 13 (dk_at dksX0_valueOf_3 17 rfl rfl)
theorem dX0_valueOf_84 : decode cX0_valueOf 84 = .ok (.iload_n 1, 1) := dk_27 (dk_at dksX0_valueOf_3 20 rfl rfl)
theorem dX0_valueOf_85 : decode cX0_valueOf 85 = .ok (.aaload, 1) := dk_50 (dk_at dksX0_valueOf_3 21 rfl rfl)
theorem dX0_valueOf_86 : decode cX0_valueOf 86 = .ok (.getfield 126, 3) := dk_180 0 126 (dk_at dksX0_valueOf_4 0 rfl rfl)
theorem dX0_valueOf_89 : decode cX0_valueOf 89 = .ok (.ireturn, 1) := dk_172 (dk_at dksX0_valueOf_4 3 rfl rfl)
theorem dX0_valueOf_90 : decode cX0_valueOf 90 = .ok (.aload_n 0, 1) := dk_42 (dk_at dksX0_valueOf_4 4 rfl rfl)
theorem dX0_valueOf_91 : decode cX0_valueOf 91 = .ok (.getfield 17, 3) := dk_180 0 17 (dk_at dksX0_valueOf_4 5 rfl rfl)
theorem dX0_valueOf_94 : decode cX0_valueOf 94 = .ok (.ireturn, 1) := dk_172 (dk_at dksX0_valueOf_4 8 rfl rfl)
theorem dX0_valueOf_95 : decode cX0_valueOf 95 = .ok (.aload_n 0, 1) := dk_42 (dk_at dksX0_valueOf_4 9 rfl rfl)
theorem dX0_valueOf_96 : decode cX0_valueOf 96 = .ok (.getfield 129, 3) := dk_180 0 129 (dk_at dksX0_valueOf_4 10 rfl rfl)
theorem dX0_valueOf_99 : decode cX0_valueOf 99 = .ok (.ireturn, 1) := dk_172 (dk_at dksX0_valueOf_4 13 rfl rfl)
abbrev cX0_become : ByteArray := prog_1_method_10_code
def yX0_become : MethodName := ⟨RX0, "become", "(IIII)I"⟩
def dkwX0_become_4 : List UInt8 := [181, 0, 135, 42, 27, 28, 21, 4, 182, 0, 141, 29, 172]
abbrev dktX0_become_4 : List UInt8 := dkwX0_become_4 ++ []
def dkwX0_become_3 : List UInt8 := [180, 0, 135, 187, 0, 21, 89, 27, 28, 29, 21, 4, 183, 0, 138, 83, 42, 89, 180, 0, 135, 4, 96]
abbrev dktX0_become_3 : List UInt8 := dkwX0_become_3 ++ dktX0_become_4
def dkwX0_become_2 : List UInt8 := [83, 132, 5, 1, 167, 255, 230, 42, 89, 180, 0, 135, 4, 100, 181, 0, 135, 42, 180, 0, 23, 42]
abbrev dktX0_become_2 : List UInt8 := dkwX0_become_2 ++ dktX0_become_3
def dkwX0_become_1 : List UInt8 := [54, 5, 21, 5, 16, 40, 162, 0, 25, 42, 180, 0, 23, 21, 5, 4, 100, 42, 180, 0, 23, 21, 5, 50]
abbrev dktX0_become_1 : List UInt8 := dkwX0_become_1 ++ dktX0_become_2
def dkwX0_become_0 : List UInt8 := [29, 21, 4, 160, 0, 5, 29, 172, 42, 3, 181, 0, 132, 42, 180, 0, 135, 16, 40, 160, 0, 45, 4]
abbrev dktX0_become_0 : List UInt8 := dkwX0_become_0 ++ dktX0_become_1
theorem dksX0_become_0 : cX0_become.data.toList.drop 0 = dktX0_become_0 := by decide +kernel
theorem dksX0_become_1 : cX0_become.data.toList.drop 23 = dktX0_become_1 := dk_seg dksX0_become_0 23 rfl rfl
theorem dksX0_become_2 : cX0_become.data.toList.drop 47 = dktX0_become_2 := dk_seg dksX0_become_1 24 rfl rfl
theorem dksX0_become_3 : cX0_become.data.toList.drop 69 = dktX0_become_3 := dk_seg dksX0_become_2 22 rfl rfl
theorem dksX0_become_4 : cX0_become.data.toList.drop 92 = dktX0_become_4 := dk_seg dksX0_become_3 23 rfl rfl
theorem dX0_become_0 : decode cX0_become 0 = .ok (.iload_n 3, 1) := dk_29 (dk_at dksX0_become_0 0 rfl rfl)
theorem dX0_become_1 : decode cX0_become 1 = .ok (.iload 4, 2) := dk_21 4 (dk_at dksX0_become_0 1 rfl rfl)
theorem dX0_become_3 : decode cX0_become 3 = .ok (.if_icmp .ne 5, 3) := dk_160 0 5 (dk_at dksX0_become_0 3 rfl rfl)
theorem dX0_become_6 : decode cX0_become 6 = .ok (.iload_n 3, 1) := dk_29 (dk_at dksX0_become_0 6 rfl rfl)
theorem dX0_become_7 : decode cX0_become 7 = .ok (.ireturn, 1) := dk_172 (dk_at dksX0_become_0 7 rfl rfl)
theorem dX0_become_8 : decode cX0_become 8 = .ok (.aload_n 0, 1) := dk_42 (dk_at dksX0_become_0 8 rfl rfl)
theorem dX0_become_9 : decode cX0_become 9 = .ok (.iconst 0, 1) := dk_3 (dk_at dksX0_become_0 9 rfl rfl)
theorem dX0_become_10 : decode cX0_become 10 = .ok (.putfield 132, 3) := dk_181 0 132 (dk_at dksX0_become_0 10 rfl rfl)
theorem dX0_become_13 : decode cX0_become 13 = .ok (.aload_n 0, 1) := dk_42 (dk_at dksX0_become_0 13 rfl rfl)
theorem dX0_become_14 : decode cX0_become 14 = .ok (.getfield 135, 3) := dk_180 0 135 (dk_at dksX0_become_0 14 rfl rfl)
theorem dX0_become_17 : decode cX0_become 17 = .ok (.bipush 40, 2) := dk_16 40 (dk_at dksX0_become_0 17 rfl rfl)
theorem dX0_become_19 : decode cX0_become 19 = .ok (.if_icmp .ne 45, 3) := dk_160 0 45 (dk_at dksX0_become_0 19 rfl rfl)
theorem dX0_become_22 : decode cX0_become 22 = .ok (.iconst 1, 1) := dk_4 (dk_at dksX0_become_0 22 rfl rfl)
theorem dX0_become_23 : decode cX0_become 23 = .ok (.istore 5, 2) := dk_54 5 (dk_at dksX0_become_1 0 rfl rfl)
theorem dX0_become_25 : decode cX0_become 25 = .ok (.iload 5, 2) := dk_21 5 (dk_at dksX0_become_1 2 rfl rfl)
theorem dX0_become_27 : decode cX0_become 27 = .ok (.bipush 40, 2) := dk_16 40 (dk_at dksX0_become_1 4 rfl rfl)
theorem dX0_become_29 : decode cX0_become 29 = .ok (.if_icmp .ge 25, 3) := dk_162 0 25 (dk_at dksX0_become_1 6 rfl rfl)
theorem dX0_become_32 : decode cX0_become 32 = .ok (.aload_n 0, 1) := dk_42 (dk_at dksX0_become_1 9 rfl rfl)
theorem dX0_become_33 : decode cX0_become 33 = .ok (.getfield 23, 3) := dk_180 0 23 (dk_at dksX0_become_1 10 rfl rfl)
theorem dX0_become_36 : decode cX0_become 36 = .ok (.iload 5, 2) := dk_21 5 (dk_at dksX0_become_1 13 rfl rfl)
theorem dX0_become_38 : decode cX0_become 38 = .ok (.iconst 1, 1) := dk_4 (dk_at dksX0_become_1 15 rfl rfl)
theorem dX0_become_39 : decode cX0_become 39 = .ok (.isub, 1) := dk_100 (dk_at dksX0_become_1 16 rfl rfl)
theorem dX0_become_40 : decode cX0_become 40 = .ok (.aload_n 0, 1) := dk_42 (dk_at dksX0_become_1 17 rfl rfl)
theorem dX0_become_41 : decode cX0_become 41 = .ok (.getfield 23, 3) := dk_180 0 23 (dk_at dksX0_become_1 18 rfl rfl)
theorem dX0_become_44 : decode cX0_become 44 = .ok (.iload 5, 2) := dk_21 5 (dk_at dksX0_become_1 21 rfl rfl)
theorem dX0_become_46 : decode cX0_become 46 = .ok (.aaload, 1) := dk_50 (dk_at dksX0_become_1 23 rfl rfl)
theorem dX0_become_47 : decode cX0_become 47 = .ok (.aastore, 1) := dk_83 (dk_at dksX0_become_2 0 rfl rfl)
theorem dX0_become_48 : decode cX0_become 48 = .ok (.iinc 5 1, 3) := dk_132 5 1 (dk_at dksX0_become_2 1 rfl rfl)
theorem dX0_become_51 : decode cX0_become 51 = .ok (.goto (-26), 3) := dk_167 255 230 (dk_at dksX0_become_2 4 rfl rfl)
theorem dX0_become_54 : decode cX0_become 54 = .ok (.aload_n 0, 1) := dk_42 (dk_at dksX0_become_2 7 rfl rfl)
theorem dX0_become_55 : decode cX0_become 55 = .ok (.dup, 1) := dk_89 (dk_at dksX0_become_2 8 rfl rfl)
theorem dX0_become_56 : decode cX0_become 56 = .ok (.getfield 135, 3) := dk_180 0 135 (dk_at dksX0_become_2 9 rfl rfl)
theorem dX0_become_59 : decode cX0_become 59 = .ok (.iconst 1, 1) := dk_4 (dk_at dksX0_become_2 12 rfl rfl)
theorem dX0_become_60 : decode cX0_become 60 = .ok (.isub, 1) := dk_100 (dk_at dksX0_become_2 13 rfl rfl)
theorem dX0_become_61 : decode cX0_become 61 = .ok (.putfield 135, 3) := dk_181 0 135 (dk_at dksX0_become_2 14 rfl rfl)
theorem dX0_become_64 : decode cX0_become 64 = .ok (.aload_n 0, 1) := dk_42 (dk_at dksX0_become_2 17 rfl rfl)
theorem dX0_become_65 : decode cX0_become 65 = .ok (.getfield 23, 3) := dk_180 0 23 (dk_at dksX0_become_2 18 rfl rfl)
theorem dX0_become_68 : decode cX0_become 68 = .ok (.aload_n 0, 1) := dk_42 (dk_at dksX0_become_2 21 rfl rfl)
theorem dX0_become_69 : decode cX0_become 69 = .ok (.getfield 135, 3) := dk_180 0 135 (dk_at dksX0_become_3 0 rfl rfl)
theorem dX0_become_72 : decode cX0_become 72 = .ok (.new 21, 3) := dk_187 0 21 (dk_at dksX0_become_3 3 rfl rfl)
theorem dX0_become_75 : decode cX0_become 75 = .ok (.dup, 1) := dk_89 (dk_at dksX0_become_3 6 rfl rfl)
theorem dX0_become_76 : decode cX0_become 76 = .ok (.iload_n 1, 1) := dk_27 (dk_at dksX0_become_3 7 rfl rfl)
theorem dX0_become_77 : decode cX0_become 77 = .ok (.iload_n 2, 1) := dk_28 (dk_at dksX0_become_3 8 rfl rfl)
theorem dX0_become_78 : decode cX0_become 78 = .ok (.iload_n 3, 1) := dk_29 (dk_at dksX0_become_3 9 rfl rfl)
theorem dX0_become_79 : decode cX0_become 79 = .ok (.iload 4, 2) := dk_21 4 (dk_at dksX0_become_3 10 rfl rfl)
theorem dX0_become_81 : decode cX0_become 81 = .ok (.invokespecial 138, 3) := dk_183 0 138 (dk_at dksX0_become_3 12 rfl rfl)
theorem dX0_become_84 : decode cX0_become 84 = .ok (.aastore, 1) := dk_83 (dk_at dksX0_become_3 15 rfl rfl)
theorem dX0_become_85 : decode cX0_become 85 = .ok (.aload_n 0, 1) := dk_42 (dk_at dksX0_become_3 16 rfl rfl)
theorem dX0_become_86 : decode cX0_become 86 = .ok (.dup, 1) := dk_89 (dk_at dksX0_become_3 17 rfl rfl)
theorem dX0_become_87 : decode cX0_become 87 = .ok (.getfield 135, 3) := dk_180 0 135 (dk_at dksX0_become_3 18 rfl rfl)
theorem dX0_become_90 : decode cX0_become 90 = .ok (.iconst 1, 1) := dk_4 (dk_at dksX0_become_3 21 rfl rfl)
theorem dX0_become_91 : decode cX0_become 91 = .ok (.iadd, 1) := dk_96 (dk_at dksX0_become_3 22 rfl rfl)
theorem dX0_become_92 : decode cX0_become 92 = .ok (.putfield 135, 3) := dk_181 0 135 (dk_at dksX0_become_4 0 rfl rfl)
theorem dX0_become_95 : decode cX0_become 95 = .ok (.aload_n 0, 1) := dk_42 (dk_at dksX0_become_4 3 rfl rfl)
theorem dX0_become_96 : decode cX0_become 96 = .ok (.iload_n 1, 1) := dk_27 (dk_at dksX0_become_4 4 rfl rfl)
theorem dX0_become_97 : decode cX0_become 97 = .ok (.iload_n 2, 1) := dk_28 (dk_at dksX0_become_4 5 rfl rfl)
theorem dX0_become_98 : decode cX0_become 98 = .ok (.iload 4, 2) := dk_21 4 (dk_at dksX0_become_4 6 rfl rfl)
theorem dX0_become_100 : decode cX0_become 100 = .ok (.invokevirtual 141, 3) := dk_182 0 141 (dk_at dksX0_become_4 8 rfl rfl)
theorem dX0_become_103 : decode cX0_become 103 = .ok (.iload_n 3, 1) := dk_29 (dk_at dksX0_become_4 11 rfl rfl)
theorem dX0_become_104 : decode cX0_become 104 = .ok (.ireturn, 1) := dk_172 (dk_at dksX0_become_4 12 rfl rfl)
abbrev cX0_of : ByteArray := prog_1_method_18_code
def yX0_of : MethodName := ⟨RX0, "of", "(II)I"⟩
def dkwX0_of_0 : List UInt8 := [42, 27, 28, 182, 0, 163, 153, 0, 12, 42, 27, 28, 182, 0, 169, 167, 0, 5, 18, 177, 172]
abbrev dktX0_of_0 : List UInt8 := dkwX0_of_0 ++ []
theorem dksX0_of_0 : cX0_of.data.toList.drop 0 = dktX0_of_0 := by decide +kernel
theorem dX0_of_0 : decode cX0_of 0 = .ok (.aload_n 0, 1) := dk_42 (dk_at dksX0_of_0 0 rfl rfl)
theorem dX0_of_1 : decode cX0_of 1 = .ok (.iload_n 1, 1) := dk_27 (dk_at dksX0_of_0 1 rfl rfl)
theorem dX0_of_2 : decode cX0_of 2 = .ok (.iload_n 2, 1) := dk_28 (dk_at dksX0_of_0 2 rfl rfl)
theorem dX0_of_3 : decode cX0_of 3 = .ok (.invokevirtual 163, 3) := dk_182 0 163 (dk_at dksX0_of_0 3 rfl rfl)
theorem dX0_of_6 : decode cX0_of 6 = .ok (.ifCond .eq 12, 3) := dk_153 0 12 (dk_at dksX0_of_0 6 rfl rfl)
theorem dX0_of_9 : decode cX0_of 9 = .ok (.aload_n 0, 1) := dk_42 (dk_at dksX0_of_0 9 rfl rfl)
theorem dX0_of_10 : decode cX0_of 10 = .ok (.iload_n 1, 1) := dk_27 (dk_at dksX0_of_0 10 rfl rfl)
theorem dX0_of_11 : decode cX0_of 11 = .ok (.iload_n 2, 1) := dk_28 (dk_at dksX0_of_0 11 rfl rfl)
theorem dX0_of_12 : decode cX0_of 12 = .ok (.invokevirtual 169, 3) := dk_182 0 169 (dk_at dksX0_of_0 12 rfl rfl)
theorem dX0_of_15 : decode cX0_of 15 = .ok (.goto 5, 3) := dk_167 0 5 (dk_at dksX0_of_0 15 rfl rfl)
theorem dX0_of_18 : decode cX0_of 18 = .ok (.ldc 177, 2) := dk_18 177 (dk_at dksX0_of_0 18 rfl rfl)
theorem dX0_of_20 : decode cX0_of 20 = .ok (.ireturn, 1) := dk_172 (dk_at dksX0_of_0 20 rfl rfl)
abbrev cX0_feed : ByteArray := prog_1_method_19_code
def yX0_feed : MethodName := ⟨RX0, "feed", "(I)I"⟩
def dkwX0_feed_2 : List UInt8 := [180, 0, 178, 172]
abbrev dktX0_feed_2 : List UInt8 := dkwX0_feed_2 ++ []
def dkwX0_feed_1 : List UInt8 := [172, 42, 180, 0, 27, 42, 180, 0, 178, 27, 145, 84, 42, 89, 180, 0, 178, 4, 96, 181, 0, 178, 42]
abbrev dktX0_feed_1 : List UInt8 := dkwX0_feed_1 ++ dktX0_feed_2
def dkwX0_feed_0 : List UInt8 := [27, 3, 17, 0, 255, 184, 0, 81, 154, 0, 5, 2, 172, 42, 180, 0, 178, 16, 120, 160, 0, 6, 16, 253]
abbrev dktX0_feed_0 : List UInt8 := dkwX0_feed_0 ++ dktX0_feed_1
theorem dksX0_feed_0 : cX0_feed.data.toList.drop 0 = dktX0_feed_0 := by decide +kernel
theorem dksX0_feed_1 : cX0_feed.data.toList.drop 24 = dktX0_feed_1 := dk_seg dksX0_feed_0 24 rfl rfl
theorem dksX0_feed_2 : cX0_feed.data.toList.drop 47 = dktX0_feed_2 := dk_seg dksX0_feed_1 23 rfl rfl
theorem dX0_feed_0 : decode cX0_feed 0 = .ok (.iload_n 1, 1) := dk_27 (dk_at dksX0_feed_0 0 rfl rfl)
theorem dX0_feed_1 : decode cX0_feed 1 = .ok (.iconst 0, 1) := dk_3 (dk_at dksX0_feed_0 1 rfl rfl)
theorem dX0_feed_2 : decode cX0_feed 2 = .ok (.sipush 255, 3) := dk_17 0 255 (dk_at dksX0_feed_0 2 rfl rfl)
theorem dX0_feed_5 : decode cX0_feed 5 = .ok (.invokestatic 81, 3) := dk_184 0 81 (dk_at dksX0_feed_0 5 rfl rfl)
theorem dX0_feed_8 : decode cX0_feed 8 = .ok (.ifCond .ne 5, 3) := dk_154 0 5 (dk_at dksX0_feed_0 8 rfl rfl)
theorem dX0_feed_11 : decode cX0_feed 11 = .ok (.iconst (-1), 1) := dk_2 (dk_at dksX0_feed_0 11 rfl rfl)
theorem dX0_feed_12 : decode cX0_feed 12 = .ok (.ireturn, 1) := dk_172 (dk_at dksX0_feed_0 12 rfl rfl)
theorem dX0_feed_13 : decode cX0_feed 13 = .ok (.aload_n 0, 1) := dk_42 (dk_at dksX0_feed_0 13 rfl rfl)
theorem dX0_feed_14 : decode cX0_feed 14 = .ok (.getfield 178, 3) := dk_180 0 178 (dk_at dksX0_feed_0 14 rfl rfl)
theorem dX0_feed_17 : decode cX0_feed 17 = .ok (.bipush 120, 2) := dk_16 120 (dk_at dksX0_feed_0 17 rfl rfl)
theorem dX0_feed_19 : decode cX0_feed 19 = .ok (.if_icmp .ne 6, 3) := dk_160 0 6 (dk_at dksX0_feed_0 19 rfl rfl)
theorem dX0_feed_22 : decode cX0_feed 22 = .ok (.bipush (-3), 2) := dk_16 253 (dk_at dksX0_feed_0 22 rfl rfl)
theorem dX0_feed_24 : decode cX0_feed 24 = .ok (.ireturn, 1) := dk_172 (dk_at dksX0_feed_1 0 rfl rfl)
theorem dX0_feed_25 : decode cX0_feed 25 = .ok (.aload_n 0, 1) := dk_42 (dk_at dksX0_feed_1 1 rfl rfl)
theorem dX0_feed_26 : decode cX0_feed 26 = .ok (.getfield 27, 3) := dk_180 0 27 (dk_at dksX0_feed_1 2 rfl rfl)
theorem dX0_feed_29 : decode cX0_feed 29 = .ok (.aload_n 0, 1) := dk_42 (dk_at dksX0_feed_1 5 rfl rfl)
theorem dX0_feed_30 : decode cX0_feed 30 = .ok (.getfield 178, 3) := dk_180 0 178 (dk_at dksX0_feed_1 6 rfl rfl)
theorem dX0_feed_33 : decode cX0_feed 33 = .ok (.iload_n 1, 1) := dk_27 (dk_at dksX0_feed_1 9 rfl rfl)
theorem dX0_feed_34 : decode cX0_feed 34 = .ok (.i2b, 1) := dk_145 (dk_at dksX0_feed_1 10 rfl rfl)
theorem dX0_feed_35 : decode cX0_feed 35 = .ok (.bastore, 1) := dk_84 (dk_at dksX0_feed_1 11 rfl rfl)
theorem dX0_feed_36 : decode cX0_feed 36 = .ok (.aload_n 0, 1) := dk_42 (dk_at dksX0_feed_1 12 rfl rfl)
theorem dX0_feed_37 : decode cX0_feed 37 = .ok (.dup, 1) := dk_89 (dk_at dksX0_feed_1 13 rfl rfl)
theorem dX0_feed_38 : decode cX0_feed 38 = .ok (.getfield 178, 3) := dk_180 0 178 (dk_at dksX0_feed_1 14 rfl rfl)
theorem dX0_feed_41 : decode cX0_feed 41 = .ok (.iconst 1, 1) := dk_4 (dk_at dksX0_feed_1 17 rfl rfl)
theorem dX0_feed_42 : decode cX0_feed 42 = .ok (.iadd, 1) := dk_96 (dk_at dksX0_feed_1 18 rfl rfl)
theorem dX0_feed_43 : decode cX0_feed 43 = .ok (.putfield 178, 3) := dk_181 0 178 (dk_at dksX0_feed_1 19 rfl rfl)
theorem dX0_feed_46 : decode cX0_feed 46 = .ok (.aload_n 0, 1) := dk_42 (dk_at dksX0_feed_1 22 rfl rfl)
theorem dX0_feed_47 : decode cX0_feed 47 = .ok (.getfield 178, 3) := dk_180 0 178 (dk_at dksX0_feed_2 0 rfl rfl)
theorem dX0_feed_50 : decode cX0_feed 50 = .ok (.ireturn, 1) := dk_172 (dk_at dksX0_feed_2 3 rfl rfl)
abbrev cX0_law : ByteArray := prog_1_method_20_code
def yX0_law : MethodName := ⟨RX0, "law", "()I"⟩
def dkwX0_law_1 : List UInt8 := [155, 0, 11, 16, 156, 43, 180, 0, 190, 100, 172, 42, 44, 181, 0, 193, 4, 172]
abbrev dktX0_law_1 : List UInt8 := dkwX0_law_1 ++ []
def dkwX0_law_0 : List UInt8 := [187, 0, 181, 89, 42, 183, 0, 183, 76, 43, 182, 0, 186, 77, 42, 3, 181, 0, 178, 43, 180, 0, 190]
abbrev dktX0_law_0 : List UInt8 := dkwX0_law_0 ++ dktX0_law_1
theorem dksX0_law_0 : cX0_law.data.toList.drop 0 = dktX0_law_0 := by decide +kernel
theorem dksX0_law_1 : cX0_law.data.toList.drop 23 = dktX0_law_1 := dk_seg dksX0_law_0 23 rfl rfl
theorem dX0_law_0 : decode cX0_law 0 = .ok (.new 181, 3) := dk_187 0 181 (dk_at dksX0_law_0 0 rfl rfl)
theorem dX0_law_3 : decode cX0_law 3 = .ok (.dup, 1) := dk_89 (dk_at dksX0_law_0 3 rfl rfl)
theorem dX0_law_4 : decode cX0_law 4 = .ok (.aload_n 0, 1) := dk_42 (dk_at dksX0_law_0 4 rfl rfl)
theorem dX0_law_5 : decode cX0_law 5 = .ok (.invokespecial 183, 3) := dk_183 0 183 (dk_at dksX0_law_0 5 rfl rfl)
theorem dX0_law_8 : decode cX0_law 8 = .ok (.astore_n 1, 1) := dk_76 (dk_at dksX0_law_0 8 rfl rfl)
theorem dX0_law_9 : decode cX0_law 9 = .ok (.aload_n 1, 1) := dk_43 (dk_at dksX0_law_0 9 rfl rfl)
theorem dX0_law_10 : decode cX0_law 10 = .ok (.invokevirtual 186, 3) := dk_182 0 186 (dk_at dksX0_law_0 10 rfl rfl)
theorem dX0_law_13 : decode cX0_law 13 = .ok (.astore_n 2, 1) := dk_77 (dk_at dksX0_law_0 13 rfl rfl)
theorem dX0_law_14 : decode cX0_law 14 = .ok (.aload_n 0, 1) := dk_42 (dk_at dksX0_law_0 14 rfl rfl)
theorem dX0_law_15 : decode cX0_law 15 = .ok (.iconst 0, 1) := dk_3 (dk_at dksX0_law_0 15 rfl rfl)
theorem dX0_law_16 : decode cX0_law 16 = .ok (.putfield 178, 3) := dk_181 0 178 (dk_at dksX0_law_0 16 rfl rfl)
theorem dX0_law_19 : decode cX0_law 19 = .ok (.aload_n 1, 1) := dk_43 (dk_at dksX0_law_0 19 rfl rfl)
theorem dX0_law_20 : decode cX0_law 20 = .ok (.getfield 190, 3) := dk_180 0 190 (dk_at dksX0_law_0 20 rfl rfl)
theorem dX0_law_23 : decode cX0_law 23 = .ok (.ifCond .lt 11, 3) := dk_155 0 11 (dk_at dksX0_law_1 0 rfl rfl)
theorem dX0_law_26 : decode cX0_law 26 = .ok (.bipush (-100), 2) := dk_16 156 (dk_at dksX0_law_1 3 rfl rfl)
theorem dX0_law_28 : decode cX0_law 28 = .ok (.aload_n 1, 1) := dk_43 (dk_at dksX0_law_1 5 rfl rfl)
theorem dX0_law_29 : decode cX0_law 29 = .ok (.getfield 190, 3) := dk_180 0 190 (dk_at dksX0_law_1 6 rfl rfl)
theorem dX0_law_32 : decode cX0_law 32 = .ok (.isub, 1) := dk_100 (dk_at dksX0_law_1 9 rfl rfl)
theorem dX0_law_33 : decode cX0_law 33 = .ok (.ireturn, 1) := dk_172 (dk_at dksX0_law_1 10 rfl rfl)
theorem dX0_law_34 : decode cX0_law 34 = .ok (.aload_n 0, 1) := dk_42 (dk_at dksX0_law_1 11 rfl rfl)
theorem dX0_law_35 : decode cX0_law 35 = .ok (.aload_n 2, 1) := dk_44 (dk_at dksX0_law_1 12 rfl rfl)
theorem dX0_law_36 : decode cX0_law 36 = .ok (.putfield 193, 3) := dk_181 0 193 (dk_at dksX0_law_1 13 rfl rfl)
theorem dX0_law_39 : decode cX0_law 39 = .ok (.iconst 1, 1) := dk_4 (dk_at dksX0_law_1 16 rfl rfl)
theorem dX0_law_40 : decode cX0_law 40 = .ok (.ireturn, 1) := dk_172 (dk_at dksX0_law_1 17 rfl rfl)
abbrev cX0_comes : ByteArray := prog_1_method_26_code
def yX0_comes : MethodName := ⟨RX0, "comes", "(I)I"⟩
def dkwX0_comes_0 : List UInt8 := [42, 27, 182, 0, 156, 154, 0, 5, 2, 172, 42, 182, 0, 252, 42, 182, 0, 255, 42, 27, 182, 1, 2, 172]
abbrev dktX0_comes_0 : List UInt8 := dkwX0_comes_0 ++ []
theorem dksX0_comes_0 : cX0_comes.data.toList.drop 0 = dktX0_comes_0 := by decide +kernel
theorem dX0_comes_0 : decode cX0_comes 0 = .ok (.aload_n 0, 1) := dk_42 (dk_at dksX0_comes_0 0 rfl rfl)
theorem dX0_comes_1 : decode cX0_comes 1 = .ok (.iload_n 1, 1) := dk_27 (dk_at dksX0_comes_0 1 rfl rfl)
theorem dX0_comes_2 : decode cX0_comes 2 = .ok (.invokevirtual 156, 3) := dk_182 0 156 (dk_at dksX0_comes_0 2 rfl rfl)
theorem dX0_comes_5 : decode cX0_comes 5 = .ok (.ifCond .ne 5, 3) := dk_154 0 5 (dk_at dksX0_comes_0 5 rfl rfl)
theorem dX0_comes_8 : decode cX0_comes 8 = .ok (.iconst (-1), 1) := dk_2 (dk_at dksX0_comes_0 8 rfl rfl)
theorem dX0_comes_9 : decode cX0_comes 9 = .ok (.ireturn, 1) := dk_172 (dk_at dksX0_comes_0 9 rfl rfl)
theorem dX0_comes_10 : decode cX0_comes 10 = .ok (.aload_n 0, 1) := dk_42 (dk_at dksX0_comes_0 10 rfl rfl)
theorem dX0_comes_11 : decode cX0_comes 11 = .ok (.invokevirtual 252, 3) := dk_182 0 252 (dk_at dksX0_comes_0 11 rfl rfl)
theorem dX0_comes_14 : decode cX0_comes 14 = .ok (.aload_n 0, 1) := dk_42 (dk_at dksX0_comes_0 14 rfl rfl)
theorem dX0_comes_15 : decode cX0_comes 15 = .ok (.invokevirtual 255, 3) := dk_182 0 255 (dk_at dksX0_comes_0 15 rfl rfl)
theorem dX0_comes_18 : decode cX0_comes 18 = .ok (.aload_n 0, 1) := dk_42 (dk_at dksX0_comes_0 18 rfl rfl)
theorem dX0_comes_19 : decode cX0_comes 19 = .ok (.iload_n 1, 1) := dk_27 (dk_at dksX0_comes_0 19 rfl rfl)
theorem dX0_comes_20 : decode cX0_comes 20 = .ok (.invokevirtual 258, 3) := dk_182 1 2 (dk_at dksX0_comes_0 20 rfl rfl)
theorem dX0_comes_23 : decode cX0_comes 23 = .ok (.ireturn, 1) := dk_172 (dk_at dksX0_comes_0 23 rfl rfl)
abbrev cX0_layNow : ByteArray := prog_1_method_22_code
def yX0_layNow : MethodName := ⟨RX0, "layNow", "()V"⟩
def dkwX0_layNow_2 : List UInt8 := [180, 0, 129, 181, 0, 215, 42, 4, 42, 180, 0, 85, 120, 4, 100, 181, 0, 218, 42, 3, 181, 0, 221, 177]
abbrev dktX0_layNow_2 : List UInt8 := dkwX0_layNow_2 ++ []
def dkwX0_layNow_1 : List UInt8 := [79, 42, 180, 0, 42, 27, 42, 180, 0, 13, 27, 50, 180, 0, 126, 79, 132, 1, 1, 167, 255, 215, 42, 42]
abbrev dktX0_layNow_1 : List UInt8 := dkwX0_layNow_1 ++ dktX0_layNow_2
def dkwX0_layNow_0 : List UInt8 := [3, 60, 27, 42, 180, 0, 85, 162, 0, 39, 42, 180, 0, 38, 27, 42, 180, 0, 13, 27, 50, 180, 0, 123]
abbrev dktX0_layNow_0 : List UInt8 := dkwX0_layNow_0 ++ dktX0_layNow_1
theorem dksX0_layNow_0 : cX0_layNow.data.toList.drop 0 = dktX0_layNow_0 := by decide +kernel
theorem dksX0_layNow_1 : cX0_layNow.data.toList.drop 24 = dktX0_layNow_1 := dk_seg dksX0_layNow_0 24 rfl rfl
theorem dksX0_layNow_2 : cX0_layNow.data.toList.drop 48 = dktX0_layNow_2 := dk_seg dksX0_layNow_1 24 rfl rfl
theorem dX0_layNow_0 : decode cX0_layNow 0 = .ok (.iconst 0, 1) := dk_3 (dk_at dksX0_layNow_0 0 rfl rfl)
theorem dX0_layNow_1 : decode cX0_layNow 1 = .ok (.istore_n 1, 1) := dk_60 (dk_at dksX0_layNow_0 1 rfl rfl)
theorem dX0_layNow_2 : decode cX0_layNow 2 = .ok (.iload_n 1, 1) := dk_27 (dk_at dksX0_layNow_0 2 rfl rfl)
theorem dX0_layNow_3 : decode cX0_layNow 3 = .ok (.aload_n 0, 1) := dk_42 (dk_at dksX0_layNow_0 3 rfl rfl)
theorem dX0_layNow_4 : decode cX0_layNow 4 = .ok (.getfield 85, 3) := dk_180 0 85 (dk_at dksX0_layNow_0 4 rfl rfl)
theorem dX0_layNow_7 : decode cX0_layNow 7 = .ok (.if_icmp .ge 39, 3) := dk_162 0 39 (dk_at dksX0_layNow_0 7 rfl rfl)
theorem dX0_layNow_10 : decode cX0_layNow 10 = .ok (.aload_n 0, 1) := dk_42 (dk_at dksX0_layNow_0 10 rfl rfl)
theorem dX0_layNow_11 : decode cX0_layNow 11 = .ok (.getfield 38, 3) := dk_180 0 38 (dk_at dksX0_layNow_0 11 rfl rfl)
theorem dX0_layNow_14 : decode cX0_layNow 14 = .ok (.iload_n 1, 1) := dk_27 (dk_at dksX0_layNow_0 14 rfl rfl)
theorem dX0_layNow_15 : decode cX0_layNow 15 = .ok (.aload_n 0, 1) := dk_42 (dk_at dksX0_layNow_0 15 rfl rfl)
theorem dX0_layNow_16 : decode cX0_layNow 16 = .ok (.getfield 13, 3) := dk_180 0 13 (dk_at dksX0_layNow_0 16 rfl rfl)
theorem dX0_layNow_19 : decode cX0_layNow 19 = .ok (.iload_n 1, 1) := dk_27 (dk_at dksX0_layNow_0 19 rfl rfl)
theorem dX0_layNow_20 : decode cX0_layNow 20 = .ok (.aaload, 1) := dk_50 (dk_at dksX0_layNow_0 20 rfl rfl)
theorem dX0_layNow_21 : decode cX0_layNow 21 = .ok (.getfield 123, 3) := dk_180 0 123 (dk_at dksX0_layNow_0 21 rfl rfl)
theorem dX0_layNow_24 : decode cX0_layNow 24 = .ok (.iastore, 1) := dk_79 (dk_at dksX0_layNow_1 0 rfl rfl)
theorem dX0_layNow_25 : decode cX0_layNow 25 = .ok (.aload_n 0, 1) := dk_42 (dk_at dksX0_layNow_1 1 rfl rfl)
theorem dX0_layNow_26 : decode cX0_layNow 26 = .ok (.getfield 42, 3) := dk_180 0 42 (dk_at dksX0_layNow_1 2 rfl rfl)
theorem dX0_layNow_29 : decode cX0_layNow 29 = .ok (.iload_n 1, 1) := dk_27 (dk_at dksX0_layNow_1 5 rfl rfl)
theorem dX0_layNow_30 : decode cX0_layNow 30 = .ok (.aload_n 0, 1) := dk_42 (dk_at dksX0_layNow_1 6 rfl rfl)
theorem dX0_layNow_31 : decode cX0_layNow 31 = .ok (.getfield 13, 3) := dk_180 0 13 (dk_at dksX0_layNow_1 7 rfl rfl)
theorem dX0_layNow_34 : decode cX0_layNow 34 = .ok (.iload_n 1, 1) := dk_27 (dk_at dksX0_layNow_1 10 rfl rfl)
theorem dX0_layNow_35 : decode cX0_layNow 35 = .ok (.aaload, 1) := dk_50 (dk_at dksX0_layNow_1 11 rfl rfl)
theorem dX0_layNow_36 : decode cX0_layNow 36 = .ok (.getfield 126, 3) := dk_180 0 126 (dk_at dksX0_layNow_1 12 rfl rfl)
theorem dX0_layNow_39 : decode cX0_layNow 39 = .ok (.iastore, 1) := dk_79 (dk_at dksX0_layNow_1 15 rfl rfl)
theorem dX0_layNow_40 : decode cX0_layNow 40 = .ok (.iinc 1 1, 3) := dk_132 1 1 (dk_at dksX0_layNow_1 16 rfl rfl)
theorem dX0_layNow_43 : decode cX0_layNow 43 = .ok (.goto (-41), 3) := dk_167 255 215 (dk_at dksX0_layNow_1 19 rfl rfl)
theorem dX0_layNow_46 : decode cX0_layNow 46 = .ok (.aload_n 0, 1) := dk_42 (dk_at dksX0_layNow_1 22 rfl rfl)
theorem dX0_layNow_47 : decode cX0_layNow 47 = .ok (.aload_n 0, 1) := dk_42 (dk_at dksX0_layNow_1 23 rfl rfl)
theorem dX0_layNow_48 : decode cX0_layNow 48 = .ok (.getfield 129, 3) := dk_180 0 129 (dk_at dksX0_layNow_2 0 rfl rfl)
theorem dX0_layNow_51 : decode cX0_layNow 51 = .ok (.putfield 215, 3) := dk_181 0 215 (dk_at dksX0_layNow_2 3 rfl rfl)
theorem dX0_layNow_54 : decode cX0_layNow 54 = .ok (.aload_n 0, 1) := dk_42 (dk_at dksX0_layNow_2 6 rfl rfl)
theorem dX0_layNow_55 : decode cX0_layNow 55 = .ok (.iconst 1, 1) := dk_4 (dk_at dksX0_layNow_2 7 rfl rfl)
theorem dX0_layNow_56 : decode cX0_layNow 56 = .ok (.aload_n 0, 1) := dk_42 (dk_at dksX0_layNow_2 8 rfl rfl)
theorem dX0_layNow_57 : decode cX0_layNow 57 = .ok (.getfield 85, 3) := dk_180 0 85 (dk_at dksX0_layNow_2 9 rfl rfl)
theorem dX0_layNow_60 : decode cX0_layNow 60 = .ok (.ishl, 1) := dk_120 (dk_at dksX0_layNow_2 12 rfl rfl)
theorem dX0_layNow_61 : decode cX0_layNow 61 = .ok (.iconst 1, 1) := dk_4 (dk_at dksX0_layNow_2 13 rfl rfl)
theorem dX0_layNow_62 : decode cX0_layNow 62 = .ok (.isub, 1) := dk_100 (dk_at dksX0_layNow_2 14 rfl rfl)
theorem dX0_layNow_63 : decode cX0_layNow 63 = .ok (.putfield 218, 3) := dk_181 0 218 (dk_at dksX0_layNow_2 15 rfl rfl)
theorem dX0_layNow_66 : decode cX0_layNow 66 = .ok (.aload_n 0, 1) := dk_42 (dk_at dksX0_layNow_2 18 rfl rfl)
theorem dX0_layNow_67 : decode cX0_layNow 67 = .ok (.iconst 0, 1) := dk_3 (dk_at dksX0_layNow_2 19 rfl rfl)
theorem dX0_layNow_68 : decode cX0_layNow 68 = .ok (.putfield 221, 3) := dk_181 0 221 (dk_at dksX0_layNow_2 20 rfl rfl)
theorem dX0_layNow_71 : decode cX0_layNow 71 = .ok (.return_, 1) := dk_177 (dk_at dksX0_layNow_2 23 rfl rfl)
abbrev cX0_countCarers : ByteArray := prog_1_method_24_code
def yX0_countCarers : MethodName := ⟨RX0, "countCarers", "()V"⟩
def dkwX0_countCarers_3 : List UInt8 := [167, 255, 210, 177]
abbrev dktX0_countCarers_3 : List UInt8 := dkwX0_countCarers_3 ++ []
def dkwX0_countCarers_2 : List UInt8 := [27, 46, 155, 0, 18, 42, 180, 0, 48, 42, 180, 0, 42, 27, 46, 92, 46, 4, 96, 79, 132, 1, 1]
abbrev dktX0_countCarers_2 : List UInt8 := dkwX0_countCarers_2 ++ dktX0_countCarers_3
def dkwX0_countCarers_1 : List UInt8 := [60, 27, 42, 180, 0, 85, 162, 0, 44, 42, 180, 0, 218, 27, 184, 0, 230, 153, 0, 27, 42, 180, 0, 42]
abbrev dktX0_countCarers_1 : List UInt8 := dkwX0_countCarers_1 ++ dktX0_countCarers_2
def dkwX0_countCarers_0 : List UInt8 := [3, 60, 27, 42, 180, 0, 85, 162, 0, 16, 42, 180, 0, 48, 27, 3, 79, 132, 1, 1, 167, 255, 238, 3]
abbrev dktX0_countCarers_0 : List UInt8 := dkwX0_countCarers_0 ++ dktX0_countCarers_1
theorem dksX0_countCarers_0 : cX0_countCarers.data.toList.drop 0 = dktX0_countCarers_0 := by decide +kernel
theorem dksX0_countCarers_1 : cX0_countCarers.data.toList.drop 24 = dktX0_countCarers_1 := dk_seg dksX0_countCarers_0 24 rfl rfl
theorem dksX0_countCarers_2 : cX0_countCarers.data.toList.drop 48 = dktX0_countCarers_2 := dk_seg dksX0_countCarers_1 24 rfl rfl
theorem dksX0_countCarers_3 : cX0_countCarers.data.toList.drop 71 = dktX0_countCarers_3 := dk_seg dksX0_countCarers_2 23 rfl rfl
theorem dX0_countCarers_0 : decode cX0_countCarers 0 = .ok (.iconst 0, 1) := dk_3 (dk_at dksX0_countCarers_0 0 rfl rfl)
theorem dX0_countCarers_1 : decode cX0_countCarers 1 = .ok (.istore_n 1, 1) := dk_60 (dk_at dksX0_countCarers_0 1 rfl rfl)
theorem dX0_countCarers_2 : decode cX0_countCarers 2 = .ok (.iload_n 1, 1) := dk_27 (dk_at dksX0_countCarers_0 2 rfl rfl)
theorem dX0_countCarers_3 : decode cX0_countCarers 3 = .ok (.aload_n 0, 1) := dk_42 (dk_at dksX0_countCarers_0 3 rfl rfl)
theorem dX0_countCarers_4 : decode cX0_countCarers 4 = .ok (.getfield 85, 3) := dk_180 0 85 (dk_at dksX0_countCarers_0 4 rfl rfl)
theorem dX0_countCarers_7 : decode cX0_countCarers 7 = .ok (.if_icmp .ge 16, 3) := dk_162 0 16 (dk_at dksX0_countCarers_0 7 rfl rfl)
theorem dX0_countCarers_10 : decode cX0_countCarers 10 = .ok (.aload_n 0, 1) := dk_42 (dk_at dksX0_countCarers_0 10 rfl rfl)
theorem dX0_countCarers_11 : decode cX0_countCarers 11 = .ok (.getfield 48, 3) := dk_180 0 48 (dk_at dksX0_countCarers_0 11 rfl rfl)
theorem dX0_countCarers_14 : decode cX0_countCarers 14 = .ok (.iload_n 1, 1) := dk_27 (dk_at dksX0_countCarers_0 14 rfl rfl)
theorem dX0_countCarers_15 : decode cX0_countCarers 15 = .ok (.iconst 0, 1) := dk_3 (dk_at dksX0_countCarers_0 15 rfl rfl)
theorem dX0_countCarers_16 : decode cX0_countCarers 16 = .ok (.iastore, 1) := dk_79 (dk_at dksX0_countCarers_0 16 rfl rfl)
theorem dX0_countCarers_17 : decode cX0_countCarers 17 = .ok (.iinc 1 1, 3) := dk_132 1 1 (dk_at dksX0_countCarers_0 17 rfl rfl)
theorem dX0_countCarers_20 : decode cX0_countCarers 20 = .ok (.goto (-18), 3) := dk_167 255 238 (dk_at dksX0_countCarers_0 20 rfl rfl)
theorem dX0_countCarers_23 : decode cX0_countCarers 23 = .ok (.iconst 0, 1) := dk_3 (dk_at dksX0_countCarers_0 23 rfl rfl)
theorem dX0_countCarers_24 : decode cX0_countCarers 24 = .ok (.istore_n 1, 1) := dk_60 (dk_at dksX0_countCarers_1 0 rfl rfl)
theorem dX0_countCarers_25 : decode cX0_countCarers 25 = .ok (.iload_n 1, 1) := dk_27 (dk_at dksX0_countCarers_1 1 rfl rfl)
theorem dX0_countCarers_26 : decode cX0_countCarers 26 = .ok (.aload_n 0, 1) := dk_42 (dk_at dksX0_countCarers_1 2 rfl rfl)
theorem dX0_countCarers_27 : decode cX0_countCarers 27 = .ok (.getfield 85, 3) := dk_180 0 85 (dk_at dksX0_countCarers_1 3 rfl rfl)
theorem dX0_countCarers_30 : decode cX0_countCarers 30 = .ok (.if_icmp .ge 44, 3) := dk_162 0 44 (dk_at dksX0_countCarers_1 6 rfl rfl)
theorem dX0_countCarers_33 : decode cX0_countCarers 33 = .ok (.aload_n 0, 1) := dk_42 (dk_at dksX0_countCarers_1 9 rfl rfl)
theorem dX0_countCarers_34 : decode cX0_countCarers 34 = .ok (.getfield 218, 3) := dk_180 0 218 (dk_at dksX0_countCarers_1 10 rfl rfl)
theorem dX0_countCarers_37 : decode cX0_countCarers 37 = .ok (.iload_n 1, 1) := dk_27 (dk_at dksX0_countCarers_1 13 rfl rfl)
theorem dX0_countCarers_38 : decode cX0_countCarers 38 = .ok (.invokestatic 230, 3) := dk_184 0 230 (dk_at dksX0_countCarers_1 14 rfl rfl)
theorem dX0_countCarers_41 : decode cX0_countCarers 41 = .ok (.ifCond .eq 27, 3) := dk_153 0 27 (dk_at dksX0_countCarers_1 17 rfl rfl)
theorem dX0_countCarers_44 : decode cX0_countCarers 44 = .ok (.aload_n 0, 1) := dk_42 (dk_at dksX0_countCarers_1 20 rfl rfl)
theorem dX0_countCarers_45 : decode cX0_countCarers 45 = .ok (.getfield 42, 3) := dk_180 0 42 (dk_at dksX0_countCarers_1 21 rfl rfl)
theorem dX0_countCarers_48 : decode cX0_countCarers 48 = .ok (.iload_n 1, 1) := dk_27 (dk_at dksX0_countCarers_2 0 rfl rfl)
theorem dX0_countCarers_49 : decode cX0_countCarers 49 = .ok (.iaload, 1) := dk_46 (dk_at dksX0_countCarers_2 1 rfl rfl)
theorem dX0_countCarers_50 : decode cX0_countCarers 50 = .ok (.ifCond .lt 18, 3) := dk_155 0 18 (dk_at dksX0_countCarers_2 2 rfl rfl)
theorem dX0_countCarers_53 : decode cX0_countCarers 53 = .ok (.aload_n 0, 1) := dk_42 (dk_at dksX0_countCarers_2 5 rfl rfl)
theorem dX0_countCarers_54 : decode cX0_countCarers 54 = .ok (.getfield 48, 3) := dk_180 0 48 (dk_at dksX0_countCarers_2 6 rfl rfl)
theorem dX0_countCarers_57 : decode cX0_countCarers 57 = .ok (.aload_n 0, 1) := dk_42 (dk_at dksX0_countCarers_2 9 rfl rfl)
theorem dX0_countCarers_58 : decode cX0_countCarers 58 = .ok (.getfield 42, 3) := dk_180 0 42 (dk_at dksX0_countCarers_2 10 rfl rfl)
theorem dX0_countCarers_61 : decode cX0_countCarers 61 = .ok (.iload_n 1, 1) := dk_27 (dk_at dksX0_countCarers_2 13 rfl rfl)
theorem dX0_countCarers_62 : decode cX0_countCarers 62 = .ok (.iaload, 1) := dk_46 (dk_at dksX0_countCarers_2 14 rfl rfl)
theorem dX0_countCarers_63 : decode cX0_countCarers 63 = .ok (.dup2, 1) := dk_92 (dk_at dksX0_countCarers_2 15 rfl rfl)
theorem dX0_countCarers_64 : decode cX0_countCarers 64 = .ok (.iaload, 1) := dk_46 (dk_at dksX0_countCarers_2 16 rfl rfl)
theorem dX0_countCarers_65 : decode cX0_countCarers 65 = .ok (.iconst 1, 1) := dk_4 (dk_at dksX0_countCarers_2 17 rfl rfl)
theorem dX0_countCarers_66 : decode cX0_countCarers 66 = .ok (.iadd, 1) := dk_96 (dk_at dksX0_countCarers_2 18 rfl rfl)
theorem dX0_countCarers_67 : decode cX0_countCarers 67 = .ok (.iastore, 1) := dk_79 (dk_at dksX0_countCarers_2 19 rfl rfl)
theorem dX0_countCarers_68 : decode cX0_countCarers 68 = .ok (.iinc 1 1, 3) := dk_132 1 1 (dk_at dksX0_countCarers_2 20 rfl rfl)
theorem dX0_countCarers_71 : decode cX0_countCarers 71 = .ok (.goto (-46), 3) := dk_167 255 210 (dk_at dksX0_countCarers_3 0 rfl rfl)
theorem dX0_countCarers_74 : decode cX0_countCarers 74 = .ok (.return_, 1) := dk_177 (dk_at dksX0_countCarers_3 3 rfl rfl)
abbrev cX0_has : ByteArray := prog_1_method_3_code
def yX0_has : MethodName := ⟨RX0, "has", "(II)Z"⟩
def dkwX0_has_0 : List UInt8 := [26, 27, 122, 4, 126, 4, 160, 0, 7, 4, 167, 0, 4, 3, 172]
abbrev dktX0_has_0 : List UInt8 := dkwX0_has_0 ++ []
theorem dksX0_has_0 : cX0_has.data.toList.drop 0 = dktX0_has_0 := by decide +kernel
theorem dX0_has_0 : decode cX0_has 0 = .ok (.iload_n 0, 1) := dk_26 (dk_at dksX0_has_0 0 rfl rfl)
theorem dX0_has_1 : decode cX0_has 1 = .ok (.iload_n 1, 1) := dk_27 (dk_at dksX0_has_0 1 rfl rfl)
theorem dX0_has_2 : decode cX0_has 2 = .ok (.ishr, 1) := dk_122 (dk_at dksX0_has_0 2 rfl rfl)
theorem dX0_has_3 : decode cX0_has 3 = .ok (.iconst 1, 1) := dk_4 (dk_at dksX0_has_0 3 rfl rfl)
theorem dX0_has_4 : decode cX0_has 4 = .ok (.iand, 1) := dk_126 (dk_at dksX0_has_0 4 rfl rfl)
theorem dX0_has_5 : decode cX0_has 5 = .ok (.iconst 1, 1) := dk_4 (dk_at dksX0_has_0 5 rfl rfl)
theorem dX0_has_6 : decode cX0_has 6 = .ok (.if_icmp .ne 7, 3) := dk_160 0 7 (dk_at dksX0_has_0 6 rfl rfl)
theorem dX0_has_9 : decode cX0_has 9 = .ok (.iconst 1, 1) := dk_4 (dk_at dksX0_has_0 9 rfl rfl)
theorem dX0_has_10 : decode cX0_has 10 = .ok (.goto 4, 3) := dk_167 0 4 (dk_at dksX0_has_0 10 rfl rfl)
theorem dX0_has_13 : decode cX0_has 13 = .ok (.iconst 0, 1) := dk_3 (dk_at dksX0_has_0 13 rfl rfl)
theorem dX0_has_14 : decode cX0_has 14 = .ok (.ireturn, 1) := dk_172 (dk_at dksX0_has_0 14 rfl rfl)
abbrev cX0_comesFrom : ByteArray := prog_1_method_25_code
def yX0_comesFrom : MethodName := ⟨RX0, "comesFrom", "(I)I"⟩
def dkwX0_comesFrom_8 : List UInt8 := [16, 20, 21, 4, 184, 0, 246, 184, 0, 249, 172]
abbrev dktX0_comesFrom_8 : List UInt8 := dkwX0_comesFrom_8 ++ []
def dkwX0_comesFrom_7 : List UInt8 := [27, 46, 79, 42, 180, 0, 34, 180, 0, 239, 16, 116, 42, 180, 0, 215, 79, 42, 182, 0, 242, 54, 4, 3]
abbrev dktX0_comesFrom_7 : List UInt8 := dkwX0_comesFrom_7 ++ dktX0_comesFrom_8
def dkwX0_comesFrom_6 : List UInt8 := [180, 0, 48, 42, 180, 0, 42, 27, 46, 46, 79, 42, 180, 0, 34, 180, 0, 239, 16, 115, 42, 180, 0, 38]
abbrev dktX0_comesFrom_6 : List UInt8 := dkwX0_comesFrom_6 ++ dktX0_comesFrom_7
def dkwX0_comesFrom_5 : List UInt8 := [180, 0, 34, 180, 0, 239, 16, 110, 44, 180, 0, 111, 79, 42, 180, 0, 34, 180, 0, 239, 16, 107, 42]
abbrev dktX0_comesFrom_5 : List UInt8 := dkwX0_comesFrom_5 ++ dktX0_comesFrom_6
def dkwX0_comesFrom_4 : List UInt8 := [16, 103, 42, 180, 0, 13, 27, 50, 180, 0, 108, 79, 42, 180, 0, 34, 180, 0, 239, 16, 100, 29, 79, 42]
abbrev dktX0_comesFrom_4 : List UInt8 := dkwX0_comesFrom_4 ++ dktX0_comesFrom_5
def dkwX0_comesFrom_3 : List UInt8 := [100, 54, 4, 42, 180, 0, 193, 198, 0, 111, 42, 180, 0, 34, 182, 0, 236, 42, 180, 0, 34, 180, 0, 239]
abbrev dktX0_comesFrom_3 : List UInt8 := dkwX0_comesFrom_3 ++ dktX0_comesFrom_4
def dkwX0_comesFrom_2 : List UInt8 := [50, 180, 0, 120, 44, 180, 0, 120, 184, 0, 233, 62, 42, 180, 0, 13, 27, 50, 180, 0, 108, 29, 5, 108]
abbrev dktX0_comesFrom_2 : List UInt8 := dkwX0_comesFrom_2 ++ dktX0_comesFrom_3
def dkwX0_comesFrom_1 : List UInt8 := [27, 46, 154, 0, 5, 3, 172, 42, 180, 0, 13, 42, 180, 0, 42, 27, 46, 50, 77, 42, 180, 0, 13, 27]
abbrev dktX0_comesFrom_1 : List UInt8 := dkwX0_comesFrom_1 ++ dktX0_comesFrom_2
def dkwX0_comesFrom_0 : List UInt8 := [42, 180, 0, 218, 27, 184, 0, 230, 153, 0, 21, 42, 180, 0, 42, 27, 46, 155, 0, 12, 42, 180, 0, 38]
abbrev dktX0_comesFrom_0 : List UInt8 := dkwX0_comesFrom_0 ++ dktX0_comesFrom_1
theorem dksX0_comesFrom_0 : cX0_comesFrom.data.toList.drop 0 = dktX0_comesFrom_0 := by decide +kernel
theorem dksX0_comesFrom_1 : cX0_comesFrom.data.toList.drop 24 = dktX0_comesFrom_1 := dk_seg dksX0_comesFrom_0 24 rfl rfl
theorem dksX0_comesFrom_2 : cX0_comesFrom.data.toList.drop 48 = dktX0_comesFrom_2 := dk_seg dksX0_comesFrom_1 24 rfl rfl
theorem dksX0_comesFrom_3 : cX0_comesFrom.data.toList.drop 72 = dktX0_comesFrom_3 := dk_seg dksX0_comesFrom_2 24 rfl rfl
theorem dksX0_comesFrom_4 : cX0_comesFrom.data.toList.drop 96 = dktX0_comesFrom_4 := dk_seg dksX0_comesFrom_3 24 rfl rfl
theorem dksX0_comesFrom_5 : cX0_comesFrom.data.toList.drop 120 = dktX0_comesFrom_5 := dk_seg dksX0_comesFrom_4 24 rfl rfl
theorem dksX0_comesFrom_6 : cX0_comesFrom.data.toList.drop 143 = dktX0_comesFrom_6 := dk_seg dksX0_comesFrom_5 23 rfl rfl
theorem dksX0_comesFrom_7 : cX0_comesFrom.data.toList.drop 167 = dktX0_comesFrom_7 := dk_seg dksX0_comesFrom_6 24 rfl rfl
theorem dksX0_comesFrom_8 : cX0_comesFrom.data.toList.drop 191 = dktX0_comesFrom_8 := dk_seg dksX0_comesFrom_7 24 rfl rfl
theorem dX0_comesFrom_0 : decode cX0_comesFrom 0 = .ok (.aload_n 0, 1) := dk_42 (dk_at dksX0_comesFrom_0 0 rfl rfl)
theorem dX0_comesFrom_1 : decode cX0_comesFrom 1 = .ok (.getfield 218, 3) := dk_180 0 218 (dk_at dksX0_comesFrom_0 1 rfl rfl)
theorem dX0_comesFrom_4 : decode cX0_comesFrom 4 = .ok (.iload_n 1, 1) := dk_27 (dk_at dksX0_comesFrom_0 4 rfl rfl)
theorem dX0_comesFrom_5 : decode cX0_comesFrom 5 = .ok (.invokestatic 230, 3) := dk_184 0 230 (dk_at dksX0_comesFrom_0 5 rfl rfl)
theorem dX0_comesFrom_8 : decode cX0_comesFrom 8 = .ok (.ifCond .eq 21, 3) := dk_153 0 21 (dk_at dksX0_comesFrom_0 8 rfl rfl)
theorem dX0_comesFrom_11 : decode cX0_comesFrom 11 = .ok (.aload_n 0, 1) := dk_42 (dk_at dksX0_comesFrom_0 11 rfl rfl)
theorem dX0_comesFrom_12 : decode cX0_comesFrom 12 = .ok (.getfield 42, 3) := dk_180 0 42 (dk_at dksX0_comesFrom_0 12 rfl rfl)
theorem dX0_comesFrom_15 : decode cX0_comesFrom 15 = .ok (.iload_n 1, 1) := dk_27 (dk_at dksX0_comesFrom_0 15 rfl rfl)
theorem dX0_comesFrom_16 : decode cX0_comesFrom 16 = .ok (.iaload, 1) := dk_46 (dk_at dksX0_comesFrom_0 16 rfl rfl)
theorem dX0_comesFrom_17 : decode cX0_comesFrom 17 = .ok (.ifCond .lt 12, 3) := dk_155 0 12 (dk_at dksX0_comesFrom_0 17 rfl rfl)
theorem dX0_comesFrom_20 : decode cX0_comesFrom 20 = .ok (.aload_n 0, 1) := dk_42 (dk_at dksX0_comesFrom_0 20 rfl rfl)
theorem dX0_comesFrom_21 : decode cX0_comesFrom 21 = .ok (.getfield 38, 3) := dk_180 0 38 (dk_at dksX0_comesFrom_0 21 rfl rfl)
theorem dX0_comesFrom_24 : decode cX0_comesFrom 24 = .ok (.iload_n 1, 1) := dk_27 (dk_at dksX0_comesFrom_1 0 rfl rfl)
theorem dX0_comesFrom_25 : decode cX0_comesFrom 25 = .ok (.iaload, 1) := dk_46 (dk_at dksX0_comesFrom_1 1 rfl rfl)
theorem dX0_comesFrom_26 : decode cX0_comesFrom 26 = .ok (.ifCond .ne 5, 3) := dk_154 0 5 (dk_at dksX0_comesFrom_1 2 rfl rfl)
theorem dX0_comesFrom_29 : decode cX0_comesFrom 29 = .ok (.iconst 0, 1) := dk_3 (dk_at dksX0_comesFrom_1 5 rfl rfl)
theorem dX0_comesFrom_30 : decode cX0_comesFrom 30 = .ok (.ireturn, 1) := dk_172 (dk_at dksX0_comesFrom_1 6 rfl rfl)
theorem dX0_comesFrom_31 : decode cX0_comesFrom 31 = .ok (.aload_n 0, 1) := dk_42 (dk_at dksX0_comesFrom_1 7 rfl rfl)
theorem dX0_comesFrom_32 : decode cX0_comesFrom 32 = .ok (.getfield 13, 3) := dk_180 0 13 (dk_at dksX0_comesFrom_1 8 rfl rfl)
theorem dX0_comesFrom_35 : decode cX0_comesFrom 35 = .ok (.aload_n 0, 1) := dk_42 (dk_at dksX0_comesFrom_1 11 rfl rfl)
theorem dX0_comesFrom_36 : decode cX0_comesFrom 36 = .ok (.getfield 42, 3) := dk_180 0 42 (dk_at dksX0_comesFrom_1 12 rfl rfl)
theorem dX0_comesFrom_39 : decode cX0_comesFrom 39 = .ok (.iload_n 1, 1) := dk_27 (dk_at dksX0_comesFrom_1 15 rfl rfl)
theorem dX0_comesFrom_40 : decode cX0_comesFrom 40 = .ok (.iaload, 1) := dk_46 (dk_at dksX0_comesFrom_1 16 rfl rfl)
theorem dX0_comesFrom_41 : decode cX0_comesFrom 41 = .ok (.aaload, 1) := dk_50 (dk_at dksX0_comesFrom_1 17 rfl rfl)
theorem dX0_comesFrom_42 : decode cX0_comesFrom 42 = .ok (.astore_n 2, 1) := dk_77 (dk_at dksX0_comesFrom_1 18 rfl rfl)
theorem dX0_comesFrom_43 : decode cX0_comesFrom 43 = .ok (.aload_n 0, 1) := dk_42 (dk_at dksX0_comesFrom_1 19 rfl rfl)
theorem dX0_comesFrom_44 : decode cX0_comesFrom 44 = .ok (.getfield 13, 3) := dk_180 0 13 (dk_at dksX0_comesFrom_1 20 rfl rfl)
theorem dX0_comesFrom_47 : decode cX0_comesFrom 47 = .ok (.iload_n 1, 1) := dk_27 (dk_at dksX0_comesFrom_1 23 rfl rfl)
theorem dX0_comesFrom_48 : decode cX0_comesFrom 48 = .ok (.aaload, 1) := dk_50 (dk_at dksX0_comesFrom_2 0 rfl rfl)
theorem dX0_comesFrom_49 : decode cX0_comesFrom 49 = .ok (.getfield 120, 3) := dk_180 0 120 (dk_at dksX0_comesFrom_2 1 rfl rfl)
theorem dX0_comesFrom_52 : decode cX0_comesFrom 52 = .ok (.aload_n 2, 1) := dk_44 (dk_at dksX0_comesFrom_2 4 rfl rfl)
theorem dX0_comesFrom_53 : decode cX0_comesFrom 53 = .ok (.getfield 120, 3) := dk_180 0 120 (dk_at dksX0_comesFrom_2 5 rfl rfl)
theorem dX0_comesFrom_56 : decode cX0_comesFrom 56 = .ok (.invokestatic 233, 3) := dk_184 0 233 (dk_at dksX0_comesFrom_2 8 rfl rfl)
theorem dX0_comesFrom_59 : decode cX0_comesFrom 59 = .ok (.istore_n 3, 1) := dk_62 (dk_at dksX0_comesFrom_2 11 rfl rfl)
theorem dX0_comesFrom_60 : decode cX0_comesFrom 60 = .ok (.aload_n 0, 1) := dk_42 (dk_at dksX0_comesFrom_2 12 rfl rfl)
theorem dX0_comesFrom_61 : decode cX0_comesFrom 61 = .ok (.getfield 13, 3) := dk_180 0 13 (dk_at dksX0_comesFrom_2 13 rfl rfl)
theorem dX0_comesFrom_64 : decode cX0_comesFrom 64 = .ok (.iload_n 1, 1) := dk_27 (dk_at dksX0_comesFrom_2 16 rfl rfl)
theorem dX0_comesFrom_65 : decode cX0_comesFrom 65 = .ok (.aaload, 1) := dk_50 (dk_at dksX0_comesFrom_2 17 rfl rfl)
theorem dX0_comesFrom_66 : decode cX0_comesFrom 66 = .ok (.getfield 108, 3) := dk_180 0 108 (dk_at dksX0_comesFrom_2 18 rfl rfl)
theorem dX0_comesFrom_69 : decode cX0_comesFrom 69 = .ok (.iload_n 3, 1) := dk_29 (dk_at dksX0_comesFrom_2 21 rfl rfl)
theorem dX0_comesFrom_70 : decode cX0_comesFrom 70 = .ok (.iconst 2, 1) := dk_5 (dk_at dksX0_comesFrom_2 22 rfl rfl)
theorem dX0_comesFrom_71 : decode cX0_comesFrom 71 = .ok (.idiv, 1) := dk_108 (dk_at dksX0_comesFrom_2 23 rfl rfl)
theorem dX0_comesFrom_72 : decode cX0_comesFrom 72 = .ok (.isub, 1) := dk_100 (dk_at dksX0_comesFrom_3 0 rfl rfl)
theorem dX0_comesFrom_73 : decode cX0_comesFrom 73 = .ok (.istore 4, 2) := dk_54 4 (dk_at dksX0_comesFrom_3 1 rfl rfl)
theorem dX0_comesFrom_75 : decode cX0_comesFrom 75 = .ok (.aload_n 0, 1) := dk_42 (dk_at dksX0_comesFrom_3 3 rfl rfl)
theorem dX0_comesFrom_76 : decode cX0_comesFrom 76 = .ok (.getfield 193, 3) := dk_180 0 193 (dk_at dksX0_comesFrom_3 4 rfl rfl)
theorem dX0_comesFrom_79 : decode cX0_comesFrom 79 = .ok (.ifnull 111, 3) := dk_198 0 111 (dk_at dksX0_comesFrom_3 7 rfl rfl)
theorem dX0_comesFrom_82 : decode cX0_comesFrom 82 = .ok (.aload_n 0, 1) := dk_42 (dk_at dksX0_comesFrom_3 10 rfl rfl)
theorem dX0_comesFrom_83 : decode cX0_comesFrom 83 = .ok (.getfield 34, 3) := dk_180 0 34 (dk_at dksX0_comesFrom_3 11 rfl rfl)
theorem dX0_comesFrom_86 : decode cX0_comesFrom 86 = .ok (.invokevirtual 236, 3) := dk_182 0 236 (dk_at dksX0_comesFrom_3 14 rfl rfl)
theorem dX0_comesFrom_89 : decode cX0_comesFrom 89 = .ok (.aload_n 0, 1) := dk_42 (dk_at dksX0_comesFrom_3 17 rfl rfl)
theorem dX0_comesFrom_90 : decode cX0_comesFrom 90 = .ok (.getfield 34, 3) := dk_180 0 34 (dk_at dksX0_comesFrom_3 18 rfl rfl)
theorem dX0_comesFrom_93 : decode cX0_comesFrom 93 = .ok (.getfield 239, 3) := dk_180 0 239 (dk_at dksX0_comesFrom_3 21 rfl rfl)
theorem dX0_comesFrom_96 : decode cX0_comesFrom 96 = .ok (.bipush 103, 2) := dk_16 103 (dk_at dksX0_comesFrom_4 0 rfl rfl)
theorem dX0_comesFrom_98 : decode cX0_comesFrom 98 = .ok (.aload_n 0, 1) := dk_42 (dk_at dksX0_comesFrom_4 2 rfl rfl)
theorem dX0_comesFrom_99 : decode cX0_comesFrom 99 = .ok (.getfield 13, 3) := dk_180 0 13 (dk_at dksX0_comesFrom_4 3 rfl rfl)
theorem dX0_comesFrom_102 : decode cX0_comesFrom 102 = .ok (.iload_n 1, 1) := dk_27 (dk_at dksX0_comesFrom_4 6 rfl rfl)
theorem dX0_comesFrom_103 : decode cX0_comesFrom 103 = .ok (.aaload, 1) := dk_50 (dk_at dksX0_comesFrom_4 7 rfl rfl)
theorem dX0_comesFrom_104 : decode cX0_comesFrom 104 = .ok (.getfield 108, 3) := dk_180 0 108 (dk_at dksX0_comesFrom_4 8 rfl rfl)
theorem dX0_comesFrom_107 : decode cX0_comesFrom 107 = .ok (.iastore, 1) := dk_79 (dk_at dksX0_comesFrom_4 11 rfl rfl)
theorem dX0_comesFrom_108 : decode cX0_comesFrom 108 = .ok (.aload_n 0, 1) := dk_42 (dk_at dksX0_comesFrom_4 12 rfl rfl)
theorem dX0_comesFrom_109 : decode cX0_comesFrom 109 = .ok (.getfield 34, 3) := dk_180 0 34 (dk_at dksX0_comesFrom_4 13 rfl rfl)
theorem dX0_comesFrom_112 : decode cX0_comesFrom 112 = .ok (.getfield 239, 3) := dk_180 0 239 (dk_at dksX0_comesFrom_4 16 rfl rfl)
theorem dX0_comesFrom_115 : decode cX0_comesFrom 115 = .ok (.bipush 100, 2) := dk_16 100 (dk_at dksX0_comesFrom_4 19 rfl rfl)
theorem dX0_comesFrom_117 : decode cX0_comesFrom 117 = .ok (.iload_n 3, 1) := dk_29 (dk_at dksX0_comesFrom_4 21 rfl rfl)
theorem dX0_comesFrom_118 : decode cX0_comesFrom 118 = .ok (.iastore, 1) := dk_79 (dk_at dksX0_comesFrom_4 22 rfl rfl)
theorem dX0_comesFrom_119 : decode cX0_comesFrom 119 = .ok (.aload_n 0, 1) := dk_42 (dk_at dksX0_comesFrom_4 23 rfl rfl)
theorem dX0_comesFrom_120 : decode cX0_comesFrom 120 = .ok (.getfield 34, 3) := dk_180 0 34 (dk_at dksX0_comesFrom_5 0 rfl rfl)
theorem dX0_comesFrom_123 : decode cX0_comesFrom 123 = .ok (.getfield 239, 3) := dk_180 0 239 (dk_at dksX0_comesFrom_5 3 rfl rfl)
theorem dX0_comesFrom_126 : decode cX0_comesFrom 126 = .ok (.bipush 110, 2) := dk_16 110 (dk_at dksX0_comesFrom_5 6 rfl rfl)
theorem dX0_comesFrom_128 : decode cX0_comesFrom 128 = .ok (.aload_n 2, 1) := dk_44 (dk_at dksX0_comesFrom_5 8 rfl rfl)
theorem dX0_comesFrom_129 : decode cX0_comesFrom 129 = .ok (.getfield 111, 3) := dk_180 0 111 (dk_at dksX0_comesFrom_5 9 rfl rfl)
theorem dX0_comesFrom_132 : decode cX0_comesFrom 132 = .ok (.iastore, 1) := dk_79 (dk_at dksX0_comesFrom_5 12 rfl rfl)
theorem dX0_comesFrom_133 : decode cX0_comesFrom 133 = .ok (.aload_n 0, 1) := dk_42 (dk_at dksX0_comesFrom_5 13 rfl rfl)
theorem dX0_comesFrom_134 : decode cX0_comesFrom 134 = .ok (.getfield 34, 3) := dk_180 0 34 (dk_at dksX0_comesFrom_5 14 rfl rfl)
theorem dX0_comesFrom_137 : decode cX0_comesFrom 137 = .ok (.getfield 239, 3) := dk_180 0 239 (dk_at dksX0_comesFrom_5 17 rfl rfl)
theorem dX0_comesFrom_140 : decode cX0_comesFrom 140 = .ok (.bipush 107, 2) := dk_16 107 (dk_at dksX0_comesFrom_5 20 rfl rfl)
theorem dX0_comesFrom_142 : decode cX0_comesFrom 142 = .ok (.aload_n 0, 1) := dk_42 (dk_at dksX0_comesFrom_5 22 rfl rfl)
theorem dX0_comesFrom_143 : decode cX0_comesFrom 143 = .ok (.getfield 48, 3) := dk_180 0 48 (dk_at dksX0_comesFrom_6 0 rfl rfl)
theorem dX0_comesFrom_146 : decode cX0_comesFrom 146 = .ok (.aload_n 0, 1) := dk_42 (dk_at dksX0_comesFrom_6 3 rfl rfl)
theorem dX0_comesFrom_147 : decode cX0_comesFrom 147 = .ok (.getfield 42, 3) := dk_180 0 42 (dk_at dksX0_comesFrom_6 4 rfl rfl)
theorem dX0_comesFrom_150 : decode cX0_comesFrom 150 = .ok (.iload_n 1, 1) := dk_27 (dk_at dksX0_comesFrom_6 7 rfl rfl)
theorem dX0_comesFrom_151 : decode cX0_comesFrom 151 = .ok (.iaload, 1) := dk_46 (dk_at dksX0_comesFrom_6 8 rfl rfl)
theorem dX0_comesFrom_152 : decode cX0_comesFrom 152 = .ok (.iaload, 1) := dk_46 (dk_at dksX0_comesFrom_6 9 rfl rfl)
theorem dX0_comesFrom_153 : decode cX0_comesFrom 153 = .ok (.iastore, 1) := dk_79 (dk_at dksX0_comesFrom_6 10 rfl rfl)
theorem dX0_comesFrom_154 : decode cX0_comesFrom 154 = .ok (.aload_n 0, 1) := dk_42 (dk_at dksX0_comesFrom_6 11 rfl rfl)
theorem dX0_comesFrom_155 : decode cX0_comesFrom 155 = .ok (.getfield 34, 3) := dk_180 0 34 (dk_at dksX0_comesFrom_6 12 rfl rfl)
theorem dX0_comesFrom_158 : decode cX0_comesFrom 158 = .ok (.getfield 239, 3) := dk_180 0 239 (dk_at dksX0_comesFrom_6 15 rfl rfl)
theorem dX0_comesFrom_161 : decode cX0_comesFrom 161 = .ok (.bipush 115, 2) := dk_16 115 (dk_at dksX0_comesFrom_6 18 rfl rfl)
theorem dX0_comesFrom_163 : decode cX0_comesFrom 163 = .ok (.aload_n 0, 1) := dk_42 (dk_at dksX0_comesFrom_6 20 rfl rfl)
theorem dX0_comesFrom_164 : decode cX0_comesFrom 164 = .ok (.getfield 38, 3) := dk_180 0 38 (dk_at dksX0_comesFrom_6 21 rfl rfl)
theorem dX0_comesFrom_167 : decode cX0_comesFrom 167 = .ok (.iload_n 1, 1) := dk_27 (dk_at dksX0_comesFrom_7 0 rfl rfl)
theorem dX0_comesFrom_168 : decode cX0_comesFrom 168 = .ok (.iaload, 1) := dk_46 (dk_at dksX0_comesFrom_7 1 rfl rfl)
theorem dX0_comesFrom_169 : decode cX0_comesFrom 169 = .ok (.iastore, 1) := dk_79 (dk_at dksX0_comesFrom_7 2 rfl rfl)
theorem dX0_comesFrom_170 : decode cX0_comesFrom 170 = .ok (.aload_n 0, 1) := dk_42 (dk_at dksX0_comesFrom_7 3 rfl rfl)
theorem dX0_comesFrom_171 : decode cX0_comesFrom 171 = .ok (.getfield 34, 3) := dk_180 0 34 (dk_at dksX0_comesFrom_7 4 rfl rfl)
theorem dX0_comesFrom_174 : decode cX0_comesFrom 174 = .ok (.getfield 239, 3) := dk_180 0 239 (dk_at dksX0_comesFrom_7 7 rfl rfl)
theorem dX0_comesFrom_177 : decode cX0_comesFrom 177 = .ok (.bipush 116, 2) := dk_16 116 (dk_at dksX0_comesFrom_7 10 rfl rfl)
theorem dX0_comesFrom_179 : decode cX0_comesFrom 179 = .ok (.aload_n 0, 1) := dk_42 (dk_at dksX0_comesFrom_7 12 rfl rfl)
theorem dX0_comesFrom_180 : decode cX0_comesFrom 180 = .ok (.getfield 215, 3) := dk_180 0 215 (dk_at dksX0_comesFrom_7 13 rfl rfl)
theorem dX0_comesFrom_183 : decode cX0_comesFrom 183 = .ok (.iastore, 1) := dk_79 (dk_at dksX0_comesFrom_7 16 rfl rfl)
theorem dX0_comesFrom_184 : decode cX0_comesFrom 184 = .ok (.aload_n 0, 1) := dk_42 (dk_at dksX0_comesFrom_7 17 rfl rfl)
theorem dX0_comesFrom_185 : decode cX0_comesFrom 185 = .ok (.invokevirtual 242, 3) := dk_182 0 242 (dk_at dksX0_comesFrom_7 18 rfl rfl)
theorem dX0_comesFrom_188 : decode cX0_comesFrom 188 = .ok (.istore 4, 2) := dk_54 4 (dk_at dksX0_comesFrom_7 21 rfl rfl)
theorem dX0_comesFrom_190 : decode cX0_comesFrom 190 = .ok (.iconst 0, 1) := dk_3 (dk_at dksX0_comesFrom_7 23 rfl rfl)
theorem dX0_comesFrom_191 : decode cX0_comesFrom 191 = .ok (.bipush 20, 2) := dk_16 20 (dk_at dksX0_comesFrom_8 0 rfl rfl)
theorem dX0_comesFrom_193 : decode cX0_comesFrom 193 = .ok (.iload 4, 2) := dk_21 4 (dk_at dksX0_comesFrom_8 2 rfl rfl)
theorem dX0_comesFrom_195 : decode cX0_comesFrom 195 = .ok (.invokestatic 246, 3) := dk_184 0 246 (dk_at dksX0_comesFrom_8 4 rfl rfl)
theorem dX0_comesFrom_198 : decode cX0_comesFrom 198 = .ok (.invokestatic 249, 3) := dk_184 0 249 (dk_at dksX0_comesFrom_8 7 rfl rfl)
theorem dX0_comesFrom_201 : decode cX0_comesFrom 201 = .ok (.ireturn, 1) := dk_172 (dk_at dksX0_comesFrom_8 10 rfl rfl)
abbrev cX0_farOf : ByteArray := prog_1_method_23_code
def yX0_farOf : MethodName := ⟨RX0, "farOf", "(II)I"⟩
def dkwX0_farOf_1 : List UInt8 := [96, 172]
abbrev dktX0_farOf_1 : List UInt8 := dkwX0_farOf_1 ++ []
def dkwX0_farOf_0 : List UInt8 := [26, 16, 6, 112, 27, 16, 6, 112, 100, 184, 0, 224, 26, 16, 6, 108, 27, 16, 6, 108, 100, 184, 0, 224]
abbrev dktX0_farOf_0 : List UInt8 := dkwX0_farOf_0 ++ dktX0_farOf_1
theorem dksX0_farOf_0 : cX0_farOf.data.toList.drop 0 = dktX0_farOf_0 := by decide +kernel
theorem dksX0_farOf_1 : cX0_farOf.data.toList.drop 24 = dktX0_farOf_1 := dk_seg dksX0_farOf_0 24 rfl rfl
theorem dX0_farOf_0 : decode cX0_farOf 0 = .ok (.iload_n 0, 1) := dk_26 (dk_at dksX0_farOf_0 0 rfl rfl)
theorem dX0_farOf_1 : decode cX0_farOf 1 = .ok (.bipush 6, 2) := dk_16 6 (dk_at dksX0_farOf_0 1 rfl rfl)
theorem dX0_farOf_3 : decode cX0_farOf 3 = .ok (.irem, 1) := dk_112 (dk_at dksX0_farOf_0 3 rfl rfl)
theorem dX0_farOf_4 : decode cX0_farOf 4 = .ok (.iload_n 1, 1) := dk_27 (dk_at dksX0_farOf_0 4 rfl rfl)
theorem dX0_farOf_5 : decode cX0_farOf 5 = .ok (.bipush 6, 2) := dk_16 6 (dk_at dksX0_farOf_0 5 rfl rfl)
theorem dX0_farOf_7 : decode cX0_farOf 7 = .ok (.irem, 1) := dk_112 (dk_at dksX0_farOf_0 7 rfl rfl)
theorem dX0_farOf_8 : decode cX0_farOf 8 = .ok (.isub, 1) := dk_100 (dk_at dksX0_farOf_0 8 rfl rfl)
theorem dX0_farOf_9 : decode cX0_farOf 9 = .ok (.invokestatic 224, 3) := dk_184 0 224 (dk_at dksX0_farOf_0 9 rfl rfl)
theorem dX0_farOf_12 : decode cX0_farOf 12 = .ok (.iload_n 0, 1) := dk_26 (dk_at dksX0_farOf_0 12 rfl rfl)
theorem dX0_farOf_13 : decode cX0_farOf 13 = .ok (.bipush 6, 2) := dk_16 6 (dk_at dksX0_farOf_0 13 rfl rfl)
theorem dX0_farOf_15 : decode cX0_farOf 15 = .ok (.idiv, 1) := dk_108 (dk_at dksX0_farOf_0 15 rfl rfl)
theorem dX0_farOf_16 : decode cX0_farOf 16 = .ok (.iload_n 1, 1) := dk_27 (dk_at dksX0_farOf_0 16 rfl rfl)
theorem dX0_farOf_17 : decode cX0_farOf 17 = .ok (.bipush 6, 2) := dk_16 6 (dk_at dksX0_farOf_0 17 rfl rfl)
theorem dX0_farOf_19 : decode cX0_farOf 19 = .ok (.idiv, 1) := dk_108 (dk_at dksX0_farOf_0 19 rfl rfl)
theorem dX0_farOf_20 : decode cX0_farOf 20 = .ok (.isub, 1) := dk_100 (dk_at dksX0_farOf_0 20 rfl rfl)
theorem dX0_farOf_21 : decode cX0_farOf 21 = .ok (.invokestatic 224, 3) := dk_184 0 224 (dk_at dksX0_farOf_0 21 rfl rfl)
theorem dX0_farOf_24 : decode cX0_farOf 24 = .ok (.iadd, 1) := dk_96 (dk_at dksX0_farOf_1 0 rfl rfl)
theorem dX0_farOf_25 : decode cX0_farOf 25 = .ok (.ireturn, 1) := dk_172 (dk_at dksX0_farOf_1 1 rfl rfl)
abbrev cX0_lawGives : ByteArray := prog_1_method_21_code
def yX0_lawGives : MethodName := ⟨RX0, "lawGives", "()I"⟩
def dkwX0_lawGives_2 : List UInt8 := [167, 255, 214, 3, 172]
abbrev dktX0_lawGives_2 : List UInt8 := dkwX0_lawGives_2 ++ []
def dkwX0_lawGives_1 : List UInt8 := [182, 0, 203, 153, 0, 15, 43, 180, 0, 209, 42, 180, 0, 34, 182, 0, 203, 172, 43, 180, 0, 212, 76]
abbrev dktX0_lawGives_1 : List UInt8 := dkwX0_lawGives_1 ++ dktX0_lawGives_2
def dkwX0_lawGives_0 : List UInt8 := [42, 180, 0, 193, 76, 43, 198, 0, 44, 43, 180, 0, 197, 198, 0, 17, 43, 180, 0, 197, 42, 180, 0, 34]
abbrev dktX0_lawGives_0 : List UInt8 := dkwX0_lawGives_0 ++ dktX0_lawGives_1
theorem dksX0_lawGives_0 : cX0_lawGives.data.toList.drop 0 = dktX0_lawGives_0 := by decide +kernel
theorem dksX0_lawGives_1 : cX0_lawGives.data.toList.drop 24 = dktX0_lawGives_1 := dk_seg dksX0_lawGives_0 24 rfl rfl
theorem dksX0_lawGives_2 : cX0_lawGives.data.toList.drop 47 = dktX0_lawGives_2 := dk_seg dksX0_lawGives_1 23 rfl rfl
theorem dX0_lawGives_0 : decode cX0_lawGives 0 = .ok (.aload_n 0, 1) := dk_42 (dk_at dksX0_lawGives_0 0 rfl rfl)
theorem dX0_lawGives_1 : decode cX0_lawGives 1 = .ok (.getfield 193, 3) := dk_180 0 193 (dk_at dksX0_lawGives_0 1 rfl rfl)
theorem dX0_lawGives_4 : decode cX0_lawGives 4 = .ok (.astore_n 1, 1) := dk_76 (dk_at dksX0_lawGives_0 4 rfl rfl)
theorem dX0_lawGives_5 : decode cX0_lawGives 5 = .ok (.aload_n 1, 1) := dk_43 (dk_at dksX0_lawGives_0 5 rfl rfl)
theorem dX0_lawGives_6 : decode cX0_lawGives 6 = .ok (.ifnull 44, 3) := dk_198 0 44 (dk_at dksX0_lawGives_0 6 rfl rfl)
theorem dX0_lawGives_9 : decode cX0_lawGives 9 = .ok (.aload_n 1, 1) := dk_43 (dk_at dksX0_lawGives_0 9 rfl rfl)
theorem dX0_lawGives_10 : decode cX0_lawGives 10 = .ok (.getfield 197, 3) := dk_180 0 197 (dk_at dksX0_lawGives_0 10 rfl rfl)
theorem dX0_lawGives_13 : decode cX0_lawGives 13 = .ok (.ifnull 17, 3) := dk_198 0 17 (dk_at dksX0_lawGives_0 13 rfl rfl)
theorem dX0_lawGives_16 : decode cX0_lawGives 16 = .ok (.aload_n 1, 1) := dk_43 (dk_at dksX0_lawGives_0 16 rfl rfl)
theorem dX0_lawGives_17 : decode cX0_lawGives 17 = .ok (.getfield 197, 3) := dk_180 0 197 (dk_at dksX0_lawGives_0 17 rfl rfl)
theorem dX0_lawGives_20 : decode cX0_lawGives 20 = .ok (.aload_n 0, 1) := dk_42 (dk_at dksX0_lawGives_0 20 rfl rfl)
theorem dX0_lawGives_21 : decode cX0_lawGives 21 = .ok (.getfield 34, 3) := dk_180 0 34 (dk_at dksX0_lawGives_0 21 rfl rfl)
theorem dX0_lawGives_24 : decode cX0_lawGives 24 = .ok (.invokevirtual 203, 3) := dk_182 0 203 (dk_at dksX0_lawGives_1 0 rfl rfl)
theorem dX0_lawGives_27 : decode cX0_lawGives 27 = .ok (.ifCond .eq 15, 3) := dk_153 0 15 (dk_at dksX0_lawGives_1 3 rfl rfl)
theorem dX0_lawGives_30 : decode cX0_lawGives 30 = .ok (.aload_n 1, 1) := dk_43 (dk_at dksX0_lawGives_1 6 rfl rfl)
theorem dX0_lawGives_31 : decode cX0_lawGives 31 = .ok (.getfield 209, 3) := dk_180 0 209 (dk_at dksX0_lawGives_1 7 rfl rfl)
theorem dX0_lawGives_34 : decode cX0_lawGives 34 = .ok (.aload_n 0, 1) := dk_42 (dk_at dksX0_lawGives_1 10 rfl rfl)
theorem dX0_lawGives_35 : decode cX0_lawGives 35 = .ok (.getfield 34, 3) := dk_180 0 34 (dk_at dksX0_lawGives_1 11 rfl rfl)
theorem dX0_lawGives_38 : decode cX0_lawGives 38 = .ok (.invokevirtual 203, 3) := dk_182 0 203 (dk_at dksX0_lawGives_1 14 rfl rfl)
theorem dX0_lawGives_41 : decode cX0_lawGives 41 = .ok (.ireturn, 1) := dk_172 (dk_at dksX0_lawGives_1 17 rfl rfl)
theorem dX0_lawGives_42 : decode cX0_lawGives 42 = .ok (.aload_n 1, 1) := dk_43 (dk_at dksX0_lawGives_1 18 rfl rfl)
theorem dX0_lawGives_43 : decode cX0_lawGives 43 = .ok (.getfield 212, 3) := dk_180 0 212 (dk_at dksX0_lawGives_1 19 rfl rfl)
theorem dX0_lawGives_46 : decode cX0_lawGives 46 = .ok (.astore_n 1, 1) := dk_76 (dk_at dksX0_lawGives_1 22 rfl rfl)
theorem dX0_lawGives_47 : decode cX0_lawGives 47 = .ok (.goto (-42), 3) := dk_167 255 214 (dk_at dksX0_lawGives_2 0 rfl rfl)
theorem dX0_lawGives_50 : decode cX0_lawGives 50 = .ok (.iconst 0, 1) := dk_3 (dk_at dksX0_lawGives_2 3 rfl rfl)
theorem dX0_lawGives_51 : decode cX0_lawGives 51 = .ok (.ireturn, 1) := dk_172 (dk_at dksX0_lawGives_2 4 rfl rfl)
abbrev cX0_later : ByteArray := prog_1_method_34_code
def yX0_later : MethodName := ⟨RX0, "later", "(II)I"⟩
def dkwX0_later_2 : List UInt8 := [46, 172]
abbrev dktX0_later_2 : List UInt8 := dkwX0_later_2 ++ []
def dkwX0_later_1 : List UInt8 := [182, 0, 252, 42, 27, 182, 1, 22, 28, 156, 0, 10, 42, 182, 1, 25, 167, 0, 9, 42, 180, 0, 38, 28]
abbrev dktX0_later_1 : List UInt8 := dkwX0_later_1 ++ dktX0_later_2
def dkwX0_later_0 : List UInt8 := [27, 184, 1, 19, 153, 0, 17, 28, 2, 42, 180, 0, 85, 4, 100, 184, 0, 81, 154, 0, 5, 2, 172, 42]
abbrev dktX0_later_0 : List UInt8 := dkwX0_later_0 ++ dktX0_later_1
theorem dksX0_later_0 : cX0_later.data.toList.drop 0 = dktX0_later_0 := by decide +kernel
theorem dksX0_later_1 : cX0_later.data.toList.drop 24 = dktX0_later_1 := dk_seg dksX0_later_0 24 rfl rfl
theorem dksX0_later_2 : cX0_later.data.toList.drop 48 = dktX0_later_2 := dk_seg dksX0_later_1 24 rfl rfl
theorem dX0_later_0 : decode cX0_later 0 = .ok (.iload_n 1, 1) := dk_27 (dk_at dksX0_later_0 0 rfl rfl)
theorem dX0_later_1 : decode cX0_later 1 = .ok (.invokestatic 275, 3) := dk_184 1 19 (dk_at dksX0_later_0 1 rfl rfl)
theorem dX0_later_4 : decode cX0_later 4 = .ok (.ifCond .eq 17, 3) := dk_153 0 17 (dk_at dksX0_later_0 4 rfl rfl)
theorem dX0_later_7 : decode cX0_later 7 = .ok (.iload_n 2, 1) := dk_28 (dk_at dksX0_later_0 7 rfl rfl)
theorem dX0_later_8 : decode cX0_later 8 = .ok (.iconst (-1), 1) := dk_2 (dk_at dksX0_later_0 8 rfl rfl)
theorem dX0_later_9 : decode cX0_later 9 = .ok (.aload_n 0, 1) := dk_42 (dk_at dksX0_later_0 9 rfl rfl)
theorem dX0_later_10 : decode cX0_later 10 = .ok (.getfield 85, 3) := dk_180 0 85 (dk_at dksX0_later_0 10 rfl rfl)
theorem dX0_later_13 : decode cX0_later 13 = .ok (.iconst 1, 1) := dk_4 (dk_at dksX0_later_0 13 rfl rfl)
theorem dX0_later_14 : decode cX0_later 14 = .ok (.isub, 1) := dk_100 (dk_at dksX0_later_0 14 rfl rfl)
theorem dX0_later_15 : decode cX0_later 15 = .ok (.invokestatic 81, 3) := dk_184 0 81 (dk_at dksX0_later_0 15 rfl rfl)
theorem dX0_later_18 : decode cX0_later 18 = .ok (.ifCond .ne 5, 3) := dk_154 0 5 (dk_at dksX0_later_0 18 rfl rfl)
theorem dX0_later_21 : decode cX0_later 21 = .ok (.iconst (-1), 1) := dk_2 (dk_at dksX0_later_0 21 rfl rfl)
theorem dX0_later_22 : decode cX0_later 22 = .ok (.ireturn, 1) := dk_172 (dk_at dksX0_later_0 22 rfl rfl)
theorem dX0_later_23 : decode cX0_later 23 = .ok (.aload_n 0, 1) := dk_42 (dk_at dksX0_later_0 23 rfl rfl)
theorem dX0_later_24 : decode cX0_later 24 = .ok (.invokevirtual 252, 3) := dk_182 0 252 (dk_at dksX0_later_1 0 rfl rfl)
theorem dX0_later_27 : decode cX0_later 27 = .ok (.aload_n 0, 1) := dk_42 (dk_at dksX0_later_1 3 rfl rfl)
theorem dX0_later_28 : decode cX0_later 28 = .ok (.iload_n 1, 1) := dk_27 (dk_at dksX0_later_1 4 rfl rfl)
theorem dX0_later_29 : decode cX0_later 29 = .ok (.invokevirtual 278, 3) := dk_182 1 22 (dk_at dksX0_later_1 5 rfl rfl)
theorem dX0_later_32 : decode cX0_later 32 = .ok (.iload_n 2, 1) := dk_28 (dk_at dksX0_later_1 8 rfl rfl)
theorem dX0_later_33 : decode cX0_later 33 = .ok (.ifCond .ge 10, 3) := dk_156 0 10 (dk_at dksX0_later_1 9 rfl rfl)
theorem dX0_later_36 : decode cX0_later 36 = .ok (.aload_n 0, 1) := dk_42 (dk_at dksX0_later_1 12 rfl rfl)
theorem dX0_later_37 : decode cX0_later 37 = .ok (.invokevirtual 281, 3) := dk_182 1 25 (dk_at dksX0_later_1 13 rfl rfl)
theorem dX0_later_40 : decode cX0_later 40 = .ok (.goto 9, 3) := dk_167 0 9 (dk_at dksX0_later_1 16 rfl rfl)
theorem dX0_later_43 : decode cX0_later 43 = .ok (.aload_n 0, 1) := dk_42 (dk_at dksX0_later_1 19 rfl rfl)
theorem dX0_later_44 : decode cX0_later 44 = .ok (.getfield 38, 3) := dk_180 0 38 (dk_at dksX0_later_1 20 rfl rfl)
theorem dX0_later_47 : decode cX0_later 47 = .ok (.iload_n 2, 1) := dk_28 (dk_at dksX0_later_1 23 rfl rfl)
theorem dX0_later_48 : decode cX0_later 48 = .ok (.iaload, 1) := dk_46 (dk_at dksX0_later_2 0 rfl rfl)
theorem dX0_later_49 : decode cX0_later 49 = .ok (.ireturn, 1) := dk_172 (dk_at dksX0_later_2 1 rfl rfl)
abbrev cX0_areDays : ByteArray := prog_1_method_33_code
def yX0_areDays : MethodName := ⟨RX0, "areDays", "(I)Z"⟩
def dkwX0_areDays_0 : List UInt8 := [26, 3, 16, 40, 184, 0, 81, 172]
abbrev dktX0_areDays_0 : List UInt8 := dkwX0_areDays_0 ++ []
theorem dksX0_areDays_0 : cX0_areDays.data.toList.drop 0 = dktX0_areDays_0 := by decide +kernel
theorem dX0_areDays_0 : decode cX0_areDays 0 = .ok (.iload_n 0, 1) := dk_26 (dk_at dksX0_areDays_0 0 rfl rfl)
theorem dX0_areDays_1 : decode cX0_areDays 1 = .ok (.iconst 0, 1) := dk_3 (dk_at dksX0_areDays_0 1 rfl rfl)
theorem dX0_areDays_2 : decode cX0_areDays 2 = .ok (.bipush 40, 2) := dk_16 40 (dk_at dksX0_areDays_0 2 rfl rfl)
theorem dX0_areDays_4 : decode cX0_areDays 4 = .ok (.invokestatic 81, 3) := dk_184 0 81 (dk_at dksX0_areDays_0 4 rfl rfl)
theorem dX0_areDays_7 : decode cX0_areDays 7 = .ok (.ireturn, 1) := dk_172 (dk_at dksX0_areDays_0 7 rfl rfl)
abbrev cX0_goDays : ByteArray := prog_1_method_29_code
def yX0_goDays : MethodName := ⟨RX0, "goDays", "(I)V"⟩
def dkwX0_goDays_0 : List UInt8 := [3, 61, 28, 27, 162, 0, 13, 42, 182, 1, 8, 132, 2, 1, 167, 255, 244, 177]
abbrev dktX0_goDays_0 : List UInt8 := dkwX0_goDays_0 ++ []
theorem dksX0_goDays_0 : cX0_goDays.data.toList.drop 0 = dktX0_goDays_0 := by decide +kernel
theorem dX0_goDays_0 : decode cX0_goDays 0 = .ok (.iconst 0, 1) := dk_3 (dk_at dksX0_goDays_0 0 rfl rfl)
theorem dX0_goDays_1 : decode cX0_goDays 1 = .ok (.istore_n 2, 1) := dk_61 (dk_at dksX0_goDays_0 1 rfl rfl)
theorem dX0_goDays_2 : decode cX0_goDays 2 = .ok (.iload_n 2, 1) := dk_28 (dk_at dksX0_goDays_0 2 rfl rfl)
theorem dX0_goDays_3 : decode cX0_goDays 3 = .ok (.iload_n 1, 1) := dk_27 (dk_at dksX0_goDays_0 3 rfl rfl)
theorem dX0_goDays_4 : decode cX0_goDays 4 = .ok (.if_icmp .ge 13, 3) := dk_162 0 13 (dk_at dksX0_goDays_0 4 rfl rfl)
theorem dX0_goDays_7 : decode cX0_goDays 7 = .ok (.aload_n 0, 1) := dk_42 (dk_at dksX0_goDays_0 7 rfl rfl)
theorem dX0_goDays_8 : decode cX0_goDays 8 = .ok (.invokevirtual 264, 3) := dk_182 1 8 (dk_at dksX0_goDays_0 8 rfl rfl)
theorem dX0_goDays_11 : decode cX0_goDays 11 = .ok (.iinc 2 1, 3) := dk_132 2 1 (dk_at dksX0_goDays_0 11 rfl rfl)
theorem dX0_goDays_14 : decode cX0_goDays 14 = .ok (.goto (-12), 3) := dk_167 255 244 (dk_at dksX0_goDays_0 14 rfl rfl)
theorem dX0_goDays_17 : decode cX0_goDays 17 = .ok (.return_, 1) := dk_177 (dk_at dksX0_goDays_0 17 rfl rfl)
abbrev cX0_goDay : ByteArray := prog_1_method_28_code
def yX0_goDay : MethodName := ⟨RX0, "goDay", "()V"⟩
def dkwX0_goDay_6 : List UInt8 := [132, 1, 1, 167, 255, 195, 42, 16, 99, 42, 180, 0, 215, 4, 96, 184, 0, 246, 181, 0, 215, 177]
abbrev dktX0_goDay_6 : List UInt8 := dkwX0_goDay_6 ++ []
def dkwX0_goDay_5 : List UInt8 := [42, 180, 0, 48, 27, 46, 154, 0, 10, 42, 180, 0, 17, 167, 0, 4, 3, 100, 184, 1, 5, 79]
abbrev dktX0_goDay_5 : List UInt8 := dkwX0_goDay_5 ++ dktX0_goDay_6
def dkwX0_goDay_4 : List UInt8 := [27, 42, 180, 0, 38, 27, 46, 42, 180, 0, 45, 27, 46, 96, 42, 180, 0, 13, 27, 50, 180, 0, 111, 100]
abbrev dktX0_goDay_4 : List UInt8 := dkwX0_goDay_4 ++ dktX0_goDay_5
def dkwX0_goDay_3 : List UInt8 := [96, 181, 0, 221, 132, 1, 1, 167, 255, 207, 3, 60, 27, 42, 180, 0, 85, 162, 0, 59, 42, 180, 0, 38]
abbrev dktX0_goDay_3 : List UInt8 := dkwX0_goDay_3 ++ dktX0_goDay_4
def dkwX0_goDay_2 : List UInt8 := [167, 0, 28, 42, 180, 0, 45, 42, 180, 0, 42, 27, 46, 92, 46, 28, 96, 79, 42, 89, 180, 0, 221, 28]
abbrev dktX0_goDay_2 : List UInt8 := dkwX0_goDay_2 ++ dktX0_goDay_3
def dkwX0_goDay_1 : List UInt8 := [167, 255, 238, 3, 60, 27, 42, 180, 0, 85, 162, 0, 47, 42, 27, 182, 1, 2, 61, 28, 154, 0, 6]
abbrev dktX0_goDay_1 : List UInt8 := dkwX0_goDay_1 ++ dktX0_goDay_2
def dkwX0_goDay_0 : List UInt8 := [42, 182, 0, 255, 3, 60, 27, 42, 180, 0, 85, 162, 0, 16, 42, 180, 0, 45, 27, 3, 79, 132, 1, 1]
abbrev dktX0_goDay_0 : List UInt8 := dkwX0_goDay_0 ++ dktX0_goDay_1
theorem dksX0_goDay_0 : cX0_goDay.data.toList.drop 0 = dktX0_goDay_0 := by decide +kernel
theorem dksX0_goDay_1 : cX0_goDay.data.toList.drop 24 = dktX0_goDay_1 := dk_seg dksX0_goDay_0 24 rfl rfl
theorem dksX0_goDay_2 : cX0_goDay.data.toList.drop 47 = dktX0_goDay_2 := dk_seg dksX0_goDay_1 23 rfl rfl
theorem dksX0_goDay_3 : cX0_goDay.data.toList.drop 71 = dktX0_goDay_3 := dk_seg dksX0_goDay_2 24 rfl rfl
theorem dksX0_goDay_4 : cX0_goDay.data.toList.drop 95 = dktX0_goDay_4 := dk_seg dksX0_goDay_3 24 rfl rfl
theorem dksX0_goDay_5 : cX0_goDay.data.toList.drop 119 = dktX0_goDay_5 := dk_seg dksX0_goDay_4 24 rfl rfl
theorem dksX0_goDay_6 : cX0_goDay.data.toList.drop 141 = dktX0_goDay_6 := dk_seg dksX0_goDay_5 22 rfl rfl
theorem dX0_goDay_0 : decode cX0_goDay 0 = .ok (.aload_n 0, 1) := dk_42 (dk_at dksX0_goDay_0 0 rfl rfl)
theorem dX0_goDay_1 : decode cX0_goDay 1 = .ok (.invokevirtual 255, 3) := dk_182 0 255 (dk_at dksX0_goDay_0 1 rfl rfl)
theorem dX0_goDay_4 : decode cX0_goDay 4 = .ok (.iconst 0, 1) := dk_3 (dk_at dksX0_goDay_0 4 rfl rfl)
theorem dX0_goDay_5 : decode cX0_goDay 5 = .ok (.istore_n 1, 1) := dk_60 (dk_at dksX0_goDay_0 5 rfl rfl)
theorem dX0_goDay_6 : decode cX0_goDay 6 = .ok (.iload_n 1, 1) := dk_27 (dk_at dksX0_goDay_0 6 rfl rfl)
theorem dX0_goDay_7 : decode cX0_goDay 7 = .ok (.aload_n 0, 1) := dk_42 (dk_at dksX0_goDay_0 7 rfl rfl)
theorem dX0_goDay_8 : decode cX0_goDay 8 = .ok (.getfield 85, 3) := dk_180 0 85 (dk_at dksX0_goDay_0 8 rfl rfl)
theorem dX0_goDay_11 : decode cX0_goDay 11 = .ok (.if_icmp .ge 16, 3) := dk_162 0 16 (dk_at dksX0_goDay_0 11 rfl rfl)
theorem dX0_goDay_14 : decode cX0_goDay 14 = .ok (.aload_n 0, 1) := dk_42 (dk_at dksX0_goDay_0 14 rfl rfl)
theorem dX0_goDay_15 : decode cX0_goDay 15 = .ok (.getfield 45, 3) := dk_180 0 45 (dk_at dksX0_goDay_0 15 rfl rfl)
theorem dX0_goDay_18 : decode cX0_goDay 18 = .ok (.iload_n 1, 1) := dk_27 (dk_at dksX0_goDay_0 18 rfl rfl)
theorem dX0_goDay_19 : decode cX0_goDay 19 = .ok (.iconst 0, 1) := dk_3 (dk_at dksX0_goDay_0 19 rfl rfl)
theorem dX0_goDay_20 : decode cX0_goDay 20 = .ok (.iastore, 1) := dk_79 (dk_at dksX0_goDay_0 20 rfl rfl)
theorem dX0_goDay_21 : decode cX0_goDay 21 = .ok (.iinc 1 1, 3) := dk_132 1 1 (dk_at dksX0_goDay_0 21 rfl rfl)
theorem dX0_goDay_24 : decode cX0_goDay 24 = .ok (.goto (-18), 3) := dk_167 255 238 (dk_at dksX0_goDay_1 0 rfl rfl)
theorem dX0_goDay_27 : decode cX0_goDay 27 = .ok (.iconst 0, 1) := dk_3 (dk_at dksX0_goDay_1 3 rfl rfl)
theorem dX0_goDay_28 : decode cX0_goDay 28 = .ok (.istore_n 1, 1) := dk_60 (dk_at dksX0_goDay_1 4 rfl rfl)
theorem dX0_goDay_29 : decode cX0_goDay 29 = .ok (.iload_n 1, 1) := dk_27 (dk_at dksX0_goDay_1 5 rfl rfl)
theorem dX0_goDay_30 : decode cX0_goDay 30 = .ok (.aload_n 0, 1) := dk_42 (dk_at dksX0_goDay_1 6 rfl rfl)
theorem dX0_goDay_31 : decode cX0_goDay 31 = .ok (.getfield 85, 3) := dk_180 0 85 (dk_at dksX0_goDay_1 7 rfl rfl)
theorem dX0_goDay_34 : decode cX0_goDay 34 = .ok (.if_icmp .ge 47, 3) := dk_162 0 47 (dk_at dksX0_goDay_1 10 rfl rfl)
theorem dX0_goDay_37 : decode cX0_goDay 37 = .ok (.aload_n 0, 1) := dk_42 (dk_at dksX0_goDay_1 13 rfl rfl)
theorem dX0_goDay_38 : decode cX0_goDay 38 = .ok (.iload_n 1, 1) := dk_27 (dk_at dksX0_goDay_1 14 rfl rfl)
theorem dX0_goDay_39 : decode cX0_goDay 39 = .ok (.invokevirtual 258, 3) := dk_182 1 2 (dk_at dksX0_goDay_1 15 rfl rfl)
theorem dX0_goDay_42 : decode cX0_goDay 42 = .ok (.istore_n 2, 1) := dk_61 (dk_at dksX0_goDay_1 18 rfl rfl)
theorem dX0_goDay_43 : decode cX0_goDay 43 = .ok (.iload_n 2, 1) := dk_28 (dk_at dksX0_goDay_1 19 rfl rfl)
theorem dX0_goDay_44 : decode cX0_goDay 44 = .ok (.ifCond .ne 6, 3) := dk_154 0 6 (dk_at dksX0_goDay_1 20 rfl rfl)
theorem dX0_goDay_47 : decode cX0_goDay 47 = .ok (.goto 28, 3) := dk_167 0 28 (dk_at dksX0_goDay_2 0 rfl rfl)
theorem dX0_goDay_50 : decode cX0_goDay 50 = .ok (.aload_n 0, 1) := dk_42 (dk_at dksX0_goDay_2 3 rfl rfl)
theorem dX0_goDay_51 : decode cX0_goDay 51 = .ok (.getfield 45, 3) := dk_180 0 45 (dk_at dksX0_goDay_2 4 rfl rfl)
theorem dX0_goDay_54 : decode cX0_goDay 54 = .ok (.aload_n 0, 1) := dk_42 (dk_at dksX0_goDay_2 7 rfl rfl)
theorem dX0_goDay_55 : decode cX0_goDay 55 = .ok (.getfield 42, 3) := dk_180 0 42 (dk_at dksX0_goDay_2 8 rfl rfl)
theorem dX0_goDay_58 : decode cX0_goDay 58 = .ok (.iload_n 1, 1) := dk_27 (dk_at dksX0_goDay_2 11 rfl rfl)
theorem dX0_goDay_59 : decode cX0_goDay 59 = .ok (.iaload, 1) := dk_46 (dk_at dksX0_goDay_2 12 rfl rfl)
theorem dX0_goDay_60 : decode cX0_goDay 60 = .ok (.dup2, 1) := dk_92 (dk_at dksX0_goDay_2 13 rfl rfl)
theorem dX0_goDay_61 : decode cX0_goDay 61 = .ok (.iaload, 1) := dk_46 (dk_at dksX0_goDay_2 14 rfl rfl)
theorem dX0_goDay_62 : decode cX0_goDay 62 = .ok (.iload_n 2, 1) := dk_28 (dk_at dksX0_goDay_2 15 rfl rfl)
theorem dX0_goDay_63 : decode cX0_goDay 63 = .ok (.iadd, 1) := dk_96 (dk_at dksX0_goDay_2 16 rfl rfl)
theorem dX0_goDay_64 : decode cX0_goDay 64 = .ok (.iastore, 1) := dk_79 (dk_at dksX0_goDay_2 17 rfl rfl)
theorem dX0_goDay_65 : decode cX0_goDay 65 = .ok (.aload_n 0, 1) := dk_42 (dk_at dksX0_goDay_2 18 rfl rfl)
theorem dX0_goDay_66 : decode cX0_goDay 66 = .ok (.dup, 1) := dk_89 (dk_at dksX0_goDay_2 19 rfl rfl)
theorem dX0_goDay_67 : decode cX0_goDay 67 = .ok (.getfield 221, 3) := dk_180 0 221 (dk_at dksX0_goDay_2 20 rfl rfl)
theorem dX0_goDay_70 : decode cX0_goDay 70 = .ok (.iload_n 2, 1) := dk_28 (dk_at dksX0_goDay_2 23 rfl rfl)
theorem dX0_goDay_71 : decode cX0_goDay 71 = .ok (.iadd, 1) := dk_96 (dk_at dksX0_goDay_3 0 rfl rfl)
theorem dX0_goDay_72 : decode cX0_goDay 72 = .ok (.putfield 221, 3) := dk_181 0 221 (dk_at dksX0_goDay_3 1 rfl rfl)
theorem dX0_goDay_75 : decode cX0_goDay 75 = .ok (.iinc 1 1, 3) := dk_132 1 1 (dk_at dksX0_goDay_3 4 rfl rfl)
theorem dX0_goDay_78 : decode cX0_goDay 78 = .ok (.goto (-49), 3) := dk_167 255 207 (dk_at dksX0_goDay_3 7 rfl rfl)
theorem dX0_goDay_81 : decode cX0_goDay 81 = .ok (.iconst 0, 1) := dk_3 (dk_at dksX0_goDay_3 10 rfl rfl)
theorem dX0_goDay_82 : decode cX0_goDay 82 = .ok (.istore_n 1, 1) := dk_60 (dk_at dksX0_goDay_3 11 rfl rfl)
theorem dX0_goDay_83 : decode cX0_goDay 83 = .ok (.iload_n 1, 1) := dk_27 (dk_at dksX0_goDay_3 12 rfl rfl)
theorem dX0_goDay_84 : decode cX0_goDay 84 = .ok (.aload_n 0, 1) := dk_42 (dk_at dksX0_goDay_3 13 rfl rfl)
theorem dX0_goDay_85 : decode cX0_goDay 85 = .ok (.getfield 85, 3) := dk_180 0 85 (dk_at dksX0_goDay_3 14 rfl rfl)
theorem dX0_goDay_88 : decode cX0_goDay 88 = .ok (.if_icmp .ge 59, 3) := dk_162 0 59 (dk_at dksX0_goDay_3 17 rfl rfl)
theorem dX0_goDay_91 : decode cX0_goDay 91 = .ok (.aload_n 0, 1) := dk_42 (dk_at dksX0_goDay_3 20 rfl rfl)
theorem dX0_goDay_92 : decode cX0_goDay 92 = .ok (.getfield 38, 3) := dk_180 0 38 (dk_at dksX0_goDay_3 21 rfl rfl)
theorem dX0_goDay_95 : decode cX0_goDay 95 = .ok (.iload_n 1, 1) := dk_27 (dk_at dksX0_goDay_4 0 rfl rfl)
theorem dX0_goDay_96 : decode cX0_goDay 96 = .ok (.aload_n 0, 1) := dk_42 (dk_at dksX0_goDay_4 1 rfl rfl)
theorem dX0_goDay_97 : decode cX0_goDay 97 = .ok (.getfield 38, 3) := dk_180 0 38 (dk_at dksX0_goDay_4 2 rfl rfl)
theorem dX0_goDay_100 : decode cX0_goDay 100 = .ok (.iload_n 1, 1) := dk_27 (dk_at dksX0_goDay_4 5 rfl rfl)
theorem dX0_goDay_101 : decode cX0_goDay 101 = .ok (.iaload, 1) := dk_46 (dk_at dksX0_goDay_4 6 rfl rfl)
theorem dX0_goDay_102 : decode cX0_goDay 102 = .ok (.aload_n 0, 1) := dk_42 (dk_at dksX0_goDay_4 7 rfl rfl)
theorem dX0_goDay_103 : decode cX0_goDay 103 = .ok (.getfield 45, 3) := dk_180 0 45 (dk_at dksX0_goDay_4 8 rfl rfl)
theorem dX0_goDay_106 : decode cX0_goDay 106 = .ok (.iload_n 1, 1) := dk_27 (dk_at dksX0_goDay_4 11 rfl rfl)
theorem dX0_goDay_107 : decode cX0_goDay 107 = .ok (.iaload, 1) := dk_46 (dk_at dksX0_goDay_4 12 rfl rfl)
theorem dX0_goDay_108 : decode cX0_goDay 108 = .ok (.iadd, 1) := dk_96 (dk_at dksX0_goDay_4 13 rfl rfl)
theorem dX0_goDay_109 : decode cX0_goDay 109 = .ok (.aload_n 0, 1) := dk_42 (dk_at dksX0_goDay_4 14 rfl rfl)
theorem dX0_goDay_110 : decode cX0_goDay 110 = .ok (.getfield 13, 3) := dk_180 0 13 (dk_at dksX0_goDay_4 15 rfl rfl)
theorem dX0_goDay_113 : decode cX0_goDay 113 = .ok (.iload_n 1, 1) := dk_27 (dk_at dksX0_goDay_4 18 rfl rfl)
theorem dX0_goDay_114 : decode cX0_goDay 114 = .ok (.aaload, 1) := dk_50 (dk_at dksX0_goDay_4 19 rfl rfl)
theorem dX0_goDay_115 : decode cX0_goDay 115 = .ok (.getfield 111, 3) := dk_180 0 111 (dk_at dksX0_goDay_4 20 rfl rfl)
theorem dX0_goDay_118 : decode cX0_goDay 118 = .ok (.isub, 1) := dk_100 (dk_at dksX0_goDay_4 23 rfl rfl)
theorem dX0_goDay_119 : decode cX0_goDay 119 = .ok (.aload_n 0, 1) := dk_42 (dk_at dksX0_goDay_5 0 rfl rfl)
theorem dX0_goDay_120 : decode cX0_goDay 120 = .ok (.getfield 48, 3) := dk_180 0 48 (dk_at dksX0_goDay_5 1 rfl rfl)
theorem dX0_goDay_123 : decode cX0_goDay 123 = .ok (.iload_n 1, 1) := dk_27 (dk_at dksX0_goDay_5 4 rfl rfl)
theorem dX0_goDay_124 : decode cX0_goDay 124 = .ok (.iaload, 1) := dk_46 (dk_at dksX0_goDay_5 5 rfl rfl)
theorem dX0_goDay_125 : decode cX0_goDay 125 = .ok (.ifCond .ne 10, 3) := dk_154 0 10 (dk_at dksX0_goDay_5 6 rfl rfl)
theorem dX0_goDay_128 : decode cX0_goDay 128 = .ok (.aload_n 0, 1) := dk_42 (dk_at dksX0_goDay_5 9 rfl rfl)
theorem dX0_goDay_129 : decode cX0_goDay 129 = .ok (.getfield 17, 3) := dk_180 0 17 (dk_at dksX0_goDay_5 10 rfl rfl)
theorem dX0_goDay_132 : decode cX0_goDay 132 = .ok (.goto 4, 3) := dk_167 0 4 (dk_at dksX0_goDay_5 13 rfl rfl)
theorem dX0_goDay_135 : decode cX0_goDay 135 = .ok (.iconst 0, 1) := dk_3 (dk_at dksX0_goDay_5 16 rfl rfl)
theorem dX0_goDay_136 : decode cX0_goDay 136 = .ok (.isub, 1) := dk_100 (dk_at dksX0_goDay_5 17 rfl rfl)
theorem dX0_goDay_137 : decode cX0_goDay 137 = .ok (.invokestatic 261, 3) := dk_184 1 5 (dk_at dksX0_goDay_5 18 rfl rfl)
theorem dX0_goDay_140 : decode cX0_goDay 140 = .ok (.iastore, 1) := dk_79 (dk_at dksX0_goDay_5 21 rfl rfl)
theorem dX0_goDay_141 : decode cX0_goDay 141 = .ok (.iinc 1 1, 3) := dk_132 1 1 (dk_at dksX0_goDay_6 0 rfl rfl)
theorem dX0_goDay_144 : decode cX0_goDay 144 = .ok (.goto (-61), 3) := dk_167 255 195 (dk_at dksX0_goDay_6 3 rfl rfl)
theorem dX0_goDay_147 : decode cX0_goDay 147 = .ok (.aload_n 0, 1) := dk_42 (dk_at dksX0_goDay_6 6 rfl rfl)
theorem dX0_goDay_148 : decode cX0_goDay 148 = .ok (.bipush 99, 2) := dk_16 99 (dk_at dksX0_goDay_6 7 rfl rfl)
theorem dX0_goDay_150 : decode cX0_goDay 150 = .ok (.aload_n 0, 1) := dk_42 (dk_at dksX0_goDay_6 9 rfl rfl)
theorem dX0_goDay_151 : decode cX0_goDay 151 = .ok (.getfield 215, 3) := dk_180 0 215 (dk_at dksX0_goDay_6 10 rfl rfl)
theorem dX0_goDay_154 : decode cX0_goDay 154 = .ok (.iconst 1, 1) := dk_4 (dk_at dksX0_goDay_6 13 rfl rfl)
theorem dX0_goDay_155 : decode cX0_goDay 155 = .ok (.iadd, 1) := dk_96 (dk_at dksX0_goDay_6 14 rfl rfl)
theorem dX0_goDay_156 : decode cX0_goDay 156 = .ok (.invokestatic 246, 3) := dk_184 0 246 (dk_at dksX0_goDay_6 15 rfl rfl)
theorem dX0_goDay_159 : decode cX0_goDay 159 = .ok (.putfield 215, 3) := dk_181 0 215 (dk_at dksX0_goDay_6 18 rfl rfl)
theorem dX0_goDay_162 : decode cX0_goDay 162 = .ok (.return_, 1) := dk_177 (dk_at dksX0_goDay_6 21 rfl rfl)
abbrev cX0_held : ByteArray := prog_1_method_27_code
def yX0_held : MethodName := ⟨RX0, "held", "(I)I"⟩
def dkwX0_held_0 : List UInt8 := [3, 16, 99, 26, 184, 0, 246, 184, 0, 249, 172]
abbrev dktX0_held_0 : List UInt8 := dkwX0_held_0 ++ []
theorem dksX0_held_0 : cX0_held.data.toList.drop 0 = dktX0_held_0 := by decide +kernel
theorem dX0_held_0 : decode cX0_held 0 = .ok (.iconst 0, 1) := dk_3 (dk_at dksX0_held_0 0 rfl rfl)
theorem dX0_held_1 : decode cX0_held 1 = .ok (.bipush 99, 2) := dk_16 99 (dk_at dksX0_held_0 1 rfl rfl)
theorem dX0_held_3 : decode cX0_held 3 = .ok (.iload_n 0, 1) := dk_26 (dk_at dksX0_held_0 3 rfl rfl)
theorem dX0_held_4 : decode cX0_held 4 = .ok (.invokestatic 246, 3) := dk_184 0 246 (dk_at dksX0_held_0 4 rfl rfl)
theorem dX0_held_7 : decode cX0_held 7 = .ok (.invokestatic 249, 3) := dk_184 0 249 (dk_at dksX0_held_0 7 rfl rfl)
theorem dX0_held_10 : decode cX0_held 10 = .ok (.ireturn, 1) := dk_172 (dk_at dksX0_held_0 10 rfl rfl)
abbrev cX0_allStore : ByteArray := prog_1_method_32_code
def yX0_allStore : MethodName := ⟨RX0, "allStore", "()I"⟩
def dkwX0_allStore_1 : List UInt8 := [167, 255, 236, 27, 172]
abbrev dktX0_allStore_1 : List UInt8 := dkwX0_allStore_1 ++ []
def dkwX0_allStore_0 : List UInt8 := [3, 60, 3, 61, 28, 42, 180, 0, 85, 162, 0, 18, 27, 42, 180, 0, 38, 28, 46, 96, 60, 132, 2, 1]
abbrev dktX0_allStore_0 : List UInt8 := dkwX0_allStore_0 ++ dktX0_allStore_1
theorem dksX0_allStore_0 : cX0_allStore.data.toList.drop 0 = dktX0_allStore_0 := by decide +kernel
theorem dksX0_allStore_1 : cX0_allStore.data.toList.drop 24 = dktX0_allStore_1 := dk_seg dksX0_allStore_0 24 rfl rfl
theorem dX0_allStore_0 : decode cX0_allStore 0 = .ok (.iconst 0, 1) := dk_3 (dk_at dksX0_allStore_0 0 rfl rfl)
theorem dX0_allStore_1 : decode cX0_allStore 1 = .ok (.istore_n 1, 1) := dk_60 (dk_at dksX0_allStore_0 1 rfl rfl)
theorem dX0_allStore_2 : decode cX0_allStore 2 = .ok (.iconst 0, 1) := dk_3 (dk_at dksX0_allStore_0 2 rfl rfl)
theorem dX0_allStore_3 : decode cX0_allStore 3 = .ok (.istore_n 2, 1) := dk_61 (dk_at dksX0_allStore_0 3 rfl rfl)
theorem dX0_allStore_4 : decode cX0_allStore 4 = .ok (.iload_n 2, 1) := dk_28 (dk_at dksX0_allStore_0 4 rfl rfl)
theorem dX0_allStore_5 : decode cX0_allStore 5 = .ok (.aload_n 0, 1) := dk_42 (dk_at dksX0_allStore_0 5 rfl rfl)
theorem dX0_allStore_6 : decode cX0_allStore 6 = .ok (.getfield 85, 3) := dk_180 0 85 (dk_at dksX0_allStore_0 6 rfl rfl)
theorem dX0_allStore_9 : decode cX0_allStore 9 = .ok (.if_icmp .ge 18, 3) := dk_162 0 18 (dk_at dksX0_allStore_0 9 rfl rfl)
theorem dX0_allStore_12 : decode cX0_allStore 12 = .ok (.iload_n 1, 1) := dk_27 (dk_at dksX0_allStore_0 12 rfl rfl)
theorem dX0_allStore_13 : decode cX0_allStore 13 = .ok (.aload_n 0, 1) := dk_42 (dk_at dksX0_allStore_0 13 rfl rfl)
theorem dX0_allStore_14 : decode cX0_allStore 14 = .ok (.getfield 38, 3) := dk_180 0 38 (dk_at dksX0_allStore_0 14 rfl rfl)
theorem dX0_allStore_17 : decode cX0_allStore 17 = .ok (.iload_n 2, 1) := dk_28 (dk_at dksX0_allStore_0 17 rfl rfl)
theorem dX0_allStore_18 : decode cX0_allStore 18 = .ok (.iaload, 1) := dk_46 (dk_at dksX0_allStore_0 18 rfl rfl)
theorem dX0_allStore_19 : decode cX0_allStore 19 = .ok (.iadd, 1) := dk_96 (dk_at dksX0_allStore_0 19 rfl rfl)
theorem dX0_allStore_20 : decode cX0_allStore 20 = .ok (.istore_n 1, 1) := dk_60 (dk_at dksX0_allStore_0 20 rfl rfl)
theorem dX0_allStore_21 : decode cX0_allStore 21 = .ok (.iinc 2 1, 3) := dk_132 2 1 (dk_at dksX0_allStore_0 21 rfl rfl)
theorem dX0_allStore_24 : decode cX0_allStore 24 = .ok (.goto (-20), 3) := dk_167 255 236 (dk_at dksX0_allStore_1 0 rfl rfl)
theorem dX0_allStore_27 : decode cX0_allStore 27 = .ok (.iload_n 1, 1) := dk_27 (dk_at dksX0_allStore_1 3 rfl rfl)
theorem dX0_allStore_28 : decode cX0_allStore 28 = .ok (.ireturn, 1) := dk_172 (dk_at dksX0_allStore_1 4 rfl rfl)
abbrev cX0_lacking : ByteArray := prog_1_method_35_code
def yX0_lacking : MethodName := ⟨RX0, "lacking", "(I)I"⟩
def dkwX0_lacking_0 : List UInt8 := [27, 184, 1, 19, 154, 0, 5, 2, 172, 42, 182, 0, 252, 42, 27, 182, 1, 22, 42, 182, 1, 11, 172]
abbrev dktX0_lacking_0 : List UInt8 := dkwX0_lacking_0 ++ []
theorem dksX0_lacking_0 : cX0_lacking.data.toList.drop 0 = dktX0_lacking_0 := by decide +kernel
theorem dX0_lacking_0 : decode cX0_lacking 0 = .ok (.iload_n 1, 1) := dk_27 (dk_at dksX0_lacking_0 0 rfl rfl)
theorem dX0_lacking_1 : decode cX0_lacking 1 = .ok (.invokestatic 275, 3) := dk_184 1 19 (dk_at dksX0_lacking_0 1 rfl rfl)
theorem dX0_lacking_4 : decode cX0_lacking 4 = .ok (.ifCond .ne 5, 3) := dk_154 0 5 (dk_at dksX0_lacking_0 4 rfl rfl)
theorem dX0_lacking_7 : decode cX0_lacking 7 = .ok (.iconst (-1), 1) := dk_2 (dk_at dksX0_lacking_0 7 rfl rfl)
theorem dX0_lacking_8 : decode cX0_lacking 8 = .ok (.ireturn, 1) := dk_172 (dk_at dksX0_lacking_0 8 rfl rfl)
theorem dX0_lacking_9 : decode cX0_lacking 9 = .ok (.aload_n 0, 1) := dk_42 (dk_at dksX0_lacking_0 9 rfl rfl)
theorem dX0_lacking_10 : decode cX0_lacking 10 = .ok (.invokevirtual 252, 3) := dk_182 0 252 (dk_at dksX0_lacking_0 10 rfl rfl)
theorem dX0_lacking_13 : decode cX0_lacking 13 = .ok (.aload_n 0, 1) := dk_42 (dk_at dksX0_lacking_0 13 rfl rfl)
theorem dX0_lacking_14 : decode cX0_lacking 14 = .ok (.iload_n 1, 1) := dk_27 (dk_at dksX0_lacking_0 14 rfl rfl)
theorem dX0_lacking_15 : decode cX0_lacking 15 = .ok (.invokevirtual 278, 3) := dk_182 1 22 (dk_at dksX0_lacking_0 15 rfl rfl)
theorem dX0_lacking_18 : decode cX0_lacking 18 = .ok (.aload_n 0, 1) := dk_42 (dk_at dksX0_lacking_0 18 rfl rfl)
theorem dX0_lacking_19 : decode cX0_lacking 19 = .ok (.invokevirtual 267, 3) := dk_182 1 11 (dk_at dksX0_lacking_0 19 rfl rfl)
theorem dX0_lacking_22 : decode cX0_lacking 22 = .ok (.ireturn, 1) := dk_172 (dk_at dksX0_lacking_0 22 rfl rfl)
abbrev cX0_lackBits : ByteArray := prog_1_method_30_code
def yX0_lackBits : MethodName := ⟨RX0, "lackBits", "()I"⟩
def dkwX0_lackBits_1 : List UInt8 := [180, 0, 38, 28, 46, 154, 0, 9, 27, 4, 28, 120, 128, 60, 132, 2, 1, 167, 255, 219, 27, 172]
abbrev dktX0_lackBits_1 : List UInt8 := dkwX0_lackBits_1 ++ []
def dkwX0_lackBits_0 : List UInt8 := [3, 60, 3, 61, 28, 42, 180, 0, 85, 162, 0, 35, 42, 180, 0, 218, 28, 184, 0, 230, 153, 0, 18, 42]
abbrev dktX0_lackBits_0 : List UInt8 := dkwX0_lackBits_0 ++ dktX0_lackBits_1
theorem dksX0_lackBits_0 : cX0_lackBits.data.toList.drop 0 = dktX0_lackBits_0 := by decide +kernel
theorem dksX0_lackBits_1 : cX0_lackBits.data.toList.drop 24 = dktX0_lackBits_1 := dk_seg dksX0_lackBits_0 24 rfl rfl
theorem dX0_lackBits_0 : decode cX0_lackBits 0 = .ok (.iconst 0, 1) := dk_3 (dk_at dksX0_lackBits_0 0 rfl rfl)
theorem dX0_lackBits_1 : decode cX0_lackBits 1 = .ok (.istore_n 1, 1) := dk_60 (dk_at dksX0_lackBits_0 1 rfl rfl)
theorem dX0_lackBits_2 : decode cX0_lackBits 2 = .ok (.iconst 0, 1) := dk_3 (dk_at dksX0_lackBits_0 2 rfl rfl)
theorem dX0_lackBits_3 : decode cX0_lackBits 3 = .ok (.istore_n 2, 1) := dk_61 (dk_at dksX0_lackBits_0 3 rfl rfl)
theorem dX0_lackBits_4 : decode cX0_lackBits 4 = .ok (.iload_n 2, 1) := dk_28 (dk_at dksX0_lackBits_0 4 rfl rfl)
theorem dX0_lackBits_5 : decode cX0_lackBits 5 = .ok (.aload_n 0, 1) := dk_42 (dk_at dksX0_lackBits_0 5 rfl rfl)
theorem dX0_lackBits_6 : decode cX0_lackBits 6 = .ok (.getfield 85, 3) := dk_180 0 85 (dk_at dksX0_lackBits_0 6 rfl rfl)
theorem dX0_lackBits_9 : decode cX0_lackBits 9 = .ok (.if_icmp .ge 35, 3) := dk_162 0 35 (dk_at dksX0_lackBits_0 9 rfl rfl)
theorem dX0_lackBits_12 : decode cX0_lackBits 12 = .ok (.aload_n 0, 1) := dk_42 (dk_at dksX0_lackBits_0 12 rfl rfl)
theorem dX0_lackBits_13 : decode cX0_lackBits 13 = .ok (.getfield 218, 3) := dk_180 0 218 (dk_at dksX0_lackBits_0 13 rfl rfl)
theorem dX0_lackBits_16 : decode cX0_lackBits 16 = .ok (.iload_n 2, 1) := dk_28 (dk_at dksX0_lackBits_0 16 rfl rfl)
theorem dX0_lackBits_17 : decode cX0_lackBits 17 = .ok (.invokestatic 230, 3) := dk_184 0 230 (dk_at dksX0_lackBits_0 17 rfl rfl)
theorem dX0_lackBits_20 : decode cX0_lackBits 20 = .ok (.ifCond .eq 18, 3) := dk_153 0 18 (dk_at dksX0_lackBits_0 20 rfl rfl)
theorem dX0_lackBits_23 : decode cX0_lackBits 23 = .ok (.aload_n 0, 1) := dk_42 (dk_at dksX0_lackBits_0 23 rfl rfl)
theorem dX0_lackBits_24 : decode cX0_lackBits 24 = .ok (.getfield 38, 3) := dk_180 0 38 (dk_at dksX0_lackBits_1 0 rfl rfl)
theorem dX0_lackBits_27 : decode cX0_lackBits 27 = .ok (.iload_n 2, 1) := dk_28 (dk_at dksX0_lackBits_1 3 rfl rfl)
theorem dX0_lackBits_28 : decode cX0_lackBits 28 = .ok (.iaload, 1) := dk_46 (dk_at dksX0_lackBits_1 4 rfl rfl)
theorem dX0_lackBits_29 : decode cX0_lackBits 29 = .ok (.ifCond .ne 9, 3) := dk_154 0 9 (dk_at dksX0_lackBits_1 5 rfl rfl)
theorem dX0_lackBits_32 : decode cX0_lackBits 32 = .ok (.iload_n 1, 1) := dk_27 (dk_at dksX0_lackBits_1 8 rfl rfl)
theorem dX0_lackBits_33 : decode cX0_lackBits 33 = .ok (.iconst 1, 1) := dk_4 (dk_at dksX0_lackBits_1 9 rfl rfl)
theorem dX0_lackBits_34 : decode cX0_lackBits 34 = .ok (.iload_n 2, 1) := dk_28 (dk_at dksX0_lackBits_1 10 rfl rfl)
theorem dX0_lackBits_35 : decode cX0_lackBits 35 = .ok (.ishl, 1) := dk_120 (dk_at dksX0_lackBits_1 11 rfl rfl)
theorem dX0_lackBits_36 : decode cX0_lackBits 36 = .ok (.ior, 1) := dk_128 (dk_at dksX0_lackBits_1 12 rfl rfl)
theorem dX0_lackBits_37 : decode cX0_lackBits 37 = .ok (.istore_n 1, 1) := dk_60 (dk_at dksX0_lackBits_1 13 rfl rfl)
theorem dX0_lackBits_38 : decode cX0_lackBits 38 = .ok (.iinc 2 1, 3) := dk_132 2 1 (dk_at dksX0_lackBits_1 14 rfl rfl)
theorem dX0_lackBits_41 : decode cX0_lackBits 41 = .ok (.goto (-37), 3) := dk_167 255 219 (dk_at dksX0_lackBits_1 17 rfl rfl)
theorem dX0_lackBits_44 : decode cX0_lackBits 44 = .ok (.iload_n 1, 1) := dk_27 (dk_at dksX0_lackBits_1 20 rfl rfl)
theorem dX0_lackBits_45 : decode cX0_lackBits 45 = .ok (.ireturn, 1) := dk_172 (dk_at dksX0_lackBits_1 21 rfl rfl)
abbrev cX0_first : ByteArray := prog_1_method_36_code
def yX0_first : MethodName := ⟨RX0, "first", "(I)I"⟩
def dkwX0_first_3 : List UInt8 := [16, 254, 172]
abbrev dktX0_first_3 : List UInt8 := dkwX0_first_3 ++ []
def dkwX0_first_2 : List UInt8 := [155, 0, 13, 29, 27, 184, 0, 230, 153, 0, 5, 28, 172, 42, 182, 1, 8, 132, 2, 1, 167, 255, 211]
abbrev dktX0_first_2 : List UInt8 := dkwX0_first_2 ++ dktX0_first_3
def dkwX0_first_1 : List UInt8 := [16, 40, 163, 0, 45, 42, 182, 1, 11, 62, 27, 156, 0, 12, 29, 153, 0, 8, 29, 184, 1, 28, 172, 27]
abbrev dktX0_first_1 : List UInt8 := dkwX0_first_1 ++ dktX0_first_2
def dkwX0_first_0 : List UInt8 := [27, 2, 42, 180, 0, 85, 4, 100, 184, 0, 81, 154, 0, 5, 2, 172, 42, 182, 0, 252, 3, 61, 28]
abbrev dktX0_first_0 : List UInt8 := dkwX0_first_0 ++ dktX0_first_1
theorem dksX0_first_0 : cX0_first.data.toList.drop 0 = dktX0_first_0 := by decide +kernel
theorem dksX0_first_1 : cX0_first.data.toList.drop 23 = dktX0_first_1 := dk_seg dksX0_first_0 23 rfl rfl
theorem dksX0_first_2 : cX0_first.data.toList.drop 47 = dktX0_first_2 := dk_seg dksX0_first_1 24 rfl rfl
theorem dksX0_first_3 : cX0_first.data.toList.drop 70 = dktX0_first_3 := dk_seg dksX0_first_2 23 rfl rfl
theorem dX0_first_0 : decode cX0_first 0 = .ok (.iload_n 1, 1) := dk_27 (dk_at dksX0_first_0 0 rfl rfl)
theorem dX0_first_1 : decode cX0_first 1 = .ok (.iconst (-1), 1) := dk_2 (dk_at dksX0_first_0 1 rfl rfl)
theorem dX0_first_2 : decode cX0_first 2 = .ok (.aload_n 0, 1) := dk_42 (dk_at dksX0_first_0 2 rfl rfl)
theorem dX0_first_3 : decode cX0_first 3 = .ok (.getfield 85, 3) := dk_180 0 85 (dk_at dksX0_first_0 3 rfl rfl)
theorem dX0_first_6 : decode cX0_first 6 = .ok (.iconst 1, 1) := dk_4 (dk_at dksX0_first_0 6 rfl rfl)
theorem dX0_first_7 : decode cX0_first 7 = .ok (.isub, 1) := dk_100 (dk_at dksX0_first_0 7 rfl rfl)
theorem dX0_first_8 : decode cX0_first 8 = .ok (.invokestatic 81, 3) := dk_184 0 81 (dk_at dksX0_first_0 8 rfl rfl)
theorem dX0_first_11 : decode cX0_first 11 = .ok (.ifCond .ne 5, 3) := dk_154 0 5 (dk_at dksX0_first_0 11 rfl rfl)
theorem dX0_first_14 : decode cX0_first 14 = .ok (.iconst (-1), 1) := dk_2 (dk_at dksX0_first_0 14 rfl rfl)
theorem dX0_first_15 : decode cX0_first 15 = .ok (.ireturn, 1) := dk_172 (dk_at dksX0_first_0 15 rfl rfl)
theorem dX0_first_16 : decode cX0_first 16 = .ok (.aload_n 0, 1) := dk_42 (dk_at dksX0_first_0 16 rfl rfl)
theorem dX0_first_17 : decode cX0_first 17 = .ok (.invokevirtual 252, 3) := dk_182 0 252 (dk_at dksX0_first_0 17 rfl rfl)
theorem dX0_first_20 : decode cX0_first 20 = .ok (.iconst 0, 1) := dk_3 (dk_at dksX0_first_0 20 rfl rfl)
theorem dX0_first_21 : decode cX0_first 21 = .ok (.istore_n 2, 1) := dk_61 (dk_at dksX0_first_0 21 rfl rfl)
theorem dX0_first_22 : decode cX0_first 22 = .ok (.iload_n 2, 1) := dk_28 (dk_at dksX0_first_0 22 rfl rfl)
theorem dX0_first_23 : decode cX0_first 23 = .ok (.bipush 40, 2) := dk_16 40 (dk_at dksX0_first_1 0 rfl rfl)
theorem dX0_first_25 : decode cX0_first 25 = .ok (.if_icmp .gt 45, 3) := dk_163 0 45 (dk_at dksX0_first_1 2 rfl rfl)
theorem dX0_first_28 : decode cX0_first 28 = .ok (.aload_n 0, 1) := dk_42 (dk_at dksX0_first_1 5 rfl rfl)
theorem dX0_first_29 : decode cX0_first 29 = .ok (.invokevirtual 267, 3) := dk_182 1 11 (dk_at dksX0_first_1 6 rfl rfl)
theorem dX0_first_32 : decode cX0_first 32 = .ok (.istore_n 3, 1) := dk_62 (dk_at dksX0_first_1 9 rfl rfl)
theorem dX0_first_33 : decode cX0_first 33 = .ok (.iload_n 1, 1) := dk_27 (dk_at dksX0_first_1 10 rfl rfl)
theorem dX0_first_34 : decode cX0_first 34 = .ok (.ifCond .ge 12, 3) := dk_156 0 12 (dk_at dksX0_first_1 11 rfl rfl)
theorem dX0_first_37 : decode cX0_first 37 = .ok (.iload_n 3, 1) := dk_29 (dk_at dksX0_first_1 14 rfl rfl)
theorem dX0_first_38 : decode cX0_first 38 = .ok (.ifCond .eq 8, 3) := dk_153 0 8 (dk_at dksX0_first_1 15 rfl rfl)
theorem dX0_first_41 : decode cX0_first 41 = .ok (.iload_n 3, 1) := dk_29 (dk_at dksX0_first_1 18 rfl rfl)
theorem dX0_first_42 : decode cX0_first 42 = .ok (.invokestatic 284, 3) := dk_184 1 28 (dk_at dksX0_first_1 19 rfl rfl)
theorem dX0_first_45 : decode cX0_first 45 = .ok (.ireturn, 1) := dk_172 (dk_at dksX0_first_1 22 rfl rfl)
theorem dX0_first_46 : decode cX0_first 46 = .ok (.iload_n 1, 1) := dk_27 (dk_at dksX0_first_1 23 rfl rfl)
theorem dX0_first_47 : decode cX0_first 47 = .ok (.ifCond .lt 13, 3) := dk_155 0 13 (dk_at dksX0_first_2 0 rfl rfl)
theorem dX0_first_50 : decode cX0_first 50 = .ok (.iload_n 3, 1) := dk_29 (dk_at dksX0_first_2 3 rfl rfl)
theorem dX0_first_51 : decode cX0_first 51 = .ok (.iload_n 1, 1) := dk_27 (dk_at dksX0_first_2 4 rfl rfl)
theorem dX0_first_52 : decode cX0_first 52 = .ok (.invokestatic 230, 3) := dk_184 0 230 (dk_at dksX0_first_2 5 rfl rfl)
theorem dX0_first_55 : decode cX0_first 55 = .ok (.ifCond .eq 5, 3) := dk_153 0 5 (dk_at dksX0_first_2 8 rfl rfl)
theorem dX0_first_58 : decode cX0_first 58 = .ok (.iload_n 2, 1) := dk_28 (dk_at dksX0_first_2 11 rfl rfl)
theorem dX0_first_59 : decode cX0_first 59 = .ok (.ireturn, 1) := dk_172 (dk_at dksX0_first_2 12 rfl rfl)
theorem dX0_first_60 : decode cX0_first 60 = .ok (.aload_n 0, 1) := dk_42 (dk_at dksX0_first_2 13 rfl rfl)
theorem dX0_first_61 : decode cX0_first 61 = .ok (.invokevirtual 264, 3) := dk_182 1 8 (dk_at dksX0_first_2 14 rfl rfl)
theorem dX0_first_64 : decode cX0_first 64 = .ok (.iinc 2 1, 3) := dk_132 2 1 (dk_at dksX0_first_2 17 rfl rfl)
theorem dX0_first_67 : decode cX0_first 67 = .ok (.goto (-45), 3) := dk_167 255 211 (dk_at dksX0_first_2 20 rfl rfl)
theorem dX0_first_70 : decode cX0_first 70 = .ok (.bipush (-2), 2) := dk_16 254 (dk_at dksX0_first_3 0 rfl rfl)
theorem dX0_first_72 : decode cX0_first 72 = .ok (.ireturn, 1) := dk_172 (dk_at dksX0_first_3 2 rfl rfl)
abbrev cX0_care : ByteArray := prog_1_method_39_code
def yX0_care : MethodName := ⟨RX0, "care", "(II)I"⟩
def dkwX0_care_1 : List UInt8 := [154, 0, 11, 42, 27, 182, 1, 31, 167, 0, 8, 42, 27, 182, 1, 34, 172]
abbrev dktX0_care_1 : List UInt8 := dkwX0_care_1 ++ []
def dkwX0_care_0 : List UInt8 := [42, 27, 182, 0, 156, 153, 0, 12, 28, 3, 4, 184, 0, 81, 154, 0, 7, 2, 167, 0, 20, 28]
abbrev dktX0_care_0 : List UInt8 := dkwX0_care_0 ++ dktX0_care_1
theorem dksX0_care_0 : cX0_care.data.toList.drop 0 = dktX0_care_0 := by decide +kernel
theorem dksX0_care_1 : cX0_care.data.toList.drop 22 = dktX0_care_1 := dk_seg dksX0_care_0 22 rfl rfl
theorem dX0_care_0 : decode cX0_care 0 = .ok (.aload_n 0, 1) := dk_42 (dk_at dksX0_care_0 0 rfl rfl)
theorem dX0_care_1 : decode cX0_care 1 = .ok (.iload_n 1, 1) := dk_27 (dk_at dksX0_care_0 1 rfl rfl)
theorem dX0_care_2 : decode cX0_care 2 = .ok (.invokevirtual 156, 3) := dk_182 0 156 (dk_at dksX0_care_0 2 rfl rfl)
theorem dX0_care_5 : decode cX0_care 5 = .ok (.ifCond .eq 12, 3) := dk_153 0 12 (dk_at dksX0_care_0 5 rfl rfl)
theorem dX0_care_8 : decode cX0_care 8 = .ok (.iload_n 2, 1) := dk_28 (dk_at dksX0_care_0 8 rfl rfl)
theorem dX0_care_9 : decode cX0_care 9 = .ok (.iconst 0, 1) := dk_3 (dk_at dksX0_care_0 9 rfl rfl)
theorem dX0_care_10 : decode cX0_care 10 = .ok (.iconst 1, 1) := dk_4 (dk_at dksX0_care_0 10 rfl rfl)
theorem dX0_care_11 : decode cX0_care 11 = .ok (.invokestatic 81, 3) := dk_184 0 81 (dk_at dksX0_care_0 11 rfl rfl)
theorem dX0_care_14 : decode cX0_care 14 = .ok (.ifCond .ne 7, 3) := dk_154 0 7 (dk_at dksX0_care_0 14 rfl rfl)
theorem dX0_care_17 : decode cX0_care 17 = .ok (.iconst (-1), 1) := dk_2 (dk_at dksX0_care_0 17 rfl rfl)
theorem dX0_care_18 : decode cX0_care 18 = .ok (.goto 20, 3) := dk_167 0 20 (dk_at dksX0_care_0 18 rfl rfl)
theorem dX0_care_21 : decode cX0_care 21 = .ok (.iload_n 2, 1) := dk_28 (dk_at dksX0_care_0 21 rfl rfl)
theorem dX0_care_22 : decode cX0_care 22 = .ok (.ifCond .ne 11, 3) := dk_154 0 11 (dk_at dksX0_care_1 0 rfl rfl)
theorem dX0_care_25 : decode cX0_care 25 = .ok (.aload_n 0, 1) := dk_42 (dk_at dksX0_care_1 3 rfl rfl)
theorem dX0_care_26 : decode cX0_care 26 = .ok (.iload_n 1, 1) := dk_27 (dk_at dksX0_care_1 4 rfl rfl)
theorem dX0_care_27 : decode cX0_care 27 = .ok (.invokevirtual 287, 3) := dk_182 1 31 (dk_at dksX0_care_1 5 rfl rfl)
theorem dX0_care_30 : decode cX0_care 30 = .ok (.goto 8, 3) := dk_167 0 8 (dk_at dksX0_care_1 8 rfl rfl)
theorem dX0_care_33 : decode cX0_care 33 = .ok (.aload_n 0, 1) := dk_42 (dk_at dksX0_care_1 11 rfl rfl)
theorem dX0_care_34 : decode cX0_care 34 = .ok (.iload_n 1, 1) := dk_27 (dk_at dksX0_care_1 12 rfl rfl)
theorem dX0_care_35 : decode cX0_care 35 = .ok (.invokevirtual 290, 3) := dk_182 1 34 (dk_at dksX0_care_1 13 rfl rfl)
theorem dX0_care_38 : decode cX0_care 38 = .ok (.ireturn, 1) := dk_172 (dk_at dksX0_care_1 16 rfl rfl)
abbrev cX0_endOf : ByteArray := prog_1_method_37_code
def yX0_endOf : MethodName := ⟨RX0, "endOf", "(I)I"⟩
def dkwX0_endOf_1 : List UInt8 := [28, 172, 42, 180, 0, 13, 28, 50, 180, 0, 126, 61, 132, 3, 1, 167, 255, 221, 16, 254, 172]
abbrev dktX0_endOf_1 : List UInt8 := dkwX0_endOf_1 ++ []
def dkwX0_endOf_0 : List UInt8 := [27, 61, 3, 62, 29, 42, 180, 0, 85, 162, 0, 33, 42, 180, 0, 13, 28, 50, 180, 0, 126, 156, 0, 5]
abbrev dktX0_endOf_0 : List UInt8 := dkwX0_endOf_0 ++ dktX0_endOf_1
theorem dksX0_endOf_0 : cX0_endOf.data.toList.drop 0 = dktX0_endOf_0 := by decide +kernel
theorem dksX0_endOf_1 : cX0_endOf.data.toList.drop 24 = dktX0_endOf_1 := dk_seg dksX0_endOf_0 24 rfl rfl
theorem dX0_endOf_0 : decode cX0_endOf 0 = .ok (.iload_n 1, 1) := dk_27 (dk_at dksX0_endOf_0 0 rfl rfl)
theorem dX0_endOf_1 : decode cX0_endOf 1 = .ok (.istore_n 2, 1) := dk_61 (dk_at dksX0_endOf_0 1 rfl rfl)
theorem dX0_endOf_2 : decode cX0_endOf 2 = .ok (.iconst 0, 1) := dk_3 (dk_at dksX0_endOf_0 2 rfl rfl)
theorem dX0_endOf_3 : decode cX0_endOf 3 = .ok (.istore_n 3, 1) := dk_62 (dk_at dksX0_endOf_0 3 rfl rfl)
theorem dX0_endOf_4 : decode cX0_endOf 4 = .ok (.iload_n 3, 1) := dk_29 (dk_at dksX0_endOf_0 4 rfl rfl)
theorem dX0_endOf_5 : decode cX0_endOf 5 = .ok (.aload_n 0, 1) := dk_42 (dk_at dksX0_endOf_0 5 rfl rfl)
theorem dX0_endOf_6 : decode cX0_endOf 6 = .ok (.getfield 85, 3) := dk_180 0 85 (dk_at dksX0_endOf_0 6 rfl rfl)
theorem dX0_endOf_9 : decode cX0_endOf 9 = .ok (.if_icmp .ge 33, 3) := dk_162 0 33 (dk_at dksX0_endOf_0 9 rfl rfl)
theorem dX0_endOf_12 : decode cX0_endOf 12 = .ok (.aload_n 0, 1) := dk_42 (dk_at dksX0_endOf_0 12 rfl rfl)
theorem dX0_endOf_13 : decode cX0_endOf 13 = .ok (.getfield 13, 3) := dk_180 0 13 (dk_at dksX0_endOf_0 13 rfl rfl)
theorem dX0_endOf_16 : decode cX0_endOf 16 = .ok (.iload_n 2, 1) := dk_28 (dk_at dksX0_endOf_0 16 rfl rfl)
theorem dX0_endOf_17 : decode cX0_endOf 17 = .ok (.aaload, 1) := dk_50 (dk_at dksX0_endOf_0 17 rfl rfl)
theorem dX0_endOf_18 : decode cX0_endOf 18 = .ok (.getfield 126, 3) := dk_180 0 126 (dk_at dksX0_endOf_0 18 rfl rfl)
theorem dX0_endOf_21 : decode cX0_endOf 21 = .ok (.ifCond .ge 5, 3) := dk_156 0 5 (dk_at dksX0_endOf_0 21 rfl rfl)
theorem dX0_endOf_24 : decode cX0_endOf 24 = .ok (.iload_n 2, 1) := dk_28 (dk_at dksX0_endOf_1 0 rfl rfl)
theorem dX0_endOf_25 : decode cX0_endOf 25 = .ok (.ireturn, 1) := dk_172 (dk_at dksX0_endOf_1 1 rfl rfl)
theorem dX0_endOf_26 : decode cX0_endOf 26 = .ok (.aload_n 0, 1) := dk_42 (dk_at dksX0_endOf_1 2 rfl rfl)
theorem dX0_endOf_27 : decode cX0_endOf 27 = .ok (.getfield 13, 3) := dk_180 0 13 (dk_at dksX0_endOf_1 3 rfl rfl)
theorem dX0_endOf_30 : decode cX0_endOf 30 = .ok (.iload_n 2, 1) := dk_28 (dk_at dksX0_endOf_1 6 rfl rfl)
theorem dX0_endOf_31 : decode cX0_endOf 31 = .ok (.aaload, 1) := dk_50 (dk_at dksX0_endOf_1 7 rfl rfl)
theorem dX0_endOf_32 : decode cX0_endOf 32 = .ok (.getfield 126, 3) := dk_180 0 126 (dk_at dksX0_endOf_1 8 rfl rfl)
theorem dX0_endOf_35 : decode cX0_endOf 35 = .ok (.istore_n 2, 1) := dk_61 (dk_at dksX0_endOf_1 11 rfl rfl)
theorem dX0_endOf_36 : decode cX0_endOf 36 = .ok (.iinc 3 1, 3) := dk_132 3 1 (dk_at dksX0_endOf_1 12 rfl rfl)
theorem dX0_endOf_39 : decode cX0_endOf 39 = .ok (.goto (-35), 3) := dk_167 255 221 (dk_at dksX0_endOf_1 15 rfl rfl)
theorem dX0_endOf_42 : decode cX0_endOf 42 = .ok (.bipush (-2), 2) := dk_16 254 (dk_at dksX0_endOf_1 18 rfl rfl)
theorem dX0_endOf_44 : decode cX0_endOf 44 = .ok (.ireturn, 1) := dk_172 (dk_at dksX0_endOf_1 20 rfl rfl)
abbrev cX0_ringOf : ByteArray := prog_1_method_38_code
def yX0_ringOf : MethodName := ⟨RX0, "ringOf", "(I)I"⟩
def dkwX0_ringOf_1 : List UInt8 := [160, 0, 5, 29, 172, 28, 156, 0, 6, 16, 254, 172, 132, 3, 1, 167, 255, 221, 16, 254, 172]
abbrev dktX0_ringOf_1 : List UInt8 := dkwX0_ringOf_1 ++ []
def dkwX0_ringOf_0 : List UInt8 := [27, 61, 4, 62, 29, 42, 180, 0, 85, 163, 0, 33, 42, 180, 0, 13, 28, 50, 180, 0, 126, 61, 28, 27]
abbrev dktX0_ringOf_0 : List UInt8 := dkwX0_ringOf_0 ++ dktX0_ringOf_1
theorem dksX0_ringOf_0 : cX0_ringOf.data.toList.drop 0 = dktX0_ringOf_0 := by decide +kernel
theorem dksX0_ringOf_1 : cX0_ringOf.data.toList.drop 24 = dktX0_ringOf_1 := dk_seg dksX0_ringOf_0 24 rfl rfl
theorem dX0_ringOf_0 : decode cX0_ringOf 0 = .ok (.iload_n 1, 1) := dk_27 (dk_at dksX0_ringOf_0 0 rfl rfl)
theorem dX0_ringOf_1 : decode cX0_ringOf 1 = .ok (.istore_n 2, 1) := dk_61 (dk_at dksX0_ringOf_0 1 rfl rfl)
theorem dX0_ringOf_2 : decode cX0_ringOf 2 = .ok (.iconst 1, 1) := dk_4 (dk_at dksX0_ringOf_0 2 rfl rfl)
theorem dX0_ringOf_3 : decode cX0_ringOf 3 = .ok (.istore_n 3, 1) := dk_62 (dk_at dksX0_ringOf_0 3 rfl rfl)
theorem dX0_ringOf_4 : decode cX0_ringOf 4 = .ok (.iload_n 3, 1) := dk_29 (dk_at dksX0_ringOf_0 4 rfl rfl)
theorem dX0_ringOf_5 : decode cX0_ringOf 5 = .ok (.aload_n 0, 1) := dk_42 (dk_at dksX0_ringOf_0 5 rfl rfl)
theorem dX0_ringOf_6 : decode cX0_ringOf 6 = .ok (.getfield 85, 3) := dk_180 0 85 (dk_at dksX0_ringOf_0 6 rfl rfl)
theorem dX0_ringOf_9 : decode cX0_ringOf 9 = .ok (.if_icmp .gt 33, 3) := dk_163 0 33 (dk_at dksX0_ringOf_0 9 rfl rfl)
theorem dX0_ringOf_12 : decode cX0_ringOf 12 = .ok (.aload_n 0, 1) := dk_42 (dk_at dksX0_ringOf_0 12 rfl rfl)
theorem dX0_ringOf_13 : decode cX0_ringOf 13 = .ok (.getfield 13, 3) := dk_180 0 13 (dk_at dksX0_ringOf_0 13 rfl rfl)
theorem dX0_ringOf_16 : decode cX0_ringOf 16 = .ok (.iload_n 2, 1) := dk_28 (dk_at dksX0_ringOf_0 16 rfl rfl)
theorem dX0_ringOf_17 : decode cX0_ringOf 17 = .ok (.aaload, 1) := dk_50 (dk_at dksX0_ringOf_0 17 rfl rfl)
theorem dX0_ringOf_18 : decode cX0_ringOf 18 = .ok (.getfield 126, 3) := dk_180 0 126 (dk_at dksX0_ringOf_0 18 rfl rfl)
theorem dX0_ringOf_21 : decode cX0_ringOf 21 = .ok (.istore_n 2, 1) := dk_61 (dk_at dksX0_ringOf_0 21 rfl rfl)
theorem dX0_ringOf_22 : decode cX0_ringOf 22 = .ok (.iload_n 2, 1) := dk_28 (dk_at dksX0_ringOf_0 22 rfl rfl)
theorem dX0_ringOf_23 : decode cX0_ringOf 23 = .ok (.iload_n 1, 1) := dk_27 (dk_at dksX0_ringOf_0 23 rfl rfl)
theorem dX0_ringOf_24 : decode cX0_ringOf 24 = .ok (.if_icmp .ne 5, 3) := dk_160 0 5 (dk_at dksX0_ringOf_1 0 rfl rfl)
theorem dX0_ringOf_27 : decode cX0_ringOf 27 = .ok (.iload_n 3, 1) := dk_29 (dk_at dksX0_ringOf_1 3 rfl rfl)
theorem dX0_ringOf_28 : decode cX0_ringOf 28 = .ok (.ireturn, 1) := dk_172 (dk_at dksX0_ringOf_1 4 rfl rfl)
theorem dX0_ringOf_29 : decode cX0_ringOf 29 = .ok (.iload_n 2, 1) := dk_28 (dk_at dksX0_ringOf_1 5 rfl rfl)
theorem dX0_ringOf_30 : decode cX0_ringOf 30 = .ok (.ifCond .ge 6, 3) := dk_156 0 6 (dk_at dksX0_ringOf_1 6 rfl rfl)
theorem dX0_ringOf_33 : decode cX0_ringOf 33 = .ok (.bipush (-2), 2) := dk_16 254 (dk_at dksX0_ringOf_1 9 rfl rfl)
theorem dX0_ringOf_35 : decode cX0_ringOf 35 = .ok (.ireturn, 1) := dk_172 (dk_at dksX0_ringOf_1 11 rfl rfl)
theorem dX0_ringOf_36 : decode cX0_ringOf 36 = .ok (.iinc 3 1, 3) := dk_132 3 1 (dk_at dksX0_ringOf_1 12 rfl rfl)
theorem dX0_ringOf_39 : decode cX0_ringOf 39 = .ok (.goto (-35), 3) := dk_167 255 221 (dk_at dksX0_ringOf_1 15 rfl rfl)
theorem dX0_ringOf_42 : decode cX0_ringOf 42 = .ok (.bipush (-2), 2) := dk_16 254 (dk_at dksX0_ringOf_1 18 rfl rfl)
theorem dX0_ringOf_44 : decode cX0_ringOf 44 = .ok (.ireturn, 1) := dk_172 (dk_at dksX0_ringOf_1 20 rfl rfl)
abbrev cX0_cared : ByteArray := prog_1_method_40_code
def yX0_cared : MethodName := ⟨RX0, "cared", "(I)I"⟩
def dkwX0_cared_2 : List UInt8 := [180, 0, 48, 29, 46, 4, 164, 0, 9, 28, 4, 29, 120, 128, 61, 132, 3, 1, 167, 255, 213, 28, 172]
abbrev dktX0_cared_2 : List UInt8 := dkwX0_cared_2 ++ []
def dkwX0_cared_1 : List UInt8 := [42, 180, 0, 85, 162, 0, 41, 27, 154, 0, 15, 42, 180, 0, 48, 29, 46, 154, 0, 22, 167, 0, 13, 42]
abbrev dktX0_cared_1 : List UInt8 := dkwX0_cared_1 ++ dktX0_cared_2
def dkwX0_cared_0 : List UInt8 := [27, 3, 4, 184, 0, 81, 154, 0, 5, 2, 172, 42, 182, 0, 252, 42, 182, 0, 255, 3, 61, 3, 62, 29]
abbrev dktX0_cared_0 : List UInt8 := dkwX0_cared_0 ++ dktX0_cared_1
theorem dksX0_cared_0 : cX0_cared.data.toList.drop 0 = dktX0_cared_0 := by decide +kernel
theorem dksX0_cared_1 : cX0_cared.data.toList.drop 24 = dktX0_cared_1 := dk_seg dksX0_cared_0 24 rfl rfl
theorem dksX0_cared_2 : cX0_cared.data.toList.drop 48 = dktX0_cared_2 := dk_seg dksX0_cared_1 24 rfl rfl
theorem dX0_cared_0 : decode cX0_cared 0 = .ok (.iload_n 1, 1) := dk_27 (dk_at dksX0_cared_0 0 rfl rfl)
theorem dX0_cared_1 : decode cX0_cared 1 = .ok (.iconst 0, 1) := dk_3 (dk_at dksX0_cared_0 1 rfl rfl)
theorem dX0_cared_2 : decode cX0_cared 2 = .ok (.iconst 1, 1) := dk_4 (dk_at dksX0_cared_0 2 rfl rfl)
theorem dX0_cared_3 : decode cX0_cared 3 = .ok (.invokestatic 81, 3) := dk_184 0 81 (dk_at dksX0_cared_0 3 rfl rfl)
theorem dX0_cared_6 : decode cX0_cared 6 = .ok (.ifCond .ne 5, 3) := dk_154 0 5 (dk_at dksX0_cared_0 6 rfl rfl)
theorem dX0_cared_9 : decode cX0_cared 9 = .ok (.iconst (-1), 1) := dk_2 (dk_at dksX0_cared_0 9 rfl rfl)
theorem dX0_cared_10 : decode cX0_cared 10 = .ok (.ireturn, 1) := dk_172 (dk_at dksX0_cared_0 10 rfl rfl)
theorem dX0_cared_11 : decode cX0_cared 11 = .ok (.aload_n 0, 1) := dk_42 (dk_at dksX0_cared_0 11 rfl rfl)
theorem dX0_cared_12 : decode cX0_cared 12 = .ok (.invokevirtual 252, 3) := dk_182 0 252 (dk_at dksX0_cared_0 12 rfl rfl)
theorem dX0_cared_15 : decode cX0_cared 15 = .ok (.aload_n 0, 1) := dk_42 (dk_at dksX0_cared_0 15 rfl rfl)
theorem dX0_cared_16 : decode cX0_cared 16 = .ok (.invokevirtual 255, 3) := dk_182 0 255 (dk_at dksX0_cared_0 16 rfl rfl)
theorem dX0_cared_19 : decode cX0_cared 19 = .ok (.iconst 0, 1) := dk_3 (dk_at dksX0_cared_0 19 rfl rfl)
theorem dX0_cared_20 : decode cX0_cared 20 = .ok (.istore_n 2, 1) := dk_61 (dk_at dksX0_cared_0 20 rfl rfl)
theorem dX0_cared_21 : decode cX0_cared 21 = .ok (.iconst 0, 1) := dk_3 (dk_at dksX0_cared_0 21 rfl rfl)
theorem dX0_cared_22 : decode cX0_cared 22 = .ok (.istore_n 3, 1) := dk_62 (dk_at dksX0_cared_0 22 rfl rfl)
theorem dX0_cared_23 : decode cX0_cared 23 = .ok (.iload_n 3, 1) := dk_29 (dk_at dksX0_cared_0 23 rfl rfl)
theorem dX0_cared_24 : decode cX0_cared 24 = .ok (.aload_n 0, 1) := dk_42 (dk_at dksX0_cared_1 0 rfl rfl)
theorem dX0_cared_25 : decode cX0_cared 25 = .ok (.getfield 85, 3) := dk_180 0 85 (dk_at dksX0_cared_1 1 rfl rfl)
theorem dX0_cared_28 : decode cX0_cared 28 = .ok (.if_icmp .ge 41, 3) := dk_162 0 41 (dk_at dksX0_cared_1 4 rfl rfl)
theorem dX0_cared_31 : decode cX0_cared 31 = .ok (.iload_n 1, 1) := dk_27 (dk_at dksX0_cared_1 7 rfl rfl)
theorem dX0_cared_32 : decode cX0_cared 32 = .ok (.ifCond .ne 15, 3) := dk_154 0 15 (dk_at dksX0_cared_1 8 rfl rfl)
theorem dX0_cared_35 : decode cX0_cared 35 = .ok (.aload_n 0, 1) := dk_42 (dk_at dksX0_cared_1 11 rfl rfl)
theorem dX0_cared_36 : decode cX0_cared 36 = .ok (.getfield 48, 3) := dk_180 0 48 (dk_at dksX0_cared_1 12 rfl rfl)
theorem dX0_cared_39 : decode cX0_cared 39 = .ok (.iload_n 3, 1) := dk_29 (dk_at dksX0_cared_1 15 rfl rfl)
theorem dX0_cared_40 : decode cX0_cared 40 = .ok (.iaload, 1) := dk_46 (dk_at dksX0_cared_1 16 rfl rfl)
theorem dX0_cared_41 : decode cX0_cared 41 = .ok (.ifCond .ne 22, 3) := dk_154 0 22 (dk_at dksX0_cared_1 17 rfl rfl)
theorem dX0_cared_44 : decode cX0_cared 44 = .ok (.goto 13, 3) := dk_167 0 13 (dk_at dksX0_cared_1 20 rfl rfl)
theorem dX0_cared_47 : decode cX0_cared 47 = .ok (.aload_n 0, 1) := dk_42 (dk_at dksX0_cared_1 23 rfl rfl)
theorem dX0_cared_48 : decode cX0_cared 48 = .ok (.getfield 48, 3) := dk_180 0 48 (dk_at dksX0_cared_2 0 rfl rfl)
theorem dX0_cared_51 : decode cX0_cared 51 = .ok (.iload_n 3, 1) := dk_29 (dk_at dksX0_cared_2 3 rfl rfl)
theorem dX0_cared_52 : decode cX0_cared 52 = .ok (.iaload, 1) := dk_46 (dk_at dksX0_cared_2 4 rfl rfl)
theorem dX0_cared_53 : decode cX0_cared 53 = .ok (.iconst 1, 1) := dk_4 (dk_at dksX0_cared_2 5 rfl rfl)
theorem dX0_cared_54 : decode cX0_cared 54 = .ok (.if_icmp .le 9, 3) := dk_164 0 9 (dk_at dksX0_cared_2 6 rfl rfl)
theorem dX0_cared_57 : decode cX0_cared 57 = .ok (.iload_n 2, 1) := dk_28 (dk_at dksX0_cared_2 9 rfl rfl)
theorem dX0_cared_58 : decode cX0_cared 58 = .ok (.iconst 1, 1) := dk_4 (dk_at dksX0_cared_2 10 rfl rfl)
theorem dX0_cared_59 : decode cX0_cared 59 = .ok (.iload_n 3, 1) := dk_29 (dk_at dksX0_cared_2 11 rfl rfl)
theorem dX0_cared_60 : decode cX0_cared 60 = .ok (.ishl, 1) := dk_120 (dk_at dksX0_cared_2 12 rfl rfl)
theorem dX0_cared_61 : decode cX0_cared 61 = .ok (.ior, 1) := dk_128 (dk_at dksX0_cared_2 13 rfl rfl)
theorem dX0_cared_62 : decode cX0_cared 62 = .ok (.istore_n 2, 1) := dk_61 (dk_at dksX0_cared_2 14 rfl rfl)
theorem dX0_cared_63 : decode cX0_cared 63 = .ok (.iinc 3 1, 3) := dk_132 3 1 (dk_at dksX0_cared_2 15 rfl rfl)
theorem dX0_cared_66 : decode cX0_cared 66 = .ok (.goto (-43), 3) := dk_167 255 213 (dk_at dksX0_cared_2 18 rfl rfl)
theorem dX0_cared_69 : decode cX0_cared 69 = .ok (.iload_n 2, 1) := dk_28 (dk_at dksX0_cared_2 21 rfl rfl)
theorem dX0_cared_70 : decode cX0_cared 70 = .ok (.ireturn, 1) := dk_172 (dk_at dksX0_cared_2 22 rfl rfl)
abbrev cX0_round : ByteArray := prog_1_method_43_code
def yX0_round : MethodName := ⟨RX0, "round", "(II)I"⟩
def dkwX0_round_3 : List UInt8 := [167, 0, 20, 28, 156, 0, 10, 42, 180, 1, 56, 167, 0, 9, 42, 180, 0, 54, 28, 46, 172]
abbrev dktX0_round_3 : List UInt8 := dkwX0_round_3 ++ []
def dkwX0_round_2 : List UInt8 := [182, 1, 37, 42, 180, 1, 53, 156, 0, 6, 16, 254, 172, 28, 2, 160, 0, 10, 42, 180, 1, 53]
abbrev dktX0_round_2 : List UInt8 := dkwX0_round_2 ++ dktX0_round_3
def dkwX0_round_1 : List UInt8 := [154, 0, 5, 2, 172, 42, 2, 181, 1, 53, 42, 180, 0, 85, 4, 164, 0, 10, 42, 3, 3, 27]
abbrev dktX0_round_1 : List UInt8 := dkwX0_round_1 ++ dktX0_round_2
def dkwX0_round_0 : List UInt8 := [27, 3, 16, 6, 184, 0, 81, 153, 0, 18, 28, 16, 254, 42, 180, 0, 85, 4, 100, 184, 0, 81]
abbrev dktX0_round_0 : List UInt8 := dkwX0_round_0 ++ dktX0_round_1
theorem dksX0_round_0 : cX0_round.data.toList.drop 0 = dktX0_round_0 := by decide +kernel
theorem dksX0_round_1 : cX0_round.data.toList.drop 22 = dktX0_round_1 := dk_seg dksX0_round_0 22 rfl rfl
theorem dksX0_round_2 : cX0_round.data.toList.drop 44 = dktX0_round_2 := dk_seg dksX0_round_1 22 rfl rfl
theorem dksX0_round_3 : cX0_round.data.toList.drop 66 = dktX0_round_3 := dk_seg dksX0_round_2 22 rfl rfl
theorem dX0_round_0 : decode cX0_round 0 = .ok (.iload_n 1, 1) := dk_27 (dk_at dksX0_round_0 0 rfl rfl)
theorem dX0_round_1 : decode cX0_round 1 = .ok (.iconst 0, 1) := dk_3 (dk_at dksX0_round_0 1 rfl rfl)
theorem dX0_round_2 : decode cX0_round 2 = .ok (.bipush 6, 2) := dk_16 6 (dk_at dksX0_round_0 2 rfl rfl)
theorem dX0_round_4 : decode cX0_round 4 = .ok (.invokestatic 81, 3) := dk_184 0 81 (dk_at dksX0_round_0 4 rfl rfl)
theorem dX0_round_7 : decode cX0_round 7 = .ok (.ifCond .eq 18, 3) := dk_153 0 18 (dk_at dksX0_round_0 7 rfl rfl)
theorem dX0_round_10 : decode cX0_round 10 = .ok (.iload_n 2, 1) := dk_28 (dk_at dksX0_round_0 10 rfl rfl)
theorem dX0_round_11 : decode cX0_round 11 = .ok (.bipush (-2), 2) := dk_16 254 (dk_at dksX0_round_0 11 rfl rfl)
theorem dX0_round_13 : decode cX0_round 13 = .ok (.aload_n 0, 1) := dk_42 (dk_at dksX0_round_0 13 rfl rfl)
theorem dX0_round_14 : decode cX0_round 14 = .ok (.getfield 85, 3) := dk_180 0 85 (dk_at dksX0_round_0 14 rfl rfl)
theorem dX0_round_17 : decode cX0_round 17 = .ok (.iconst 1, 1) := dk_4 (dk_at dksX0_round_0 17 rfl rfl)
theorem dX0_round_18 : decode cX0_round 18 = .ok (.isub, 1) := dk_100 (dk_at dksX0_round_0 18 rfl rfl)
theorem dX0_round_19 : decode cX0_round 19 = .ok (.invokestatic 81, 3) := dk_184 0 81 (dk_at dksX0_round_0 19 rfl rfl)
theorem dX0_round_22 : decode cX0_round 22 = .ok (.ifCond .ne 5, 3) := dk_154 0 5 (dk_at dksX0_round_1 0 rfl rfl)
theorem dX0_round_25 : decode cX0_round 25 = .ok (.iconst (-1), 1) := dk_2 (dk_at dksX0_round_1 3 rfl rfl)
theorem dX0_round_26 : decode cX0_round 26 = .ok (.ireturn, 1) := dk_172 (dk_at dksX0_round_1 4 rfl rfl)
theorem dX0_round_27 : decode cX0_round 27 = .ok (.aload_n 0, 1) := dk_42 (dk_at dksX0_round_1 5 rfl rfl)
theorem dX0_round_28 : decode cX0_round 28 = .ok (.iconst (-1), 1) := dk_2 (dk_at dksX0_round_1 6 rfl rfl)
theorem dX0_round_29 : decode cX0_round 29 = .ok (.putfield 309, 3) := dk_181 1 53 (dk_at dksX0_round_1 7 rfl rfl)
theorem dX0_round_32 : decode cX0_round 32 = .ok (.aload_n 0, 1) := dk_42 (dk_at dksX0_round_1 10 rfl rfl)
theorem dX0_round_33 : decode cX0_round 33 = .ok (.getfield 85, 3) := dk_180 0 85 (dk_at dksX0_round_1 11 rfl rfl)
theorem dX0_round_36 : decode cX0_round 36 = .ok (.iconst 1, 1) := dk_4 (dk_at dksX0_round_1 14 rfl rfl)
theorem dX0_round_37 : decode cX0_round 37 = .ok (.if_icmp .le 10, 3) := dk_164 0 10 (dk_at dksX0_round_1 15 rfl rfl)
theorem dX0_round_40 : decode cX0_round 40 = .ok (.aload_n 0, 1) := dk_42 (dk_at dksX0_round_1 18 rfl rfl)
theorem dX0_round_41 : decode cX0_round 41 = .ok (.iconst 0, 1) := dk_3 (dk_at dksX0_round_1 19 rfl rfl)
theorem dX0_round_42 : decode cX0_round 42 = .ok (.iconst 0, 1) := dk_3 (dk_at dksX0_round_1 20 rfl rfl)
theorem dX0_round_43 : decode cX0_round 43 = .ok (.iload_n 1, 1) := dk_27 (dk_at dksX0_round_1 21 rfl rfl)
theorem dX0_round_44 : decode cX0_round 44 = .ok (.invokevirtual 293, 3) := dk_182 1 37 (dk_at dksX0_round_2 0 rfl rfl)
theorem dX0_round_47 : decode cX0_round 47 = .ok (.aload_n 0, 1) := dk_42 (dk_at dksX0_round_2 3 rfl rfl)
theorem dX0_round_48 : decode cX0_round 48 = .ok (.getfield 309, 3) := dk_180 1 53 (dk_at dksX0_round_2 4 rfl rfl)
theorem dX0_round_51 : decode cX0_round 51 = .ok (.ifCond .ge 6, 3) := dk_156 0 6 (dk_at dksX0_round_2 7 rfl rfl)
theorem dX0_round_54 : decode cX0_round 54 = .ok (.bipush (-2), 2) := dk_16 254 (dk_at dksX0_round_2 10 rfl rfl)
theorem dX0_round_56 : decode cX0_round 56 = .ok (.ireturn, 1) := dk_172 (dk_at dksX0_round_2 12 rfl rfl)
theorem dX0_round_57 : decode cX0_round 57 = .ok (.iload_n 2, 1) := dk_28 (dk_at dksX0_round_2 13 rfl rfl)
theorem dX0_round_58 : decode cX0_round 58 = .ok (.iconst (-1), 1) := dk_2 (dk_at dksX0_round_2 14 rfl rfl)
theorem dX0_round_59 : decode cX0_round 59 = .ok (.if_icmp .ne 10, 3) := dk_160 0 10 (dk_at dksX0_round_2 15 rfl rfl)
theorem dX0_round_62 : decode cX0_round 62 = .ok (.aload_n 0, 1) := dk_42 (dk_at dksX0_round_2 18 rfl rfl)
theorem dX0_round_63 : decode cX0_round 63 = .ok (.getfield 309, 3) := dk_180 1 53 (dk_at dksX0_round_2 19 rfl rfl)
theorem dX0_round_66 : decode cX0_round 66 = .ok (.goto 20, 3) := dk_167 0 20 (dk_at dksX0_round_3 0 rfl rfl)
theorem dX0_round_69 : decode cX0_round 69 = .ok (.iload_n 2, 1) := dk_28 (dk_at dksX0_round_3 3 rfl rfl)
theorem dX0_round_70 : decode cX0_round 70 = .ok (.ifCond .ge 10, 3) := dk_156 0 10 (dk_at dksX0_round_3 4 rfl rfl)
theorem dX0_round_73 : decode cX0_round 73 = .ok (.aload_n 0, 1) := dk_42 (dk_at dksX0_round_3 7 rfl rfl)
theorem dX0_round_74 : decode cX0_round 74 = .ok (.getfield 312, 3) := dk_180 1 56 (dk_at dksX0_round_3 8 rfl rfl)
theorem dX0_round_77 : decode cX0_round 77 = .ok (.goto 9, 3) := dk_167 0 9 (dk_at dksX0_round_3 11 rfl rfl)
theorem dX0_round_80 : decode cX0_round 80 = .ok (.aload_n 0, 1) := dk_42 (dk_at dksX0_round_3 14 rfl rfl)
theorem dX0_round_81 : decode cX0_round 81 = .ok (.getfield 54, 3) := dk_180 0 54 (dk_at dksX0_round_3 15 rfl rfl)
theorem dX0_round_84 : decode cX0_round 84 = .ok (.iload_n 2, 1) := dk_28 (dk_at dksX0_round_3 18 rfl rfl)
theorem dX0_round_85 : decode cX0_round 85 = .ok (.iaload, 1) := dk_46 (dk_at dksX0_round_3 19 rfl rfl)
theorem dX0_round_86 : decode cX0_round 86 = .ok (.ireturn, 1) := dk_172 (dk_at dksX0_round_3 20 rfl rfl)
abbrev cX0_goRound : ByteArray := prog_1_method_42_code
def yX0_goRound : MethodName := ⟨RX0, "goRound", "(III)V"⟩
def dkwX0_goRound_7 : List UInt8 := [180, 0, 54, 3, 42, 180, 0, 85, 184, 1, 44, 177]
abbrev dktX0_goRound_7 : List UInt8 := dkwX0_goRound_7 ++ []
def dkwX0_goRound_6 : List UInt8 := [163, 0, 4, 177, 42, 21, 4, 181, 1, 53, 42, 42, 182, 1, 25, 181, 1, 56, 42, 180, 0, 51, 3, 42]
abbrev dktX0_goRound_6 : List UInt8 := dkwX0_goRound_6 ++ dktX0_goRound_7
def dkwX0_goRound_5 : List UInt8 := [180, 1, 53, 163, 0, 23, 21, 4, 42, 180, 1, 53, 160, 0, 15, 42, 182, 1, 25, 42, 180, 1, 56]
abbrev dktX0_goRound_5 : List UInt8 := dkwX0_goRound_5 ++ dktX0_goRound_6
def dkwX0_goRound_4 : List UInt8 := [184, 1, 44, 42, 29, 182, 1, 22, 42, 182, 1, 50, 54, 4, 42, 180, 1, 53, 155, 0, 33, 21, 4, 42]
abbrev dktX0_goRound_4 : List UInt8 := dkwX0_goRound_4 ++ dktX0_goRound_5
def dkwX0_goRound_3 : List UInt8 := [154, 0, 4, 177, 42, 182, 0, 252, 42, 180, 0, 51, 3, 42, 180, 0, 42, 3, 42, 180, 0, 85]
abbrev dktX0_goRound_3 : List UInt8 := dkwX0_goRound_3 ++ dktX0_goRound_4
def dkwX0_goRound_2 : List UInt8 := [27, 4, 96, 28, 4, 21, 4, 120, 128, 29, 182, 1, 37, 132, 4, 1, 167, 255, 204, 177, 42, 182, 1, 40]
abbrev dktX0_goRound_2 : List UInt8 := dkwX0_goRound_2 ++ dktX0_goRound_3
def dkwX0_goRound_1 : List UInt8 := [159, 0, 37, 28, 21, 4, 184, 0, 230, 153, 0, 6, 167, 0, 25, 42, 180, 0, 51, 27, 21, 4, 79, 42]
abbrev dktX0_goRound_1 : List UInt8 := dkwX0_goRound_1 ++ dktX0_goRound_2
def dkwX0_goRound_0 : List UInt8 := [27, 42, 180, 0, 85, 162, 0, 62, 3, 54, 4, 21, 4, 42, 180, 0, 85, 162, 0, 49, 21, 4, 27]
abbrev dktX0_goRound_0 : List UInt8 := dkwX0_goRound_0 ++ dktX0_goRound_1
theorem dksX0_goRound_0 : cX0_goRound.data.toList.drop 0 = dktX0_goRound_0 := by decide +kernel
theorem dksX0_goRound_1 : cX0_goRound.data.toList.drop 23 = dktX0_goRound_1 := dk_seg dksX0_goRound_0 23 rfl rfl
theorem dksX0_goRound_2 : cX0_goRound.data.toList.drop 47 = dktX0_goRound_2 := dk_seg dksX0_goRound_1 24 rfl rfl
theorem dksX0_goRound_3 : cX0_goRound.data.toList.drop 71 = dktX0_goRound_3 := dk_seg dksX0_goRound_2 24 rfl rfl
theorem dksX0_goRound_4 : cX0_goRound.data.toList.drop 93 = dktX0_goRound_4 := dk_seg dksX0_goRound_3 22 rfl rfl
theorem dksX0_goRound_5 : cX0_goRound.data.toList.drop 117 = dktX0_goRound_5 := dk_seg dksX0_goRound_4 24 rfl rfl
theorem dksX0_goRound_6 : cX0_goRound.data.toList.drop 140 = dktX0_goRound_6 := dk_seg dksX0_goRound_5 23 rfl rfl
theorem dksX0_goRound_7 : cX0_goRound.data.toList.drop 164 = dktX0_goRound_7 := dk_seg dksX0_goRound_6 24 rfl rfl
theorem dX0_goRound_0 : decode cX0_goRound 0 = .ok (.iload_n 1, 1) := dk_27 (dk_at dksX0_goRound_0 0 rfl rfl)
theorem dX0_goRound_1 : decode cX0_goRound 1 = .ok (.aload_n 0, 1) := dk_42 (dk_at dksX0_goRound_0 1 rfl rfl)
theorem dX0_goRound_2 : decode cX0_goRound 2 = .ok (.getfield 85, 3) := dk_180 0 85 (dk_at dksX0_goRound_0 2 rfl rfl)
theorem dX0_goRound_5 : decode cX0_goRound 5 = .ok (.if_icmp .ge 62, 3) := dk_162 0 62 (dk_at dksX0_goRound_0 5 rfl rfl)
theorem dX0_goRound_8 : decode cX0_goRound 8 = .ok (.iconst 0, 1) := dk_3 (dk_at dksX0_goRound_0 8 rfl rfl)
theorem dX0_goRound_9 : decode cX0_goRound 9 = .ok (.istore 4, 2) := dk_54 4 (dk_at dksX0_goRound_0 9 rfl rfl)
theorem dX0_goRound_11 : decode cX0_goRound 11 = .ok (.iload 4, 2) := dk_21 4 (dk_at dksX0_goRound_0 11 rfl rfl)
theorem dX0_goRound_13 : decode cX0_goRound 13 = .ok (.aload_n 0, 1) := dk_42 (dk_at dksX0_goRound_0 13 rfl rfl)
theorem dX0_goRound_14 : decode cX0_goRound 14 = .ok (.getfield 85, 3) := dk_180 0 85 (dk_at dksX0_goRound_0 14 rfl rfl)
theorem dX0_goRound_17 : decode cX0_goRound 17 = .ok (.if_icmp .ge 49, 3) := dk_162 0 49 (dk_at dksX0_goRound_0 17 rfl rfl)
theorem dX0_goRound_20 : decode cX0_goRound 20 = .ok (.iload 4, 2) := dk_21 4 (dk_at dksX0_goRound_0 20 rfl rfl)
theorem dX0_goRound_22 : decode cX0_goRound 22 = .ok (.iload_n 1, 1) := dk_27 (dk_at dksX0_goRound_0 22 rfl rfl)
theorem dX0_goRound_23 : decode cX0_goRound 23 = .ok (.if_icmp .eq 37, 3) := dk_159 0 37 (dk_at dksX0_goRound_1 0 rfl rfl)
theorem dX0_goRound_26 : decode cX0_goRound 26 = .ok (.iload_n 2, 1) := dk_28 (dk_at dksX0_goRound_1 3 rfl rfl)
theorem dX0_goRound_27 : decode cX0_goRound 27 = .ok (.iload 4, 2) := dk_21 4 (dk_at dksX0_goRound_1 4 rfl rfl)
theorem dX0_goRound_29 : decode cX0_goRound 29 = .ok (.invokestatic 230, 3) := dk_184 0 230 (dk_at dksX0_goRound_1 6 rfl rfl)
theorem dX0_goRound_32 : decode cX0_goRound 32 = .ok (.ifCond .eq 6, 3) := dk_153 0 6 (dk_at dksX0_goRound_1 9 rfl rfl)
theorem dX0_goRound_35 : decode cX0_goRound 35 = .ok (.goto 25, 3) := dk_167 0 25 (dk_at dksX0_goRound_1 12 rfl rfl)
theorem dX0_goRound_38 : decode cX0_goRound 38 = .ok (.aload_n 0, 1) := dk_42 (dk_at dksX0_goRound_1 15 rfl rfl)
theorem dX0_goRound_39 : decode cX0_goRound 39 = .ok (.getfield 51, 3) := dk_180 0 51 (dk_at dksX0_goRound_1 16 rfl rfl)
theorem dX0_goRound_42 : decode cX0_goRound 42 = .ok (.iload_n 1, 1) := dk_27 (dk_at dksX0_goRound_1 19 rfl rfl)
theorem dX0_goRound_43 : decode cX0_goRound 43 = .ok (.iload 4, 2) := dk_21 4 (dk_at dksX0_goRound_1 20 rfl rfl)
theorem dX0_goRound_45 : decode cX0_goRound 45 = .ok (.iastore, 1) := dk_79 (dk_at dksX0_goRound_1 22 rfl rfl)
theorem dX0_goRound_46 : decode cX0_goRound 46 = .ok (.aload_n 0, 1) := dk_42 (dk_at dksX0_goRound_1 23 rfl rfl)
theorem dX0_goRound_47 : decode cX0_goRound 47 = .ok (.iload_n 1, 1) := dk_27 (dk_at dksX0_goRound_2 0 rfl rfl)
theorem dX0_goRound_48 : decode cX0_goRound 48 = .ok (.iconst 1, 1) := dk_4 (dk_at dksX0_goRound_2 1 rfl rfl)
theorem dX0_goRound_49 : decode cX0_goRound 49 = .ok (.iadd, 1) := dk_96 (dk_at dksX0_goRound_2 2 rfl rfl)
theorem dX0_goRound_50 : decode cX0_goRound 50 = .ok (.iload_n 2, 1) := dk_28 (dk_at dksX0_goRound_2 3 rfl rfl)
theorem dX0_goRound_51 : decode cX0_goRound 51 = .ok (.iconst 1, 1) := dk_4 (dk_at dksX0_goRound_2 4 rfl rfl)
theorem dX0_goRound_52 : decode cX0_goRound 52 = .ok (.iload 4, 2) := dk_21 4 (dk_at dksX0_goRound_2 5 rfl rfl)
theorem dX0_goRound_54 : decode cX0_goRound 54 = .ok (.ishl, 1) := dk_120 (dk_at dksX0_goRound_2 7 rfl rfl)
theorem dX0_goRound_55 : decode cX0_goRound 55 = .ok (.ior, 1) := dk_128 (dk_at dksX0_goRound_2 8 rfl rfl)
theorem dX0_goRound_56 : decode cX0_goRound 56 = .ok (.iload_n 3, 1) := dk_29 (dk_at dksX0_goRound_2 9 rfl rfl)
theorem dX0_goRound_57 : decode cX0_goRound 57 = .ok (.invokevirtual 293, 3) := dk_182 1 37 (dk_at dksX0_goRound_2 10 rfl rfl)
theorem dX0_goRound_60 : decode cX0_goRound 60 = .ok (.iinc 4 1, 3) := dk_132 4 1 (dk_at dksX0_goRound_2 13 rfl rfl)
theorem dX0_goRound_63 : decode cX0_goRound 63 = .ok (.goto (-52), 3) := dk_167 255 204 (dk_at dksX0_goRound_2 16 rfl rfl)
theorem dX0_goRound_66 : decode cX0_goRound 66 = .ok (.return_, 1) := dk_177 (dk_at dksX0_goRound_2 19 rfl rfl)
theorem dX0_goRound_67 : decode cX0_goRound 67 = .ok (.aload_n 0, 1) := dk_42 (dk_at dksX0_goRound_2 20 rfl rfl)
theorem dX0_goRound_68 : decode cX0_goRound 68 = .ok (.invokevirtual 296, 3) := dk_182 1 40 (dk_at dksX0_goRound_2 21 rfl rfl)
theorem dX0_goRound_71 : decode cX0_goRound 71 = .ok (.ifCond .ne 4, 3) := dk_154 0 4 (dk_at dksX0_goRound_3 0 rfl rfl)
theorem dX0_goRound_74 : decode cX0_goRound 74 = .ok (.return_, 1) := dk_177 (dk_at dksX0_goRound_3 3 rfl rfl)
theorem dX0_goRound_75 : decode cX0_goRound 75 = .ok (.aload_n 0, 1) := dk_42 (dk_at dksX0_goRound_3 4 rfl rfl)
theorem dX0_goRound_76 : decode cX0_goRound 76 = .ok (.invokevirtual 252, 3) := dk_182 0 252 (dk_at dksX0_goRound_3 5 rfl rfl)
theorem dX0_goRound_79 : decode cX0_goRound 79 = .ok (.aload_n 0, 1) := dk_42 (dk_at dksX0_goRound_3 8 rfl rfl)
theorem dX0_goRound_80 : decode cX0_goRound 80 = .ok (.getfield 51, 3) := dk_180 0 51 (dk_at dksX0_goRound_3 9 rfl rfl)
theorem dX0_goRound_83 : decode cX0_goRound 83 = .ok (.iconst 0, 1) := dk_3 (dk_at dksX0_goRound_3 12 rfl rfl)
theorem dX0_goRound_84 : decode cX0_goRound 84 = .ok (.aload_n 0, 1) := dk_42 (dk_at dksX0_goRound_3 13 rfl rfl)
theorem dX0_goRound_85 : decode cX0_goRound 85 = .ok (.getfield 42, 3) := dk_180 0 42 (dk_at dksX0_goRound_3 14 rfl rfl)
theorem dX0_goRound_88 : decode cX0_goRound 88 = .ok (.iconst 0, 1) := dk_3 (dk_at dksX0_goRound_3 17 rfl rfl)
theorem dX0_goRound_89 : decode cX0_goRound 89 = .ok (.aload_n 0, 1) := dk_42 (dk_at dksX0_goRound_3 18 rfl rfl)
theorem dX0_goRound_90 : decode cX0_goRound 90 = .ok (.getfield 85, 3) := dk_180 0 85 (dk_at dksX0_goRound_3 19 rfl rfl)
theorem dX0_goRound_93 : decode cX0_goRound 93 = .ok (.invokestatic 300, 3) := dk_184 1 44 (dk_at dksX0_goRound_4 0 rfl rfl)
theorem dX0_goRound_96 : decode cX0_goRound 96 = .ok (.aload_n 0, 1) := dk_42 (dk_at dksX0_goRound_4 3 rfl rfl)
theorem dX0_goRound_97 : decode cX0_goRound 97 = .ok (.iload_n 3, 1) := dk_29 (dk_at dksX0_goRound_4 4 rfl rfl)
theorem dX0_goRound_98 : decode cX0_goRound 98 = .ok (.invokevirtual 278, 3) := dk_182 1 22 (dk_at dksX0_goRound_4 5 rfl rfl)
theorem dX0_goRound_101 : decode cX0_goRound 101 = .ok (.aload_n 0, 1) := dk_42 (dk_at dksX0_goRound_4 8 rfl rfl)
theorem dX0_goRound_102 : decode cX0_goRound 102 = .ok (.invokevirtual 306, 3) := dk_182 1 50 (dk_at dksX0_goRound_4 9 rfl rfl)
theorem dX0_goRound_105 : decode cX0_goRound 105 = .ok (.istore 4, 2) := dk_54 4 (dk_at dksX0_goRound_4 12 rfl rfl)
theorem dX0_goRound_107 : decode cX0_goRound 107 = .ok (.aload_n 0, 1) := dk_42 (dk_at dksX0_goRound_4 14 rfl rfl)
theorem dX0_goRound_108 : decode cX0_goRound 108 = .ok (.getfield 309, 3) := dk_180 1 53 (dk_at dksX0_goRound_4 15 rfl rfl)
theorem dX0_goRound_111 : decode cX0_goRound 111 = .ok (.ifCond .lt 33, 3) := dk_155 0 33 (dk_at dksX0_goRound_4 18 rfl rfl)
theorem dX0_goRound_114 : decode cX0_goRound 114 = .ok (.iload 4, 2) := dk_21 4 (dk_at dksX0_goRound_4 21 rfl rfl)
theorem dX0_goRound_116 : decode cX0_goRound 116 = .ok (.aload_n 0, 1) := dk_42 (dk_at dksX0_goRound_4 23 rfl rfl)
theorem dX0_goRound_117 : decode cX0_goRound 117 = .ok (.getfield 309, 3) := dk_180 1 53 (dk_at dksX0_goRound_5 0 rfl rfl)
theorem dX0_goRound_120 : decode cX0_goRound 120 = .ok (.if_icmp .gt 23, 3) := dk_163 0 23 (dk_at dksX0_goRound_5 3 rfl rfl)
theorem dX0_goRound_123 : decode cX0_goRound 123 = .ok (.iload 4, 2) := dk_21 4 (dk_at dksX0_goRound_5 6 rfl rfl)
theorem dX0_goRound_125 : decode cX0_goRound 125 = .ok (.aload_n 0, 1) := dk_42 (dk_at dksX0_goRound_5 8 rfl rfl)
theorem dX0_goRound_126 : decode cX0_goRound 126 = .ok (.getfield 309, 3) := dk_180 1 53 (dk_at dksX0_goRound_5 9 rfl rfl)
theorem dX0_goRound_129 : decode cX0_goRound 129 = .ok (.if_icmp .ne 15, 3) := dk_160 0 15 (dk_at dksX0_goRound_5 12 rfl rfl)
theorem dX0_goRound_132 : decode cX0_goRound 132 = .ok (.aload_n 0, 1) := dk_42 (dk_at dksX0_goRound_5 15 rfl rfl)
theorem dX0_goRound_133 : decode cX0_goRound 133 = .ok (.invokevirtual 281, 3) := dk_182 1 25 (dk_at dksX0_goRound_5 16 rfl rfl)
theorem dX0_goRound_136 : decode cX0_goRound 136 = .ok (.aload_n 0, 1) := dk_42 (dk_at dksX0_goRound_5 19 rfl rfl)
theorem dX0_goRound_137 : decode cX0_goRound 137 = .ok (.getfield 312, 3) := dk_180 1 56 (dk_at dksX0_goRound_5 20 rfl rfl)
theorem dX0_goRound_140 : decode cX0_goRound 140 = .ok (.if_icmp .gt 4, 3) := dk_163 0 4 (dk_at dksX0_goRound_6 0 rfl rfl)
theorem dX0_goRound_143 : decode cX0_goRound 143 = .ok (.return_, 1) := dk_177 (dk_at dksX0_goRound_6 3 rfl rfl)
theorem dX0_goRound_144 : decode cX0_goRound 144 = .ok (.aload_n 0, 1) := dk_42 (dk_at dksX0_goRound_6 4 rfl rfl)
theorem dX0_goRound_145 : decode cX0_goRound 145 = .ok (.iload 4, 2) := dk_21 4 (dk_at dksX0_goRound_6 5 rfl rfl)
theorem dX0_goRound_147 : decode cX0_goRound 147 = .ok (.putfield 309, 3) := dk_181 1 53 (dk_at dksX0_goRound_6 7 rfl rfl)
theorem dX0_goRound_150 : decode cX0_goRound 150 = .ok (.aload_n 0, 1) := dk_42 (dk_at dksX0_goRound_6 10 rfl rfl)
theorem dX0_goRound_151 : decode cX0_goRound 151 = .ok (.aload_n 0, 1) := dk_42 (dk_at dksX0_goRound_6 11 rfl rfl)
theorem dX0_goRound_152 : decode cX0_goRound 152 = .ok (.invokevirtual 281, 3) := dk_182 1 25 (dk_at dksX0_goRound_6 12 rfl rfl)
theorem dX0_goRound_155 : decode cX0_goRound 155 = .ok (.putfield 312, 3) := dk_181 1 56 (dk_at dksX0_goRound_6 15 rfl rfl)
theorem dX0_goRound_158 : decode cX0_goRound 158 = .ok (.aload_n 0, 1) := dk_42 (dk_at dksX0_goRound_6 18 rfl rfl)
theorem dX0_goRound_159 : decode cX0_goRound 159 = .ok (.getfield 51, 3) := dk_180 0 51 (dk_at dksX0_goRound_6 19 rfl rfl)
theorem dX0_goRound_162 : decode cX0_goRound 162 = .ok (.iconst 0, 1) := dk_3 (dk_at dksX0_goRound_6 22 rfl rfl)
theorem dX0_goRound_163 : decode cX0_goRound 163 = .ok (.aload_n 0, 1) := dk_42 (dk_at dksX0_goRound_6 23 rfl rfl)
theorem dX0_goRound_164 : decode cX0_goRound 164 = .ok (.getfield 54, 3) := dk_180 0 54 (dk_at dksX0_goRound_7 0 rfl rfl)
theorem dX0_goRound_167 : decode cX0_goRound 167 = .ok (.iconst 0, 1) := dk_3 (dk_at dksX0_goRound_7 3 rfl rfl)
theorem dX0_goRound_168 : decode cX0_goRound 168 = .ok (.aload_n 0, 1) := dk_42 (dk_at dksX0_goRound_7 4 rfl rfl)
theorem dX0_goRound_169 : decode cX0_goRound 169 = .ok (.getfield 85, 3) := dk_180 0 85 (dk_at dksX0_goRound_7 5 rfl rfl)
theorem dX0_goRound_172 : decode cX0_goRound 172 = .ok (.invokestatic 300, 3) := dk_184 1 44 (dk_at dksX0_goRound_7 8 rfl rfl)
theorem dX0_goRound_175 : decode cX0_goRound 175 = .ok (.return_, 1) := dk_177 (dk_at dksX0_goRound_7 11 rfl rfl)
abbrev cX0_isOneRing : ByteArray := prog_1_method_41_code
def yX0_isOneRing : MethodName := ⟨RX0, "isOneRing", "()Z"⟩
def dkwX0_isOneRing_1 : List UInt8 := [42, 180, 0, 85, 160, 0, 7, 4, 167, 0, 4, 3, 172, 132, 2, 1, 167, 255, 220, 3, 172]
abbrev dktX0_isOneRing_1 : List UInt8 := dkwX0_isOneRing_1 ++ []
def dkwX0_isOneRing_0 : List UInt8 := [3, 60, 4, 61, 28, 42, 180, 0, 85, 163, 0, 34, 42, 180, 0, 51, 27, 46, 60, 27, 154, 0, 17, 28]
abbrev dktX0_isOneRing_0 : List UInt8 := dkwX0_isOneRing_0 ++ dktX0_isOneRing_1
theorem dksX0_isOneRing_0 : cX0_isOneRing.data.toList.drop 0 = dktX0_isOneRing_0 := by decide +kernel
theorem dksX0_isOneRing_1 : cX0_isOneRing.data.toList.drop 24 = dktX0_isOneRing_1 := dk_seg dksX0_isOneRing_0 24 rfl rfl
theorem dX0_isOneRing_0 : decode cX0_isOneRing 0 = .ok (.iconst 0, 1) := dk_3 (dk_at dksX0_isOneRing_0 0 rfl rfl)
theorem dX0_isOneRing_1 : decode cX0_isOneRing 1 = .ok (.istore_n 1, 1) := dk_60 (dk_at dksX0_isOneRing_0 1 rfl rfl)
theorem dX0_isOneRing_2 : decode cX0_isOneRing 2 = .ok (.iconst 1, 1) := dk_4 (dk_at dksX0_isOneRing_0 2 rfl rfl)
theorem dX0_isOneRing_3 : decode cX0_isOneRing 3 = .ok (.istore_n 2, 1) := dk_61 (dk_at dksX0_isOneRing_0 3 rfl rfl)
theorem dX0_isOneRing_4 : decode cX0_isOneRing 4 = .ok (.iload_n 2, 1) := dk_28 (dk_at dksX0_isOneRing_0 4 rfl rfl)
theorem dX0_isOneRing_5 : decode cX0_isOneRing 5 = .ok (.aload_n 0, 1) := dk_42 (dk_at dksX0_isOneRing_0 5 rfl rfl)
theorem dX0_isOneRing_6 : decode cX0_isOneRing 6 = .ok (.getfield 85, 3) := dk_180 0 85 (dk_at dksX0_isOneRing_0 6 rfl rfl)
theorem dX0_isOneRing_9 : decode cX0_isOneRing 9 = .ok (.if_icmp .gt 34, 3) := dk_163 0 34 (dk_at dksX0_isOneRing_0 9 rfl rfl)
theorem dX0_isOneRing_12 : decode cX0_isOneRing 12 = .ok (.aload_n 0, 1) := dk_42 (dk_at dksX0_isOneRing_0 12 rfl rfl)
theorem dX0_isOneRing_13 : decode cX0_isOneRing 13 = .ok (.getfield 51, 3) := dk_180 0 51 (dk_at dksX0_isOneRing_0 13 rfl rfl)
theorem dX0_isOneRing_16 : decode cX0_isOneRing 16 = .ok (.iload_n 1, 1) := dk_27 (dk_at dksX0_isOneRing_0 16 rfl rfl)
theorem dX0_isOneRing_17 : decode cX0_isOneRing 17 = .ok (.iaload, 1) := dk_46 (dk_at dksX0_isOneRing_0 17 rfl rfl)
theorem dX0_isOneRing_18 : decode cX0_isOneRing 18 = .ok (.istore_n 1, 1) := dk_60 (dk_at dksX0_isOneRing_0 18 rfl rfl)
theorem dX0_isOneRing_19 : decode cX0_isOneRing 19 = .ok (.iload_n 1, 1) := dk_27 (dk_at dksX0_isOneRing_0 19 rfl rfl)
theorem dX0_isOneRing_20 : decode cX0_isOneRing 20 = .ok (.ifCond .ne 17, 3) := dk_154 0 17 (dk_at dksX0_isOneRing_0 20 rfl rfl)
theorem dX0_isOneRing_23 : decode cX0_isOneRing 23 = .ok (.iload_n 2, 1) := dk_28 (dk_at dksX0_isOneRing_0 23 rfl rfl)
theorem dX0_isOneRing_24 : decode cX0_isOneRing 24 = .ok (.aload_n 0, 1) := dk_42 (dk_at dksX0_isOneRing_1 0 rfl rfl)
theorem dX0_isOneRing_25 : decode cX0_isOneRing 25 = .ok (.getfield 85, 3) := dk_180 0 85 (dk_at dksX0_isOneRing_1 1 rfl rfl)
theorem dX0_isOneRing_28 : decode cX0_isOneRing 28 = .ok (.if_icmp .ne 7, 3) := dk_160 0 7 (dk_at dksX0_isOneRing_1 4 rfl rfl)
theorem dX0_isOneRing_31 : decode cX0_isOneRing 31 = .ok (.iconst 1, 1) := dk_4 (dk_at dksX0_isOneRing_1 7 rfl rfl)
theorem dX0_isOneRing_32 : decode cX0_isOneRing 32 = .ok (.goto 4, 3) := dk_167 0 4 (dk_at dksX0_isOneRing_1 8 rfl rfl)
theorem dX0_isOneRing_35 : decode cX0_isOneRing 35 = .ok (.iconst 0, 1) := dk_3 (dk_at dksX0_isOneRing_1 11 rfl rfl)
theorem dX0_isOneRing_36 : decode cX0_isOneRing 36 = .ok (.ireturn, 1) := dk_172 (dk_at dksX0_isOneRing_1 12 rfl rfl)
theorem dX0_isOneRing_37 : decode cX0_isOneRing 37 = .ok (.iinc 2 1, 3) := dk_132 2 1 (dk_at dksX0_isOneRing_1 13 rfl rfl)
theorem dX0_isOneRing_40 : decode cX0_isOneRing 40 = .ok (.goto (-36), 3) := dk_167 255 220 (dk_at dksX0_isOneRing_1 16 rfl rfl)
theorem dX0_isOneRing_43 : decode cX0_isOneRing 43 = .ok (.iconst 0, 1) := dk_3 (dk_at dksX0_isOneRing_1 19 rfl rfl)
theorem dX0_isOneRing_44 : decode cX0_isOneRing 44 = .ok (.ireturn, 1) := dk_172 (dk_at dksX0_isOneRing_1 20 rfl rfl)
abbrev cX0_lackMany : ByteArray := prog_1_method_31_code
def yX0_lackMany : MethodName := ⟨RX0, "lackMany", "()I"⟩
def dkwX0_lackMany_0 : List UInt8 := [42, 182, 1, 11, 184, 1, 14, 172]
abbrev dktX0_lackMany_0 : List UInt8 := dkwX0_lackMany_0 ++ []
theorem dksX0_lackMany_0 : cX0_lackMany.data.toList.drop 0 = dktX0_lackMany_0 := by decide +kernel
theorem dX0_lackMany_0 : decode cX0_lackMany 0 = .ok (.aload_n 0, 1) := dk_42 (dk_at dksX0_lackMany_0 0 rfl rfl)
theorem dX0_lackMany_1 : decode cX0_lackMany 1 = .ok (.invokevirtual 267, 3) := dk_182 1 11 (dk_at dksX0_lackMany_0 1 rfl rfl)
theorem dX0_lackMany_4 : decode cX0_lackMany 4 = .ok (.invokestatic 270, 3) := dk_184 1 14 (dk_at dksX0_lackMany_0 4 rfl rfl)
theorem dX0_lackMany_7 : decode cX0_lackMany 7 = .ok (.ireturn, 1) := dk_172 (dk_at dksX0_lackMany_0 7 rfl rfl)
abbrev cX0_mended : ByteArray := prog_1_method_45_code
def yX0_mended : MethodName := ⟨RX0, "mended", "(I)I"⟩
def dkwX0_mended_2 : List UInt8 := [167, 0, 9, 42, 180, 0, 54, 27, 46, 172]
abbrev dktX0_mended_2 : List UInt8 := dkwX0_mended_2 ++ []
def dkwX0_mended_1 : List UInt8 := [3, 182, 1, 59, 42, 180, 1, 53, 156, 0, 8, 16, 254, 167, 0, 20, 27, 156, 0, 10, 42, 180, 1, 53]
abbrev dktX0_mended_1 : List UInt8 := dkwX0_mended_1 ++ dktX0_mended_2
def dkwX0_mended_0 : List UInt8 := [27, 2, 42, 180, 0, 85, 4, 100, 184, 0, 81, 154, 0, 5, 2, 172, 42, 2, 181, 1, 53, 42, 3, 3]
abbrev dktX0_mended_0 : List UInt8 := dkwX0_mended_0 ++ dktX0_mended_1
theorem dksX0_mended_0 : cX0_mended.data.toList.drop 0 = dktX0_mended_0 := by decide +kernel
theorem dksX0_mended_1 : cX0_mended.data.toList.drop 24 = dktX0_mended_1 := dk_seg dksX0_mended_0 24 rfl rfl
theorem dksX0_mended_2 : cX0_mended.data.toList.drop 48 = dktX0_mended_2 := dk_seg dksX0_mended_1 24 rfl rfl
theorem dX0_mended_0 : decode cX0_mended 0 = .ok (.iload_n 1, 1) := dk_27 (dk_at dksX0_mended_0 0 rfl rfl)
theorem dX0_mended_1 : decode cX0_mended 1 = .ok (.iconst (-1), 1) := dk_2 (dk_at dksX0_mended_0 1 rfl rfl)
theorem dX0_mended_2 : decode cX0_mended 2 = .ok (.aload_n 0, 1) := dk_42 (dk_at dksX0_mended_0 2 rfl rfl)
theorem dX0_mended_3 : decode cX0_mended 3 = .ok (.getfield 85, 3) := dk_180 0 85 (dk_at dksX0_mended_0 3 rfl rfl)
theorem dX0_mended_6 : decode cX0_mended 6 = .ok (.iconst 1, 1) := dk_4 (dk_at dksX0_mended_0 6 rfl rfl)
theorem dX0_mended_7 : decode cX0_mended 7 = .ok (.isub, 1) := dk_100 (dk_at dksX0_mended_0 7 rfl rfl)
theorem dX0_mended_8 : decode cX0_mended 8 = .ok (.invokestatic 81, 3) := dk_184 0 81 (dk_at dksX0_mended_0 8 rfl rfl)
theorem dX0_mended_11 : decode cX0_mended 11 = .ok (.ifCond .ne 5, 3) := dk_154 0 5 (dk_at dksX0_mended_0 11 rfl rfl)
theorem dX0_mended_14 : decode cX0_mended 14 = .ok (.iconst (-1), 1) := dk_2 (dk_at dksX0_mended_0 14 rfl rfl)
theorem dX0_mended_15 : decode cX0_mended 15 = .ok (.ireturn, 1) := dk_172 (dk_at dksX0_mended_0 15 rfl rfl)
theorem dX0_mended_16 : decode cX0_mended 16 = .ok (.aload_n 0, 1) := dk_42 (dk_at dksX0_mended_0 16 rfl rfl)
theorem dX0_mended_17 : decode cX0_mended 17 = .ok (.iconst (-1), 1) := dk_2 (dk_at dksX0_mended_0 17 rfl rfl)
theorem dX0_mended_18 : decode cX0_mended 18 = .ok (.putfield 309, 3) := dk_181 1 53 (dk_at dksX0_mended_0 18 rfl rfl)
theorem dX0_mended_21 : decode cX0_mended 21 = .ok (.aload_n 0, 1) := dk_42 (dk_at dksX0_mended_0 21 rfl rfl)
theorem dX0_mended_22 : decode cX0_mended 22 = .ok (.iconst 0, 1) := dk_3 (dk_at dksX0_mended_0 22 rfl rfl)
theorem dX0_mended_23 : decode cX0_mended 23 = .ok (.iconst 0, 1) := dk_3 (dk_at dksX0_mended_0 23 rfl rfl)
theorem dX0_mended_24 : decode cX0_mended 24 = .ok (.iconst 0, 1) := dk_3 (dk_at dksX0_mended_1 0 rfl rfl)
theorem dX0_mended_25 : decode cX0_mended 25 = .ok (.invokevirtual 315, 3) := dk_182 1 59 (dk_at dksX0_mended_1 1 rfl rfl)
theorem dX0_mended_28 : decode cX0_mended 28 = .ok (.aload_n 0, 1) := dk_42 (dk_at dksX0_mended_1 4 rfl rfl)
theorem dX0_mended_29 : decode cX0_mended 29 = .ok (.getfield 309, 3) := dk_180 1 53 (dk_at dksX0_mended_1 5 rfl rfl)
theorem dX0_mended_32 : decode cX0_mended 32 = .ok (.ifCond .ge 8, 3) := dk_156 0 8 (dk_at dksX0_mended_1 8 rfl rfl)
theorem dX0_mended_35 : decode cX0_mended 35 = .ok (.bipush (-2), 2) := dk_16 254 (dk_at dksX0_mended_1 11 rfl rfl)
theorem dX0_mended_37 : decode cX0_mended 37 = .ok (.goto 20, 3) := dk_167 0 20 (dk_at dksX0_mended_1 13 rfl rfl)
theorem dX0_mended_40 : decode cX0_mended 40 = .ok (.iload_n 1, 1) := dk_27 (dk_at dksX0_mended_1 16 rfl rfl)
theorem dX0_mended_41 : decode cX0_mended 41 = .ok (.ifCond .ge 10, 3) := dk_156 0 10 (dk_at dksX0_mended_1 17 rfl rfl)
theorem dX0_mended_44 : decode cX0_mended 44 = .ok (.aload_n 0, 1) := dk_42 (dk_at dksX0_mended_1 20 rfl rfl)
theorem dX0_mended_45 : decode cX0_mended 45 = .ok (.getfield 309, 3) := dk_180 1 53 (dk_at dksX0_mended_1 21 rfl rfl)
theorem dX0_mended_48 : decode cX0_mended 48 = .ok (.goto 9, 3) := dk_167 0 9 (dk_at dksX0_mended_2 0 rfl rfl)
theorem dX0_mended_51 : decode cX0_mended 51 = .ok (.aload_n 0, 1) := dk_42 (dk_at dksX0_mended_2 3 rfl rfl)
theorem dX0_mended_52 : decode cX0_mended 52 = .ok (.getfield 54, 3) := dk_180 0 54 (dk_at dksX0_mended_2 4 rfl rfl)
theorem dX0_mended_55 : decode cX0_mended 55 = .ok (.iload_n 1, 1) := dk_27 (dk_at dksX0_mended_2 7 rfl rfl)
theorem dX0_mended_56 : decode cX0_mended 56 = .ok (.iaload, 1) := dk_46 (dk_at dksX0_mended_2 8 rfl rfl)
theorem dX0_mended_57 : decode cX0_mended 57 = .ok (.ireturn, 1) := dk_172 (dk_at dksX0_mended_2 9 rfl rfl)
abbrev cX0_goMended : ByteArray := prog_1_method_44_code
def yX0_goMended : MethodName := ⟨RX0, "goMended", "(III)V"⟩
def dkwX0_goMended_5 : List UInt8 := [132, 4, 1, 167, 255, 184, 177]
abbrev dktX0_goMended_5 : List UInt8 := dkwX0_goMended_5 ++ []
def dkwX0_goMended_4 : List UInt8 := [29, 42, 180, 0, 13, 27, 50, 180, 0, 126, 21, 4, 160, 0, 7, 3, 167, 0, 4, 4, 96, 182, 1, 59]
abbrev dktX0_goMended_4 : List UInt8 := dkwX0_goMended_4 ++ dktX0_goMended_5
def dkwX0_goMended_3 : List UInt8 := [153, 0, 6, 167, 0, 45, 42, 180, 0, 51, 27, 21, 4, 79, 42, 27, 4, 96, 28, 4, 21, 4, 120, 128]
abbrev dktX0_goMended_3 : List UInt8 := dkwX0_goMended_3 ++ dktX0_goMended_4
def dkwX0_goMended_2 : List UInt8 := [54, 4, 21, 4, 42, 180, 0, 85, 162, 0, 69, 21, 4, 27, 159, 0, 57, 28, 21, 4, 184, 0, 230]
abbrev dktX0_goMended_2 : List UInt8 := dkwX0_goMended_2 ++ dktX0_goMended_3
def dkwX0_goMended_1 : List UInt8 := [42, 29, 181, 1, 53, 42, 180, 0, 51, 3, 42, 180, 0, 54, 3, 42, 180, 0, 85, 184, 1, 44, 177, 3]
abbrev dktX0_goMended_1 : List UInt8 := dkwX0_goMended_1 ++ dktX0_goMended_2
def dkwX0_goMended_0 : List UInt8 := [42, 180, 1, 53, 155, 0, 12, 29, 42, 180, 1, 53, 161, 0, 4, 177, 27, 42, 180, 0, 85, 160, 0, 26]
abbrev dktX0_goMended_0 : List UInt8 := dkwX0_goMended_0 ++ dktX0_goMended_1
theorem dksX0_goMended_0 : cX0_goMended.data.toList.drop 0 = dktX0_goMended_0 := by decide +kernel
theorem dksX0_goMended_1 : cX0_goMended.data.toList.drop 24 = dktX0_goMended_1 := dk_seg dksX0_goMended_0 24 rfl rfl
theorem dksX0_goMended_2 : cX0_goMended.data.toList.drop 48 = dktX0_goMended_2 := dk_seg dksX0_goMended_1 24 rfl rfl
theorem dksX0_goMended_3 : cX0_goMended.data.toList.drop 71 = dktX0_goMended_3 := dk_seg dksX0_goMended_2 23 rfl rfl
theorem dksX0_goMended_4 : cX0_goMended.data.toList.drop 95 = dktX0_goMended_4 := dk_seg dksX0_goMended_3 24 rfl rfl
theorem dksX0_goMended_5 : cX0_goMended.data.toList.drop 119 = dktX0_goMended_5 := dk_seg dksX0_goMended_4 24 rfl rfl
theorem dX0_goMended_0 : decode cX0_goMended 0 = .ok (.aload_n 0, 1) := dk_42 (dk_at dksX0_goMended_0 0 rfl rfl)
theorem dX0_goMended_1 : decode cX0_goMended 1 = .ok (.getfield 309, 3) := dk_180 1 53 (dk_at dksX0_goMended_0 1 rfl rfl)
theorem dX0_goMended_4 : decode cX0_goMended 4 = .ok (.ifCond .lt 12, 3) := dk_155 0 12 (dk_at dksX0_goMended_0 4 rfl rfl)
theorem dX0_goMended_7 : decode cX0_goMended 7 = .ok (.iload_n 3, 1) := dk_29 (dk_at dksX0_goMended_0 7 rfl rfl)
theorem dX0_goMended_8 : decode cX0_goMended 8 = .ok (.aload_n 0, 1) := dk_42 (dk_at dksX0_goMended_0 8 rfl rfl)
theorem dX0_goMended_9 : decode cX0_goMended 9 = .ok (.getfield 309, 3) := dk_180 1 53 (dk_at dksX0_goMended_0 9 rfl rfl)
theorem dX0_goMended_12 : decode cX0_goMended 12 = .ok (.if_icmp .lt 4, 3) := dk_161 0 4 (dk_at dksX0_goMended_0 12 rfl rfl)
theorem dX0_goMended_15 : decode cX0_goMended 15 = .ok (.return_, 1) := dk_177 (dk_at dksX0_goMended_0 15 rfl rfl)
theorem dX0_goMended_16 : decode cX0_goMended 16 = .ok (.iload_n 1, 1) := dk_27 (dk_at dksX0_goMended_0 16 rfl rfl)
theorem dX0_goMended_17 : decode cX0_goMended 17 = .ok (.aload_n 0, 1) := dk_42 (dk_at dksX0_goMended_0 17 rfl rfl)
theorem dX0_goMended_18 : decode cX0_goMended 18 = .ok (.getfield 85, 3) := dk_180 0 85 (dk_at dksX0_goMended_0 18 rfl rfl)
theorem dX0_goMended_21 : decode cX0_goMended 21 = .ok (.if_icmp .ne 26, 3) := dk_160 0 26 (dk_at dksX0_goMended_0 21 rfl rfl)
theorem dX0_goMended_24 : decode cX0_goMended 24 = .ok (.aload_n 0, 1) := dk_42 (dk_at dksX0_goMended_1 0 rfl rfl)
theorem dX0_goMended_25 : decode cX0_goMended 25 = .ok (.iload_n 3, 1) := dk_29 (dk_at dksX0_goMended_1 1 rfl rfl)
theorem dX0_goMended_26 : decode cX0_goMended 26 = .ok (.putfield 309, 3) := dk_181 1 53 (dk_at dksX0_goMended_1 2 rfl rfl)
theorem dX0_goMended_29 : decode cX0_goMended 29 = .ok (.aload_n 0, 1) := dk_42 (dk_at dksX0_goMended_1 5 rfl rfl)
theorem dX0_goMended_30 : decode cX0_goMended 30 = .ok (.getfield 51, 3) := dk_180 0 51 (dk_at dksX0_goMended_1 6 rfl rfl)
theorem dX0_goMended_33 : decode cX0_goMended 33 = .ok (.iconst 0, 1) := dk_3 (dk_at dksX0_goMended_1 9 rfl rfl)
theorem dX0_goMended_34 : decode cX0_goMended 34 = .ok (.aload_n 0, 1) := dk_42 (dk_at dksX0_goMended_1 10 rfl rfl)
theorem dX0_goMended_35 : decode cX0_goMended 35 = .ok (.getfield 54, 3) := dk_180 0 54 (dk_at dksX0_goMended_1 11 rfl rfl)
theorem dX0_goMended_38 : decode cX0_goMended 38 = .ok (.iconst 0, 1) := dk_3 (dk_at dksX0_goMended_1 14 rfl rfl)
theorem dX0_goMended_39 : decode cX0_goMended 39 = .ok (.aload_n 0, 1) := dk_42 (dk_at dksX0_goMended_1 15 rfl rfl)
theorem dX0_goMended_40 : decode cX0_goMended 40 = .ok (.getfield 85, 3) := dk_180 0 85 (dk_at dksX0_goMended_1 16 rfl rfl)
theorem dX0_goMended_43 : decode cX0_goMended 43 = .ok (.invokestatic 300, 3) := dk_184 1 44 (dk_at dksX0_goMended_1 19 rfl rfl)
theorem dX0_goMended_46 : decode cX0_goMended 46 = .ok (.return_, 1) := dk_177 (dk_at dksX0_goMended_1 22 rfl rfl)
theorem dX0_goMended_47 : decode cX0_goMended 47 = .ok (.iconst 0, 1) := dk_3 (dk_at dksX0_goMended_1 23 rfl rfl)
theorem dX0_goMended_48 : decode cX0_goMended 48 = .ok (.istore 4, 2) := dk_54 4 (dk_at dksX0_goMended_2 0 rfl rfl)
theorem dX0_goMended_50 : decode cX0_goMended 50 = .ok (.iload 4, 2) := dk_21 4 (dk_at dksX0_goMended_2 2 rfl rfl)
theorem dX0_goMended_52 : decode cX0_goMended 52 = .ok (.aload_n 0, 1) := dk_42 (dk_at dksX0_goMended_2 4 rfl rfl)
theorem dX0_goMended_53 : decode cX0_goMended 53 = .ok (.getfield 85, 3) := dk_180 0 85 (dk_at dksX0_goMended_2 5 rfl rfl)
theorem dX0_goMended_56 : decode cX0_goMended 56 = .ok (.if_icmp .ge 69, 3) := dk_162 0 69 (dk_at dksX0_goMended_2 8 rfl rfl)
theorem dX0_goMended_59 : decode cX0_goMended 59 = .ok (.iload 4, 2) := dk_21 4 (dk_at dksX0_goMended_2 11 rfl rfl)
theorem dX0_goMended_61 : decode cX0_goMended 61 = .ok (.iload_n 1, 1) := dk_27 (dk_at dksX0_goMended_2 13 rfl rfl)
theorem dX0_goMended_62 : decode cX0_goMended 62 = .ok (.if_icmp .eq 57, 3) := dk_159 0 57 (dk_at dksX0_goMended_2 14 rfl rfl)
theorem dX0_goMended_65 : decode cX0_goMended 65 = .ok (.iload_n 2, 1) := dk_28 (dk_at dksX0_goMended_2 17 rfl rfl)
theorem dX0_goMended_66 : decode cX0_goMended 66 = .ok (.iload 4, 2) := dk_21 4 (dk_at dksX0_goMended_2 18 rfl rfl)
theorem dX0_goMended_68 : decode cX0_goMended 68 = .ok (.invokestatic 230, 3) := dk_184 0 230 (dk_at dksX0_goMended_2 20 rfl rfl)
theorem dX0_goMended_71 : decode cX0_goMended 71 = .ok (.ifCond .eq 6, 3) := dk_153 0 6 (dk_at dksX0_goMended_3 0 rfl rfl)
theorem dX0_goMended_74 : decode cX0_goMended 74 = .ok (.goto 45, 3) := dk_167 0 45 (dk_at dksX0_goMended_3 3 rfl rfl)
theorem dX0_goMended_77 : decode cX0_goMended 77 = .ok (.aload_n 0, 1) := dk_42 (dk_at dksX0_goMended_3 6 rfl rfl)
theorem dX0_goMended_78 : decode cX0_goMended 78 = .ok (.getfield 51, 3) := dk_180 0 51 (dk_at dksX0_goMended_3 7 rfl rfl)
theorem dX0_goMended_81 : decode cX0_goMended 81 = .ok (.iload_n 1, 1) := dk_27 (dk_at dksX0_goMended_3 10 rfl rfl)
theorem dX0_goMended_82 : decode cX0_goMended 82 = .ok (.iload 4, 2) := dk_21 4 (dk_at dksX0_goMended_3 11 rfl rfl)
theorem dX0_goMended_84 : decode cX0_goMended 84 = .ok (.iastore, 1) := dk_79 (dk_at dksX0_goMended_3 13 rfl rfl)
theorem dX0_goMended_85 : decode cX0_goMended 85 = .ok (.aload_n 0, 1) := dk_42 (dk_at dksX0_goMended_3 14 rfl rfl)
theorem dX0_goMended_86 : decode cX0_goMended 86 = .ok (.iload_n 1, 1) := dk_27 (dk_at dksX0_goMended_3 15 rfl rfl)
theorem dX0_goMended_87 : decode cX0_goMended 87 = .ok (.iconst 1, 1) := dk_4 (dk_at dksX0_goMended_3 16 rfl rfl)
theorem dX0_goMended_88 : decode cX0_goMended 88 = .ok (.iadd, 1) := dk_96 (dk_at dksX0_goMended_3 17 rfl rfl)
theorem dX0_goMended_89 : decode cX0_goMended 89 = .ok (.iload_n 2, 1) := dk_28 (dk_at dksX0_goMended_3 18 rfl rfl)
theorem dX0_goMended_90 : decode cX0_goMended 90 = .ok (.iconst 1, 1) := dk_4 (dk_at dksX0_goMended_3 19 rfl rfl)
theorem dX0_goMended_91 : decode cX0_goMended 91 = .ok (.iload 4, 2) := dk_21 4 (dk_at dksX0_goMended_3 20 rfl rfl)
theorem dX0_goMended_93 : decode cX0_goMended 93 = .ok (.ishl, 1) := dk_120 (dk_at dksX0_goMended_3 22 rfl rfl)
theorem dX0_goMended_94 : decode cX0_goMended 94 = .ok (.ior, 1) := dk_128 (dk_at dksX0_goMended_3 23 rfl rfl)
theorem dX0_goMended_95 : decode cX0_goMended 95 = .ok (.iload_n 3, 1) := dk_29 (dk_at dksX0_goMended_4 0 rfl rfl)
theorem dX0_goMended_96 : decode cX0_goMended 96 = .ok (.aload_n 0, 1) := dk_42 (dk_at dksX0_goMended_4 1 rfl rfl)
theorem dX0_goMended_97 : decode cX0_goMended 97 = .ok (.getfield 13, 3) := dk_180 0 13 (dk_at dksX0_goMended_4 2 rfl rfl)
theorem dX0_goMended_100 : decode cX0_goMended 100 = .ok (.iload_n 1, 1) := dk_27 (dk_at dksX0_goMended_4 5 rfl rfl)
theorem dX0_goMended_101 : decode cX0_goMended 101 = .ok (.aaload, 1) := dk_50 (dk_at dksX0_goMended_4 6 rfl rfl)
theorem dX0_goMended_102 : decode cX0_goMended 102 = .ok (.getfield 126, 3) := dk_180 0 126 (dk_at dksX0_goMended_4 7 rfl rfl)
theorem dX0_goMended_105 : decode cX0_goMended 105 = .ok (.iload 4, 2) := dk_21 4 (dk_at dksX0_goMended_4 10 rfl rfl)
theorem dX0_goMended_107 : decode cX0_goMended 107 = .ok (.if_icmp .ne 7, 3) := dk_160 0 7 (dk_at dksX0_goMended_4 12 rfl rfl)
theorem dX0_goMended_110 : decode cX0_goMended 110 = .ok (.iconst 0, 1) := dk_3 (dk_at dksX0_goMended_4 15 rfl rfl)
theorem dX0_goMended_111 : decode cX0_goMended 111 = .ok (.goto 4, 3) := dk_167 0 4 (dk_at dksX0_goMended_4 16 rfl rfl)
theorem dX0_goMended_114 : decode cX0_goMended 114 = .ok (.iconst 1, 1) := dk_4 (dk_at dksX0_goMended_4 19 rfl rfl)
theorem dX0_goMended_115 : decode cX0_goMended 115 = .ok (.iadd, 1) := dk_96 (dk_at dksX0_goMended_4 20 rfl rfl)
theorem dX0_goMended_116 : decode cX0_goMended 116 = .ok (.invokevirtual 315, 3) := dk_182 1 59 (dk_at dksX0_goMended_4 21 rfl rfl)
theorem dX0_goMended_119 : decode cX0_goMended 119 = .ok (.iinc 4 1, 3) := dk_132 4 1 (dk_at dksX0_goMended_5 0 rfl rfl)
theorem dX0_goMended_122 : decode cX0_goMended 122 = .ok (.goto (-72), 3) := dk_167 255 184 (dk_at dksX0_goMended_5 3 rfl rfl)
theorem dX0_goMended_125 : decode cX0_goMended 125 = .ok (.return_, 1) := dk_177 (dk_at dksX0_goMended_5 6 rfl rfl)
abbrev cX0_gone : ByteArray := prog_1_method_47_code
def yX0_gone : MethodName := ⟨RX0, "gone", "(II)I"⟩
def dkwX0_gone_3 : List UInt8 := [163, 0, 6, 167, 0, 10, 21, 5, 62, 21, 6, 54, 4, 132, 5, 1, 167, 255, 214, 29, 172]
abbrev dktX0_gone_3 : List UInt8 := dkwX0_gone_3 ++ []
def dkwX0_gone_2 : List UInt8 := [42, 180, 0, 85, 162, 0, 39, 42, 21, 5, 27, 182, 1, 62, 54, 6, 29, 155, 0, 13, 21, 6, 21, 4]
abbrev dktX0_gone_2 : List UInt8 := dkwX0_gone_2 ++ dktX0_gone_3
def dkwX0_gone_1 : List UInt8 := [2, 172, 28, 155, 0, 10, 42, 28, 27, 182, 1, 62, 172, 16, 254, 62, 3, 54, 4, 3, 54, 5, 21, 5]
abbrev dktX0_gone_1 : List UInt8 := dkwX0_gone_1 ++ dktX0_gone_2
def dkwX0_gone_0 : List UInt8 := [27, 3, 16, 12, 184, 0, 81, 153, 0, 17, 28, 2, 42, 180, 0, 85, 4, 100, 184, 0, 81, 154, 0, 5]
abbrev dktX0_gone_0 : List UInt8 := dkwX0_gone_0 ++ dktX0_gone_1
theorem dksX0_gone_0 : cX0_gone.data.toList.drop 0 = dktX0_gone_0 := by decide +kernel
theorem dksX0_gone_1 : cX0_gone.data.toList.drop 24 = dktX0_gone_1 := dk_seg dksX0_gone_0 24 rfl rfl
theorem dksX0_gone_2 : cX0_gone.data.toList.drop 48 = dktX0_gone_2 := dk_seg dksX0_gone_1 24 rfl rfl
theorem dksX0_gone_3 : cX0_gone.data.toList.drop 72 = dktX0_gone_3 := dk_seg dksX0_gone_2 24 rfl rfl
theorem dX0_gone_0 : decode cX0_gone 0 = .ok (.iload_n 1, 1) := dk_27 (dk_at dksX0_gone_0 0 rfl rfl)
theorem dX0_gone_1 : decode cX0_gone 1 = .ok (.iconst 0, 1) := dk_3 (dk_at dksX0_gone_0 1 rfl rfl)
theorem dX0_gone_2 : decode cX0_gone 2 = .ok (.bipush 12, 2) := dk_16 12 (dk_at dksX0_gone_0 2 rfl rfl)
theorem dX0_gone_4 : decode cX0_gone 4 = .ok (.invokestatic 81, 3) := dk_184 0 81 (dk_at dksX0_gone_0 4 rfl rfl)
theorem dX0_gone_7 : decode cX0_gone 7 = .ok (.ifCond .eq 17, 3) := dk_153 0 17 (dk_at dksX0_gone_0 7 rfl rfl)
theorem dX0_gone_10 : decode cX0_gone 10 = .ok (.iload_n 2, 1) := dk_28 (dk_at dksX0_gone_0 10 rfl rfl)
theorem dX0_gone_11 : decode cX0_gone 11 = .ok (.iconst (-1), 1) := dk_2 (dk_at dksX0_gone_0 11 rfl rfl)
theorem dX0_gone_12 : decode cX0_gone 12 = .ok (.aload_n 0, 1) := dk_42 (dk_at dksX0_gone_0 12 rfl rfl)
theorem dX0_gone_13 : decode cX0_gone 13 = .ok (.getfield 85, 3) := dk_180 0 85 (dk_at dksX0_gone_0 13 rfl rfl)
theorem dX0_gone_16 : decode cX0_gone 16 = .ok (.iconst 1, 1) := dk_4 (dk_at dksX0_gone_0 16 rfl rfl)
theorem dX0_gone_17 : decode cX0_gone 17 = .ok (.isub, 1) := dk_100 (dk_at dksX0_gone_0 17 rfl rfl)
theorem dX0_gone_18 : decode cX0_gone 18 = .ok (.invokestatic 81, 3) := dk_184 0 81 (dk_at dksX0_gone_0 18 rfl rfl)
theorem dX0_gone_21 : decode cX0_gone 21 = .ok (.ifCond .ne 5, 3) := dk_154 0 5 (dk_at dksX0_gone_0 21 rfl rfl)
theorem dX0_gone_24 : decode cX0_gone 24 = .ok (.iconst (-1), 1) := dk_2 (dk_at dksX0_gone_1 0 rfl rfl)
theorem dX0_gone_25 : decode cX0_gone 25 = .ok (.ireturn, 1) := dk_172 (dk_at dksX0_gone_1 1 rfl rfl)
theorem dX0_gone_26 : decode cX0_gone 26 = .ok (.iload_n 2, 1) := dk_28 (dk_at dksX0_gone_1 2 rfl rfl)
theorem dX0_gone_27 : decode cX0_gone 27 = .ok (.ifCond .lt 10, 3) := dk_155 0 10 (dk_at dksX0_gone_1 3 rfl rfl)
theorem dX0_gone_30 : decode cX0_gone 30 = .ok (.aload_n 0, 1) := dk_42 (dk_at dksX0_gone_1 6 rfl rfl)
theorem dX0_gone_31 : decode cX0_gone 31 = .ok (.iload_n 2, 1) := dk_28 (dk_at dksX0_gone_1 7 rfl rfl)
theorem dX0_gone_32 : decode cX0_gone 32 = .ok (.iload_n 1, 1) := dk_27 (dk_at dksX0_gone_1 8 rfl rfl)
theorem dX0_gone_33 : decode cX0_gone 33 = .ok (.invokevirtual 318, 3) := dk_182 1 62 (dk_at dksX0_gone_1 9 rfl rfl)
theorem dX0_gone_36 : decode cX0_gone 36 = .ok (.ireturn, 1) := dk_172 (dk_at dksX0_gone_1 12 rfl rfl)
theorem dX0_gone_37 : decode cX0_gone 37 = .ok (.bipush (-2), 2) := dk_16 254 (dk_at dksX0_gone_1 13 rfl rfl)
theorem dX0_gone_39 : decode cX0_gone 39 = .ok (.istore_n 3, 1) := dk_62 (dk_at dksX0_gone_1 15 rfl rfl)
theorem dX0_gone_40 : decode cX0_gone 40 = .ok (.iconst 0, 1) := dk_3 (dk_at dksX0_gone_1 16 rfl rfl)
theorem dX0_gone_41 : decode cX0_gone 41 = .ok (.istore 4, 2) := dk_54 4 (dk_at dksX0_gone_1 17 rfl rfl)
theorem dX0_gone_43 : decode cX0_gone 43 = .ok (.iconst 0, 1) := dk_3 (dk_at dksX0_gone_1 19 rfl rfl)
theorem dX0_gone_44 : decode cX0_gone 44 = .ok (.istore 5, 2) := dk_54 5 (dk_at dksX0_gone_1 20 rfl rfl)
theorem dX0_gone_46 : decode cX0_gone 46 = .ok (.iload 5, 2) := dk_21 5 (dk_at dksX0_gone_1 22 rfl rfl)
theorem dX0_gone_48 : decode cX0_gone 48 = .ok (.aload_n 0, 1) := dk_42 (dk_at dksX0_gone_2 0 rfl rfl)
theorem dX0_gone_49 : decode cX0_gone 49 = .ok (.getfield 85, 3) := dk_180 0 85 (dk_at dksX0_gone_2 1 rfl rfl)
theorem dX0_gone_52 : decode cX0_gone 52 = .ok (.if_icmp .ge 39, 3) := dk_162 0 39 (dk_at dksX0_gone_2 4 rfl rfl)
theorem dX0_gone_55 : decode cX0_gone 55 = .ok (.aload_n 0, 1) := dk_42 (dk_at dksX0_gone_2 7 rfl rfl)
theorem dX0_gone_56 : decode cX0_gone 56 = .ok (.iload 5, 2) := dk_21 5 (dk_at dksX0_gone_2 8 rfl rfl)
theorem dX0_gone_58 : decode cX0_gone 58 = .ok (.iload_n 1, 1) := dk_27 (dk_at dksX0_gone_2 10 rfl rfl)
theorem dX0_gone_59 : decode cX0_gone 59 = .ok (.invokevirtual 318, 3) := dk_182 1 62 (dk_at dksX0_gone_2 11 rfl rfl)
theorem dX0_gone_62 : decode cX0_gone 62 = .ok (.istore 6, 2) := dk_54 6 (dk_at dksX0_gone_2 14 rfl rfl)
theorem dX0_gone_64 : decode cX0_gone 64 = .ok (.iload_n 3, 1) := dk_29 (dk_at dksX0_gone_2 16 rfl rfl)
theorem dX0_gone_65 : decode cX0_gone 65 = .ok (.ifCond .lt 13, 3) := dk_155 0 13 (dk_at dksX0_gone_2 17 rfl rfl)
theorem dX0_gone_68 : decode cX0_gone 68 = .ok (.iload 6, 2) := dk_21 6 (dk_at dksX0_gone_2 20 rfl rfl)
theorem dX0_gone_70 : decode cX0_gone 70 = .ok (.iload 4, 2) := dk_21 4 (dk_at dksX0_gone_2 22 rfl rfl)
theorem dX0_gone_72 : decode cX0_gone 72 = .ok (.if_icmp .gt 6, 3) := dk_163 0 6 (dk_at dksX0_gone_3 0 rfl rfl)
theorem dX0_gone_75 : decode cX0_gone 75 = .ok (.goto 10, 3) := dk_167 0 10 (dk_at dksX0_gone_3 3 rfl rfl)
theorem dX0_gone_78 : decode cX0_gone 78 = .ok (.iload 5, 2) := dk_21 5 (dk_at dksX0_gone_3 6 rfl rfl)
theorem dX0_gone_80 : decode cX0_gone 80 = .ok (.istore_n 3, 1) := dk_62 (dk_at dksX0_gone_3 8 rfl rfl)
theorem dX0_gone_81 : decode cX0_gone 81 = .ok (.iload 6, 2) := dk_21 6 (dk_at dksX0_gone_3 9 rfl rfl)
theorem dX0_gone_83 : decode cX0_gone 83 = .ok (.istore 4, 2) := dk_54 4 (dk_at dksX0_gone_3 11 rfl rfl)
theorem dX0_gone_85 : decode cX0_gone 85 = .ok (.iinc 5 1, 3) := dk_132 5 1 (dk_at dksX0_gone_3 13 rfl rfl)
theorem dX0_gone_88 : decode cX0_gone 88 = .ok (.goto (-42), 3) := dk_167 255 214 (dk_at dksX0_gone_3 16 rfl rfl)
theorem dX0_gone_91 : decode cX0_gone 91 = .ok (.iload_n 3, 1) := dk_29 (dk_at dksX0_gone_3 19 rfl rfl)
theorem dX0_gone_92 : decode cX0_gone 92 = .ok (.ireturn, 1) := dk_172 (dk_at dksX0_gone_3 20 rfl rfl)
abbrev cX0_lackingWithout : ByteArray := prog_1_method_46_code
def yX0_lackingWithout : MethodName := ⟨RX0, "lackingWithout", "(II)I"⟩
def dkwX0_lackingWithout_2 : List UInt8 := [132, 3, 1, 167, 255, 228, 42, 28, 182, 1, 22, 42, 182, 1, 50, 172]
abbrev dktX0_lackingWithout_2 : List UInt8 := dkwX0_lackingWithout_2 ++ []
def dkwX0_lackingWithout_1 : List UInt8 := [180, 0, 85, 162, 0, 26, 42, 180, 0, 42, 29, 46, 27, 160, 0, 10, 42, 180, 0, 42, 29, 2, 79]
abbrev dktX0_lackingWithout_1 : List UInt8 := dkwX0_lackingWithout_1 ++ dktX0_lackingWithout_2
def dkwX0_lackingWithout_0 : List UInt8 := [42, 182, 0, 252, 42, 89, 180, 0, 218, 4, 27, 120, 2, 130, 126, 181, 0, 218, 3, 62, 29, 42]
abbrev dktX0_lackingWithout_0 : List UInt8 := dkwX0_lackingWithout_0 ++ dktX0_lackingWithout_1
theorem dksX0_lackingWithout_0 : cX0_lackingWithout.data.toList.drop 0 = dktX0_lackingWithout_0 := by decide +kernel
theorem dksX0_lackingWithout_1 : cX0_lackingWithout.data.toList.drop 22 = dktX0_lackingWithout_1 := dk_seg dksX0_lackingWithout_0 22 rfl rfl
theorem dksX0_lackingWithout_2 : cX0_lackingWithout.data.toList.drop 45 = dktX0_lackingWithout_2 := dk_seg dksX0_lackingWithout_1 23 rfl rfl
theorem dX0_lackingWithout_0 : decode cX0_lackingWithout 0 = .ok (.aload_n 0, 1) := dk_42 (dk_at dksX0_lackingWithout_0 0 rfl rfl)
theorem dX0_lackingWithout_1 : decode cX0_lackingWithout 1 = .ok (.invokevirtual 252, 3) := dk_182 0 252 (dk_at dksX0_lackingWithout_0 1 rfl rfl)
theorem dX0_lackingWithout_4 : decode cX0_lackingWithout 4 = .ok (.aload_n 0, 1) := dk_42 (dk_at dksX0_lackingWithout_0 4 rfl rfl)
theorem dX0_lackingWithout_5 : decode cX0_lackingWithout 5 = .ok (.dup, 1) := dk_89 (dk_at dksX0_lackingWithout_0 5 rfl rfl)
theorem dX0_lackingWithout_6 : decode cX0_lackingWithout 6 = .ok (.getfield 218, 3) := dk_180 0 218 (dk_at dksX0_lackingWithout_0 6 rfl rfl)
theorem dX0_lackingWithout_9 : decode cX0_lackingWithout 9 = .ok (.iconst 1, 1) := dk_4 (dk_at dksX0_lackingWithout_0 9 rfl rfl)
theorem dX0_lackingWithout_10 : decode cX0_lackingWithout 10 = .ok (.iload_n 1, 1) := dk_27 (dk_at dksX0_lackingWithout_0 10 rfl rfl)
theorem dX0_lackingWithout_11 : decode cX0_lackingWithout 11 = .ok (.ishl, 1) := dk_120 (dk_at dksX0_lackingWithout_0 11 rfl rfl)
theorem dX0_lackingWithout_12 : decode cX0_lackingWithout 12 = .ok (.iconst (-1), 1) := dk_2 (dk_at dksX0_lackingWithout_0 12 rfl rfl)
theorem dX0_lackingWithout_13 : decode cX0_lackingWithout 13 = .ok (.ixor, 1) := dk_130 (dk_at dksX0_lackingWithout_0 13 rfl rfl)
theorem dX0_lackingWithout_14 : decode cX0_lackingWithout 14 = .ok (.iand, 1) := dk_126 (dk_at dksX0_lackingWithout_0 14 rfl rfl)
theorem dX0_lackingWithout_15 : decode cX0_lackingWithout 15 = .ok (.putfield 218, 3) := dk_181 0 218 (dk_at dksX0_lackingWithout_0 15 rfl rfl)
theorem dX0_lackingWithout_18 : decode cX0_lackingWithout 18 = .ok (.iconst 0, 1) := dk_3 (dk_at dksX0_lackingWithout_0 18 rfl rfl)
theorem dX0_lackingWithout_19 : decode cX0_lackingWithout 19 = .ok (.istore_n 3, 1) := dk_62 (dk_at dksX0_lackingWithout_0 19 rfl rfl)
theorem dX0_lackingWithout_20 : decode cX0_lackingWithout 20 = .ok (.iload_n 3, 1) := dk_29 (dk_at dksX0_lackingWithout_0 20 rfl rfl)
theorem dX0_lackingWithout_21 : decode cX0_lackingWithout 21 = .ok (.aload_n 0, 1) := dk_42 (dk_at dksX0_lackingWithout_0 21 rfl rfl)
theorem dX0_lackingWithout_22 : decode cX0_lackingWithout 22 = .ok (.getfield 85, 3) := dk_180 0 85 (dk_at dksX0_lackingWithout_1 0 rfl rfl)
theorem dX0_lackingWithout_25 : decode cX0_lackingWithout 25 = .ok (.if_icmp .ge 26, 3) := dk_162 0 26 (dk_at dksX0_lackingWithout_1 3 rfl rfl)
theorem dX0_lackingWithout_28 : decode cX0_lackingWithout 28 = .ok (.aload_n 0, 1) := dk_42 (dk_at dksX0_lackingWithout_1 6 rfl rfl)
theorem dX0_lackingWithout_29 : decode cX0_lackingWithout 29 = .ok (.getfield 42, 3) := dk_180 0 42 (dk_at dksX0_lackingWithout_1 7 rfl rfl)
theorem dX0_lackingWithout_32 : decode cX0_lackingWithout 32 = .ok (.iload_n 3, 1) := dk_29 (dk_at dksX0_lackingWithout_1 10 rfl rfl)
theorem dX0_lackingWithout_33 : decode cX0_lackingWithout 33 = .ok (.iaload, 1) := dk_46 (dk_at dksX0_lackingWithout_1 11 rfl rfl)
theorem dX0_lackingWithout_34 : decode cX0_lackingWithout 34 = .ok (.iload_n 1, 1) := dk_27 (dk_at dksX0_lackingWithout_1 12 rfl rfl)
theorem dX0_lackingWithout_35 : decode cX0_lackingWithout 35 = .ok (.if_icmp .ne 10, 3) := dk_160 0 10 (dk_at dksX0_lackingWithout_1 13 rfl rfl)
theorem dX0_lackingWithout_38 : decode cX0_lackingWithout 38 = .ok (.aload_n 0, 1) := dk_42 (dk_at dksX0_lackingWithout_1 16 rfl rfl)
theorem dX0_lackingWithout_39 : decode cX0_lackingWithout 39 = .ok (.getfield 42, 3) := dk_180 0 42 (dk_at dksX0_lackingWithout_1 17 rfl rfl)
theorem dX0_lackingWithout_42 : decode cX0_lackingWithout 42 = .ok (.iload_n 3, 1) := dk_29 (dk_at dksX0_lackingWithout_1 20 rfl rfl)
theorem dX0_lackingWithout_43 : decode cX0_lackingWithout 43 = .ok (.iconst (-1), 1) := dk_2 (dk_at dksX0_lackingWithout_1 21 rfl rfl)
theorem dX0_lackingWithout_44 : decode cX0_lackingWithout 44 = .ok (.iastore, 1) := dk_79 (dk_at dksX0_lackingWithout_1 22 rfl rfl)
theorem dX0_lackingWithout_45 : decode cX0_lackingWithout 45 = .ok (.iinc 3 1, 3) := dk_132 3 1 (dk_at dksX0_lackingWithout_2 0 rfl rfl)
theorem dX0_lackingWithout_48 : decode cX0_lackingWithout 48 = .ok (.goto (-28), 3) := dk_167 255 228 (dk_at dksX0_lackingWithout_2 3 rfl rfl)
theorem dX0_lackingWithout_51 : decode cX0_lackingWithout 51 = .ok (.aload_n 0, 1) := dk_42 (dk_at dksX0_lackingWithout_2 6 rfl rfl)
theorem dX0_lackingWithout_52 : decode cX0_lackingWithout 52 = .ok (.iload_n 2, 1) := dk_28 (dk_at dksX0_lackingWithout_2 7 rfl rfl)
theorem dX0_lackingWithout_53 : decode cX0_lackingWithout 53 = .ok (.invokevirtual 278, 3) := dk_182 1 22 (dk_at dksX0_lackingWithout_2 8 rfl rfl)
theorem dX0_lackingWithout_56 : decode cX0_lackingWithout 56 = .ok (.aload_n 0, 1) := dk_42 (dk_at dksX0_lackingWithout_2 11 rfl rfl)
theorem dX0_lackingWithout_57 : decode cX0_lackingWithout 57 = .ok (.invokevirtual 306, 3) := dk_182 1 50 (dk_at dksX0_lackingWithout_2 12 rfl rfl)
theorem dX0_lackingWithout_60 : decode cX0_lackingWithout 60 = .ok (.ireturn, 1) := dk_172 (dk_at dksX0_lackingWithout_2 15 rfl rfl)
abbrev cX0_judge : ByteArray := prog_1_method_50_code
def yX0_judge : MethodName := ⟨RX0, "judge", "(II)I"⟩
def dkwX0_judge_1 : List UInt8 := [156, 0, 7, 29, 167, 0, 8, 42, 28, 182, 1, 74, 172]
abbrev dktX0_judge_1 : List UInt8 := dkwX0_judge_1 ++ []
def dkwX0_judge_0 : List UInt8 := [27, 184, 0, 99, 153, 0, 11, 42, 28, 182, 0, 156, 154, 0, 5, 2, 172, 42, 27, 182, 1, 71, 62, 29]
abbrev dktX0_judge_0 : List UInt8 := dkwX0_judge_0 ++ dktX0_judge_1
theorem dksX0_judge_0 : cX0_judge.data.toList.drop 0 = dktX0_judge_0 := by decide +kernel
theorem dksX0_judge_1 : cX0_judge.data.toList.drop 24 = dktX0_judge_1 := dk_seg dksX0_judge_0 24 rfl rfl
theorem dX0_judge_0 : decode cX0_judge 0 = .ok (.iload_n 1, 1) := dk_27 (dk_at dksX0_judge_0 0 rfl rfl)
theorem dX0_judge_1 : decode cX0_judge 1 = .ok (.invokestatic 99, 3) := dk_184 0 99 (dk_at dksX0_judge_0 1 rfl rfl)
theorem dX0_judge_4 : decode cX0_judge 4 = .ok (.ifCond .eq 11, 3) := dk_153 0 11 (dk_at dksX0_judge_0 4 rfl rfl)
theorem dX0_judge_7 : decode cX0_judge 7 = .ok (.aload_n 0, 1) := dk_42 (dk_at dksX0_judge_0 7 rfl rfl)
theorem dX0_judge_8 : decode cX0_judge 8 = .ok (.iload_n 2, 1) := dk_28 (dk_at dksX0_judge_0 8 rfl rfl)
theorem dX0_judge_9 : decode cX0_judge 9 = .ok (.invokevirtual 156, 3) := dk_182 0 156 (dk_at dksX0_judge_0 9 rfl rfl)
theorem dX0_judge_12 : decode cX0_judge 12 = .ok (.ifCond .ne 5, 3) := dk_154 0 5 (dk_at dksX0_judge_0 12 rfl rfl)
theorem dX0_judge_15 : decode cX0_judge 15 = .ok (.iconst (-1), 1) := dk_2 (dk_at dksX0_judge_0 15 rfl rfl)
theorem dX0_judge_16 : decode cX0_judge 16 = .ok (.ireturn, 1) := dk_172 (dk_at dksX0_judge_0 16 rfl rfl)
theorem dX0_judge_17 : decode cX0_judge 17 = .ok (.aload_n 0, 1) := dk_42 (dk_at dksX0_judge_0 17 rfl rfl)
theorem dX0_judge_18 : decode cX0_judge 18 = .ok (.iload_n 1, 1) := dk_27 (dk_at dksX0_judge_0 18 rfl rfl)
theorem dX0_judge_19 : decode cX0_judge 19 = .ok (.invokevirtual 327, 3) := dk_182 1 71 (dk_at dksX0_judge_0 19 rfl rfl)
theorem dX0_judge_22 : decode cX0_judge 22 = .ok (.istore_n 3, 1) := dk_62 (dk_at dksX0_judge_0 22 rfl rfl)
theorem dX0_judge_23 : decode cX0_judge 23 = .ok (.iload_n 3, 1) := dk_29 (dk_at dksX0_judge_0 23 rfl rfl)
theorem dX0_judge_24 : decode cX0_judge 24 = .ok (.ifCond .ge 7, 3) := dk_156 0 7 (dk_at dksX0_judge_1 0 rfl rfl)
theorem dX0_judge_27 : decode cX0_judge 27 = .ok (.iload_n 3, 1) := dk_29 (dk_at dksX0_judge_1 3 rfl rfl)
theorem dX0_judge_28 : decode cX0_judge 28 = .ok (.goto 8, 3) := dk_167 0 8 (dk_at dksX0_judge_1 4 rfl rfl)
theorem dX0_judge_31 : decode cX0_judge 31 = .ok (.aload_n 0, 1) := dk_42 (dk_at dksX0_judge_1 7 rfl rfl)
theorem dX0_judge_32 : decode cX0_judge 32 = .ok (.iload_n 2, 1) := dk_28 (dk_at dksX0_judge_1 8 rfl rfl)
theorem dX0_judge_33 : decode cX0_judge 33 = .ok (.invokevirtual 330, 3) := dk_182 1 74 (dk_at dksX0_judge_1 9 rfl rfl)
theorem dX0_judge_36 : decode cX0_judge 36 = .ok (.ireturn, 1) := dk_172 (dk_at dksX0_judge_1 12 rfl rfl)
abbrev cX0_layRow : ByteArray := prog_1_method_48_code
def yX0_layRow : MethodName := ⟨RX0, "layRow", "(I)I"⟩
def dkwX0_layRow_2 : List UInt8 := [181, 1, 65, 132, 3, 1, 167, 255, 223, 167, 0, 11, 77, 16, 244, 172, 77, 16, 245, 172, 3, 172]
abbrev dktX0_layRow_2 : List UInt8 := dkwX0_layRow_2 ++ []
def dkwX0_layRow_1 : List UInt8 := [162, 0, 31, 42, 180, 0, 57, 29, 44, 29, 182, 0, 104, 136, 79, 42, 89, 180, 1, 65, 4, 96]
abbrev dktX0_layRow_1 : List UInt8 := dkwX0_layRow_1 ++ dktX0_layRow_2
def dkwX0_layRow_0 : List UInt8 := [42, 3, 181, 1, 65, 42, 180, 0, 77, 27, 50, 192, 0, 102, 77, 3, 62, 29, 44, 182, 1, 68]
abbrev dktX0_layRow_0 : List UInt8 := dkwX0_layRow_0 ++ dktX0_layRow_1
theorem dksX0_layRow_0 : cX0_layRow.data.toList.drop 0 = dktX0_layRow_0 := by decide +kernel
theorem dksX0_layRow_1 : cX0_layRow.data.toList.drop 22 = dktX0_layRow_1 := dk_seg dksX0_layRow_0 22 rfl rfl
theorem dksX0_layRow_2 : cX0_layRow.data.toList.drop 44 = dktX0_layRow_2 := dk_seg dksX0_layRow_1 22 rfl rfl
theorem dX0_layRow_0 : decode cX0_layRow 0 = .ok (.aload_n 0, 1) := dk_42 (dk_at dksX0_layRow_0 0 rfl rfl)
theorem dX0_layRow_1 : decode cX0_layRow 1 = .ok (.iconst 0, 1) := dk_3 (dk_at dksX0_layRow_0 1 rfl rfl)
theorem dX0_layRow_2 : decode cX0_layRow 2 = .ok (.putfield 321, 3) := dk_181 1 65 (dk_at dksX0_layRow_0 2 rfl rfl)
theorem dX0_layRow_5 : decode cX0_layRow 5 = .ok (.aload_n 0, 1) := dk_42 (dk_at dksX0_layRow_0 5 rfl rfl)
theorem dX0_layRow_6 : decode cX0_layRow 6 = .ok (.getfield 77, 3) := dk_180 0 77 (dk_at dksX0_layRow_0 6 rfl rfl)
theorem dX0_layRow_9 : decode cX0_layRow 9 = .ok (.iload_n 1, 1) := dk_27 (dk_at dksX0_layRow_0 9 rfl rfl)
theorem dX0_layRow_10 : decode cX0_layRow 10 = .ok (.aaload, 1) := dk_50 (dk_at dksX0_layRow_0 10 rfl rfl)
theorem dX0_layRow_11 : decode cX0_layRow 11 = .ok (.checkcast 102, 3) := dk_192 0 102 (dk_at dksX0_layRow_0 11 rfl rfl)
theorem dX0_layRow_14 : decode cX0_layRow 14 = .ok (.astore_n 2, 1) := dk_77 (dk_at dksX0_layRow_0 14 rfl rfl)
theorem dX0_layRow_15 : decode cX0_layRow 15 = .ok (.iconst 0, 1) := dk_3 (dk_at dksX0_layRow_0 15 rfl rfl)
theorem dX0_layRow_16 : decode cX0_layRow 16 = .ok (.istore_n 3, 1) := dk_62 (dk_at dksX0_layRow_0 16 rfl rfl)
theorem dX0_layRow_17 : decode cX0_layRow 17 = .ok (.iload_n 3, 1) := dk_29 (dk_at dksX0_layRow_0 17 rfl rfl)
theorem dX0_layRow_18 : decode cX0_layRow 18 = .ok (.aload_n 2, 1) := dk_44 (dk_at dksX0_layRow_0 18 rfl rfl)
theorem dX0_layRow_19 : decode cX0_layRow 19 = .ok (.invokevirtual 324, 3) := dk_182 1 68 (dk_at dksX0_layRow_0 19 rfl rfl)
theorem dX0_layRow_22 : decode cX0_layRow 22 = .ok (.if_icmp .ge 31, 3) := dk_162 0 31 (dk_at dksX0_layRow_1 0 rfl rfl)
theorem dX0_layRow_25 : decode cX0_layRow 25 = .ok (.aload_n 0, 1) := dk_42 (dk_at dksX0_layRow_1 3 rfl rfl)
theorem dX0_layRow_26 : decode cX0_layRow 26 = .ok (.getfield 57, 3) := dk_180 0 57 (dk_at dksX0_layRow_1 4 rfl rfl)
theorem dX0_layRow_29 : decode cX0_layRow 29 = .ok (.iload_n 3, 1) := dk_29 (dk_at dksX0_layRow_1 7 rfl rfl)
theorem dX0_layRow_30 : decode cX0_layRow 30 = .ok (.aload_n 2, 1) := dk_44 (dk_at dksX0_layRow_1 8 rfl rfl)
theorem dX0_layRow_31 : decode cX0_layRow 31 = .ok (.iload_n 3, 1) := dk_29 (dk_at dksX0_layRow_1 9 rfl rfl)
theorem dX0_layRow_32 : decode cX0_layRow 32 = .ok (.invokevirtual 104, 3) := dk_182 0 104 (dk_at dksX0_layRow_1 10 rfl rfl)
theorem dX0_layRow_35 : decode cX0_layRow 35 = .ok (.l2i, 1) := dk_136 (dk_at dksX0_layRow_1 13 rfl rfl)
theorem dX0_layRow_36 : decode cX0_layRow 36 = .ok (.iastore, 1) := dk_79 (dk_at dksX0_layRow_1 14 rfl rfl)
theorem dX0_layRow_37 : decode cX0_layRow 37 = .ok (.aload_n 0, 1) := dk_42 (dk_at dksX0_layRow_1 15 rfl rfl)
theorem dX0_layRow_38 : decode cX0_layRow 38 = .ok (.dup, 1) := dk_89 (dk_at dksX0_layRow_1 16 rfl rfl)
theorem dX0_layRow_39 : decode cX0_layRow 39 = .ok (.getfield 321, 3) := dk_180 1 65 (dk_at dksX0_layRow_1 17 rfl rfl)
theorem dX0_layRow_42 : decode cX0_layRow 42 = .ok (.iconst 1, 1) := dk_4 (dk_at dksX0_layRow_1 20 rfl rfl)
theorem dX0_layRow_43 : decode cX0_layRow 43 = .ok (.iadd, 1) := dk_96 (dk_at dksX0_layRow_1 21 rfl rfl)
theorem dX0_layRow_44 : decode cX0_layRow 44 = .ok (.putfield 321, 3) := dk_181 1 65 (dk_at dksX0_layRow_2 0 rfl rfl)
theorem dX0_layRow_47 : decode cX0_layRow 47 = .ok (.iinc 3 1, 3) := dk_132 3 1 (dk_at dksX0_layRow_2 3 rfl rfl)
theorem dX0_layRow_50 : decode cX0_layRow 50 = .ok (.goto (-33), 3) := dk_167 255 223 (dk_at dksX0_layRow_2 6 rfl rfl)
theorem dX0_layRow_53 : decode cX0_layRow 53 = .ok (.goto 11, 3) := dk_167 0 11 (dk_at dksX0_layRow_2 9 rfl rfl)
theorem dX0_layRow_56 : decode cX0_layRow 56 = .ok (.astore_n 2, 1) := dk_77 (dk_at dksX0_layRow_2 12 rfl rfl)
theorem dX0_layRow_57 : decode cX0_layRow 57 = .ok (.bipush (-12), 2) := dk_16 244 (dk_at dksX0_layRow_2 13 rfl rfl)
theorem dX0_layRow_59 : decode cX0_layRow 59 = .ok (.ireturn, 1) := dk_172 (dk_at dksX0_layRow_2 15 rfl rfl)
theorem dX0_layRow_60 : decode cX0_layRow 60 = .ok (.astore_n 2, 1) := dk_77 (dk_at dksX0_layRow_2 16 rfl rfl)
theorem dX0_layRow_61 : decode cX0_layRow 61 = .ok (.bipush (-11), 2) := dk_16 245 (dk_at dksX0_layRow_2 17 rfl rfl)
theorem dX0_layRow_63 : decode cX0_layRow 63 = .ok (.ireturn, 1) := dk_172 (dk_at dksX0_layRow_2 19 rfl rfl)
theorem dX0_layRow_64 : decode cX0_layRow 64 = .ok (.iconst 0, 1) := dk_3 (dk_at dksX0_layRow_2 20 rfl rfl)
theorem dX0_layRow_65 : decode cX0_layRow 65 = .ok (.ireturn, 1) := dk_172 (dk_at dksX0_layRow_2 21 rfl rfl)
abbrev cX0_wrongDay : ByteArray := prog_1_method_49_code
def yX0_wrongDay : MethodName := ⟨RX0, "wrongDay", "(I)I"⟩
def dkwX0_wrongDay_2 : List UInt8 := [16, 254, 172]
abbrev dktX0_wrongDay_2 : List UInt8 := dkwX0_wrongDay_2 ++ []
def dkwX0_wrongDay_1 : List UInt8 := [27, 46, 42, 180, 0, 57, 28, 46, 159, 0, 5, 28, 172, 42, 182, 1, 8, 132, 2, 1, 167, 255, 218]
abbrev dktX0_wrongDay_1 : List UInt8 := dkwX0_wrongDay_1 ++ dktX0_wrongDay_2
def dkwX0_wrongDay_0 : List UInt8 := [42, 182, 0, 252, 3, 61, 28, 16, 40, 163, 0, 38, 28, 42, 180, 1, 65, 162, 0, 30, 42, 180, 0, 38]
abbrev dktX0_wrongDay_0 : List UInt8 := dkwX0_wrongDay_0 ++ dktX0_wrongDay_1
theorem dksX0_wrongDay_0 : cX0_wrongDay.data.toList.drop 0 = dktX0_wrongDay_0 := by decide +kernel
theorem dksX0_wrongDay_1 : cX0_wrongDay.data.toList.drop 24 = dktX0_wrongDay_1 := dk_seg dksX0_wrongDay_0 24 rfl rfl
theorem dksX0_wrongDay_2 : cX0_wrongDay.data.toList.drop 47 = dktX0_wrongDay_2 := dk_seg dksX0_wrongDay_1 23 rfl rfl
theorem dX0_wrongDay_0 : decode cX0_wrongDay 0 = .ok (.aload_n 0, 1) := dk_42 (dk_at dksX0_wrongDay_0 0 rfl rfl)
theorem dX0_wrongDay_1 : decode cX0_wrongDay 1 = .ok (.invokevirtual 252, 3) := dk_182 0 252 (dk_at dksX0_wrongDay_0 1 rfl rfl)
theorem dX0_wrongDay_4 : decode cX0_wrongDay 4 = .ok (.iconst 0, 1) := dk_3 (dk_at dksX0_wrongDay_0 4 rfl rfl)
theorem dX0_wrongDay_5 : decode cX0_wrongDay 5 = .ok (.istore_n 2, 1) := dk_61 (dk_at dksX0_wrongDay_0 5 rfl rfl)
theorem dX0_wrongDay_6 : decode cX0_wrongDay 6 = .ok (.iload_n 2, 1) := dk_28 (dk_at dksX0_wrongDay_0 6 rfl rfl)
theorem dX0_wrongDay_7 : decode cX0_wrongDay 7 = .ok (.bipush 40, 2) := dk_16 40 (dk_at dksX0_wrongDay_0 7 rfl rfl)
theorem dX0_wrongDay_9 : decode cX0_wrongDay 9 = .ok (.if_icmp .gt 38, 3) := dk_163 0 38 (dk_at dksX0_wrongDay_0 9 rfl rfl)
theorem dX0_wrongDay_12 : decode cX0_wrongDay 12 = .ok (.iload_n 2, 1) := dk_28 (dk_at dksX0_wrongDay_0 12 rfl rfl)
theorem dX0_wrongDay_13 : decode cX0_wrongDay 13 = .ok (.aload_n 0, 1) := dk_42 (dk_at dksX0_wrongDay_0 13 rfl rfl)
theorem dX0_wrongDay_14 : decode cX0_wrongDay 14 = .ok (.getfield 321, 3) := dk_180 1 65 (dk_at dksX0_wrongDay_0 14 rfl rfl)
theorem dX0_wrongDay_17 : decode cX0_wrongDay 17 = .ok (.if_icmp .ge 30, 3) := dk_162 0 30 (dk_at dksX0_wrongDay_0 17 rfl rfl)
theorem dX0_wrongDay_20 : decode cX0_wrongDay 20 = .ok (.aload_n 0, 1) := dk_42 (dk_at dksX0_wrongDay_0 20 rfl rfl)
theorem dX0_wrongDay_21 : decode cX0_wrongDay 21 = .ok (.getfield 38, 3) := dk_180 0 38 (dk_at dksX0_wrongDay_0 21 rfl rfl)
theorem dX0_wrongDay_24 : decode cX0_wrongDay 24 = .ok (.iload_n 1, 1) := dk_27 (dk_at dksX0_wrongDay_1 0 rfl rfl)
theorem dX0_wrongDay_25 : decode cX0_wrongDay 25 = .ok (.iaload, 1) := dk_46 (dk_at dksX0_wrongDay_1 1 rfl rfl)
theorem dX0_wrongDay_26 : decode cX0_wrongDay 26 = .ok (.aload_n 0, 1) := dk_42 (dk_at dksX0_wrongDay_1 2 rfl rfl)
theorem dX0_wrongDay_27 : decode cX0_wrongDay 27 = .ok (.getfield 57, 3) := dk_180 0 57 (dk_at dksX0_wrongDay_1 3 rfl rfl)
theorem dX0_wrongDay_30 : decode cX0_wrongDay 30 = .ok (.iload_n 2, 1) := dk_28 (dk_at dksX0_wrongDay_1 6 rfl rfl)
theorem dX0_wrongDay_31 : decode cX0_wrongDay 31 = .ok (.iaload, 1) := dk_46 (dk_at dksX0_wrongDay_1 7 rfl rfl)
theorem dX0_wrongDay_32 : decode cX0_wrongDay 32 = .ok (.if_icmp .eq 5, 3) := dk_159 0 5 (dk_at dksX0_wrongDay_1 8 rfl rfl)
theorem dX0_wrongDay_35 : decode cX0_wrongDay 35 = .ok (.iload_n 2, 1) := dk_28 (dk_at dksX0_wrongDay_1 11 rfl rfl)
theorem dX0_wrongDay_36 : decode cX0_wrongDay 36 = .ok (.ireturn, 1) := dk_172 (dk_at dksX0_wrongDay_1 12 rfl rfl)
theorem dX0_wrongDay_37 : decode cX0_wrongDay 37 = .ok (.aload_n 0, 1) := dk_42 (dk_at dksX0_wrongDay_1 13 rfl rfl)
theorem dX0_wrongDay_38 : decode cX0_wrongDay 38 = .ok (.invokevirtual 264, 3) := dk_182 1 8 (dk_at dksX0_wrongDay_1 14 rfl rfl)
theorem dX0_wrongDay_41 : decode cX0_wrongDay 41 = .ok (.iinc 2 1, 3) := dk_132 2 1 (dk_at dksX0_wrongDay_1 17 rfl rfl)
theorem dX0_wrongDay_44 : decode cX0_wrongDay 44 = .ok (.goto (-38), 3) := dk_167 255 218 (dk_at dksX0_wrongDay_1 20 rfl rfl)
theorem dX0_wrongDay_47 : decode cX0_wrongDay 47 = .ok (.bipush (-2), 2) := dk_16 254 (dk_at dksX0_wrongDay_2 0 rfl rfl)
theorem dX0_wrongDay_49 : decode cX0_wrongDay 49 = .ok (.ireturn, 1) := dk_172 (dk_at dksX0_wrongDay_2 2 rfl rfl)
abbrev cX0_fits : ByteArray := prog_1_method_53_code
def yX0_fits : MethodName := ⟨RX0, "fits", "(III)I"⟩
def dkwX0_fits_5 : List UInt8 := [21, 5, 184, 1, 28, 172]
abbrev dktX0_fits_5 : List UInt8 := dkwX0_fits_5 ++ []
def dkwX0_fits_4 : List UInt8 := [54, 5, 29, 154, 0, 11, 21, 5, 184, 1, 14, 167, 0, 18, 21, 5, 154, 0, 8, 16, 254, 167, 0, 8]
abbrev dktX0_fits_4 : List UInt8 := dkwX0_fits_4 ++ dktX0_fits_5
def dkwX0_fits_3 : List UInt8 := [16, 10, 112, 182, 1, 77, 172, 42, 28, 16, 10, 108, 42, 180, 0, 13, 28, 16, 10, 112, 50, 182, 1, 80]
abbrev dktX0_fits_3 : List UInt8 := dkwX0_fits_3 ++ dktX0_fits_4
def dkwX0_fits_2 : List UInt8 := [182, 1, 71, 54, 4, 21, 4, 156, 0, 6, 21, 4, 172, 29, 5, 160, 0, 16, 42, 28, 16, 10, 108, 28]
abbrev dktX0_fits_2 : List UInt8 := dkwX0_fits_2 ++ dktX0_fits_3
def dkwX0_fits_1 : List UInt8 := [16, 10, 112, 182, 0, 156, 153, 0, 12, 29, 3, 5, 184, 0, 81, 154, 0, 5, 2, 172, 42, 27]
abbrev dktX0_fits_1 : List UInt8 := dkwX0_fits_1 ++ dktX0_fits_2
def dkwX0_fits_0 : List UInt8 := [27, 184, 0, 99, 153, 0, 38, 28, 155, 0, 34, 42, 28, 16, 10, 108, 182, 0, 156, 153, 0, 23, 42, 28]
abbrev dktX0_fits_0 : List UInt8 := dkwX0_fits_0 ++ dktX0_fits_1
theorem dksX0_fits_0 : cX0_fits.data.toList.drop 0 = dktX0_fits_0 := by decide +kernel
theorem dksX0_fits_1 : cX0_fits.data.toList.drop 24 = dktX0_fits_1 := dk_seg dksX0_fits_0 24 rfl rfl
theorem dksX0_fits_2 : cX0_fits.data.toList.drop 46 = dktX0_fits_2 := dk_seg dksX0_fits_1 22 rfl rfl
theorem dksX0_fits_3 : cX0_fits.data.toList.drop 70 = dktX0_fits_3 := dk_seg dksX0_fits_2 24 rfl rfl
theorem dksX0_fits_4 : cX0_fits.data.toList.drop 94 = dktX0_fits_4 := dk_seg dksX0_fits_3 24 rfl rfl
theorem dksX0_fits_5 : cX0_fits.data.toList.drop 118 = dktX0_fits_5 := dk_seg dksX0_fits_4 24 rfl rfl
theorem dX0_fits_0 : decode cX0_fits 0 = .ok (.iload_n 1, 1) := dk_27 (dk_at dksX0_fits_0 0 rfl rfl)
theorem dX0_fits_1 : decode cX0_fits 1 = .ok (.invokestatic 99, 3) := dk_184 0 99 (dk_at dksX0_fits_0 1 rfl rfl)
theorem dX0_fits_4 : decode cX0_fits 4 = .ok (.ifCond .eq 38, 3) := dk_153 0 38 (dk_at dksX0_fits_0 4 rfl rfl)
theorem dX0_fits_7 : decode cX0_fits 7 = .ok (.iload_n 2, 1) := dk_28 (dk_at dksX0_fits_0 7 rfl rfl)
theorem dX0_fits_8 : decode cX0_fits 8 = .ok (.ifCond .lt 34, 3) := dk_155 0 34 (dk_at dksX0_fits_0 8 rfl rfl)
theorem dX0_fits_11 : decode cX0_fits 11 = .ok (.aload_n 0, 1) := dk_42 (dk_at dksX0_fits_0 11 rfl rfl)
theorem dX0_fits_12 : decode cX0_fits 12 = .ok (.iload_n 2, 1) := dk_28 (dk_at dksX0_fits_0 12 rfl rfl)
theorem dX0_fits_13 : decode cX0_fits 13 = .ok (.bipush 10, 2) := dk_16 10 (dk_at dksX0_fits_0 13 rfl rfl)
theorem dX0_fits_15 : decode cX0_fits 15 = .ok (.idiv, 1) := dk_108 (dk_at dksX0_fits_0 15 rfl rfl)
theorem dX0_fits_16 : decode cX0_fits 16 = .ok (.invokevirtual 156, 3) := dk_182 0 156 (dk_at dksX0_fits_0 16 rfl rfl)
theorem dX0_fits_19 : decode cX0_fits 19 = .ok (.ifCond .eq 23, 3) := dk_153 0 23 (dk_at dksX0_fits_0 19 rfl rfl)
theorem dX0_fits_22 : decode cX0_fits 22 = .ok (.aload_n 0, 1) := dk_42 (dk_at dksX0_fits_0 22 rfl rfl)
theorem dX0_fits_23 : decode cX0_fits 23 = .ok (.iload_n 2, 1) := dk_28 (dk_at dksX0_fits_0 23 rfl rfl)
theorem dX0_fits_24 : decode cX0_fits 24 = .ok (.bipush 10, 2) := dk_16 10 (dk_at dksX0_fits_1 0 rfl rfl)
theorem dX0_fits_26 : decode cX0_fits 26 = .ok (.irem, 1) := dk_112 (dk_at dksX0_fits_1 2 rfl rfl)
theorem dX0_fits_27 : decode cX0_fits 27 = .ok (.invokevirtual 156, 3) := dk_182 0 156 (dk_at dksX0_fits_1 3 rfl rfl)
theorem dX0_fits_30 : decode cX0_fits 30 = .ok (.ifCond .eq 12, 3) := dk_153 0 12 (dk_at dksX0_fits_1 6 rfl rfl)
theorem dX0_fits_33 : decode cX0_fits 33 = .ok (.iload_n 3, 1) := dk_29 (dk_at dksX0_fits_1 9 rfl rfl)
theorem dX0_fits_34 : decode cX0_fits 34 = .ok (.iconst 0, 1) := dk_3 (dk_at dksX0_fits_1 10 rfl rfl)
theorem dX0_fits_35 : decode cX0_fits 35 = .ok (.iconst 2, 1) := dk_5 (dk_at dksX0_fits_1 11 rfl rfl)
theorem dX0_fits_36 : decode cX0_fits 36 = .ok (.invokestatic 81, 3) := dk_184 0 81 (dk_at dksX0_fits_1 12 rfl rfl)
theorem dX0_fits_39 : decode cX0_fits 39 = .ok (.ifCond .ne 5, 3) := dk_154 0 5 (dk_at dksX0_fits_1 15 rfl rfl)
theorem dX0_fits_42 : decode cX0_fits 42 = .ok (.iconst (-1), 1) := dk_2 (dk_at dksX0_fits_1 18 rfl rfl)
theorem dX0_fits_43 : decode cX0_fits 43 = .ok (.ireturn, 1) := dk_172 (dk_at dksX0_fits_1 19 rfl rfl)
theorem dX0_fits_44 : decode cX0_fits 44 = .ok (.aload_n 0, 1) := dk_42 (dk_at dksX0_fits_1 20 rfl rfl)
theorem dX0_fits_45 : decode cX0_fits 45 = .ok (.iload_n 1, 1) := dk_27 (dk_at dksX0_fits_1 21 rfl rfl)
theorem dX0_fits_46 : decode cX0_fits 46 = .ok (.invokevirtual 327, 3) := dk_182 1 71 (dk_at dksX0_fits_2 0 rfl rfl)
theorem dX0_fits_49 : decode cX0_fits 49 = .ok (.istore 4, 2) := dk_54 4 (dk_at dksX0_fits_2 3 rfl rfl)
theorem dX0_fits_51 : decode cX0_fits 51 = .ok (.iload 4, 2) := dk_21 4 (dk_at dksX0_fits_2 5 rfl rfl)
theorem dX0_fits_53 : decode cX0_fits 53 = .ok (.ifCond .ge 6, 3) := dk_156 0 6 (dk_at dksX0_fits_2 7 rfl rfl)
theorem dX0_fits_56 : decode cX0_fits 56 = .ok (.iload 4, 2) := dk_21 4 (dk_at dksX0_fits_2 10 rfl rfl)
theorem dX0_fits_58 : decode cX0_fits 58 = .ok (.ireturn, 1) := dk_172 (dk_at dksX0_fits_2 12 rfl rfl)
theorem dX0_fits_59 : decode cX0_fits 59 = .ok (.iload_n 3, 1) := dk_29 (dk_at dksX0_fits_2 13 rfl rfl)
theorem dX0_fits_60 : decode cX0_fits 60 = .ok (.iconst 2, 1) := dk_5 (dk_at dksX0_fits_2 14 rfl rfl)
theorem dX0_fits_61 : decode cX0_fits 61 = .ok (.if_icmp .ne 16, 3) := dk_160 0 16 (dk_at dksX0_fits_2 15 rfl rfl)
theorem dX0_fits_64 : decode cX0_fits 64 = .ok (.aload_n 0, 1) := dk_42 (dk_at dksX0_fits_2 18 rfl rfl)
theorem dX0_fits_65 : decode cX0_fits 65 = .ok (.iload_n 2, 1) := dk_28 (dk_at dksX0_fits_2 19 rfl rfl)
theorem dX0_fits_66 : decode cX0_fits 66 = .ok (.bipush 10, 2) := dk_16 10 (dk_at dksX0_fits_2 20 rfl rfl)
theorem dX0_fits_68 : decode cX0_fits 68 = .ok (.idiv, 1) := dk_108 (dk_at dksX0_fits_2 22 rfl rfl)
theorem dX0_fits_69 : decode cX0_fits 69 = .ok (.iload_n 2, 1) := dk_28 (dk_at dksX0_fits_2 23 rfl rfl)
theorem dX0_fits_70 : decode cX0_fits 70 = .ok (.bipush 10, 2) := dk_16 10 (dk_at dksX0_fits_3 0 rfl rfl)
theorem dX0_fits_72 : decode cX0_fits 72 = .ok (.irem, 1) := dk_112 (dk_at dksX0_fits_3 2 rfl rfl)
theorem dX0_fits_73 : decode cX0_fits 73 = .ok (.invokevirtual 333, 3) := dk_182 1 77 (dk_at dksX0_fits_3 3 rfl rfl)
theorem dX0_fits_76 : decode cX0_fits 76 = .ok (.ireturn, 1) := dk_172 (dk_at dksX0_fits_3 6 rfl rfl)
theorem dX0_fits_77 : decode cX0_fits 77 = .ok (.aload_n 0, 1) := dk_42 (dk_at dksX0_fits_3 7 rfl rfl)
theorem dX0_fits_78 : decode cX0_fits 78 = .ok (.iload_n 2, 1) := dk_28 (dk_at dksX0_fits_3 8 rfl rfl)
theorem dX0_fits_79 : decode cX0_fits 79 = .ok (.bipush 10, 2) := dk_16 10 (dk_at dksX0_fits_3 9 rfl rfl)
theorem dX0_fits_81 : decode cX0_fits 81 = .ok (.idiv, 1) := dk_108 (dk_at dksX0_fits_3 11 rfl rfl)
theorem dX0_fits_82 : decode cX0_fits 82 = .ok (.aload_n 0, 1) := dk_42 (dk_at dksX0_fits_3 12 rfl rfl)
theorem dX0_fits_83 : decode cX0_fits 83 = .ok (.getfield 13, 3) := dk_180 0 13 (dk_at dksX0_fits_3 13 rfl rfl)
theorem dX0_fits_86 : decode cX0_fits 86 = .ok (.iload_n 2, 1) := dk_28 (dk_at dksX0_fits_3 16 rfl rfl)
theorem dX0_fits_87 : decode cX0_fits 87 = .ok (.bipush 10, 2) := dk_16 10 (dk_at dksX0_fits_3 17 rfl rfl)
theorem dX0_fits_89 : decode cX0_fits 89 = .ok (.irem, 1) := dk_112 (dk_at dksX0_fits_3 19 rfl rfl)
theorem dX0_fits_90 : decode cX0_fits 90 = .ok (.aaload, 1) := dk_50 (dk_at dksX0_fits_3 20 rfl rfl)
theorem dX0_fits_91 : decode cX0_fits 91 = .ok (.invokevirtual 336, 3) := dk_182 1 80 (dk_at dksX0_fits_3 21 rfl rfl)
theorem dX0_fits_94 : decode cX0_fits 94 = .ok (.istore 5, 2) := dk_54 5 (dk_at dksX0_fits_4 0 rfl rfl)
theorem dX0_fits_96 : decode cX0_fits 96 = .ok (.iload_n 3, 1) := dk_29 (dk_at dksX0_fits_4 2 rfl rfl)
theorem dX0_fits_97 : decode cX0_fits 97 = .ok (.ifCond .ne 11, 3) := dk_154 0 11 (dk_at dksX0_fits_4 3 rfl rfl)
theorem dX0_fits_100 : decode cX0_fits 100 = .ok (.iload 5, 2) := dk_21 5 (dk_at dksX0_fits_4 6 rfl rfl)
theorem dX0_fits_102 : decode cX0_fits 102 = .ok (.invokestatic 270, 3) := dk_184 1 14 (dk_at dksX0_fits_4 8 rfl rfl)
theorem dX0_fits_105 : decode cX0_fits 105 = .ok (.goto 18, 3) := dk_167 0 18 (dk_at dksX0_fits_4 11 rfl rfl)
theorem dX0_fits_108 : decode cX0_fits 108 = .ok (.iload 5, 2) := dk_21 5 (dk_at dksX0_fits_4 14 rfl rfl)
theorem dX0_fits_110 : decode cX0_fits 110 = .ok (.ifCond .ne 8, 3) := dk_154 0 8 (dk_at dksX0_fits_4 16 rfl rfl)
theorem dX0_fits_113 : decode cX0_fits 113 = .ok (.bipush (-2), 2) := dk_16 254 (dk_at dksX0_fits_4 19 rfl rfl)
theorem dX0_fits_115 : decode cX0_fits 115 = .ok (.goto 8, 3) := dk_167 0 8 (dk_at dksX0_fits_4 21 rfl rfl)
theorem dX0_fits_118 : decode cX0_fits 118 = .ok (.iload 5, 2) := dk_21 5 (dk_at dksX0_fits_5 0 rfl rfl)
theorem dX0_fits_120 : decode cX0_fits 120 = .ok (.invokestatic 284, 3) := dk_184 1 28 (dk_at dksX0_fits_5 2 rfl rfl)
theorem dX0_fits_123 : decode cX0_fits 123 = .ok (.ireturn, 1) := dk_172 (dk_at dksX0_fits_5 5 rfl rfl)
abbrev cX0_whomBits : ByteArray := prog_1_method_52_code
def yX0_whomBits : MethodName := ⟨RX0, "whomBits", "(II)I"⟩
def dkwX0_whomBits_4 : List UInt8 := [172]
abbrev dktX0_whomBits_4 : List UInt8 := dkwX0_whomBits_4 ++ []
def dkwX0_whomBits_3 : List UInt8 := [21, 5, 120, 128, 54, 4, 132, 5, 1, 167, 255, 194, 42, 180, 0, 13, 28, 50, 29, 181, 0, 126, 21, 4]
abbrev dktX0_whomBits_3 : List UInt8 := dkwX0_whomBits_3 ++ dktX0_whomBits_4
def dkwX0_whomBits_2 : List UInt8 := [27, 182, 1, 74, 16, 254, 160, 0, 23, 21, 4, 21, 5, 156, 0, 9, 17, 1, 0, 167, 0, 7, 4]
abbrev dktX0_whomBits_2 : List UInt8 := dkwX0_whomBits_2 ++ dktX0_whomBits_3
def dkwX0_whomBits_1 : List UInt8 := [162, 0, 59, 21, 5, 28, 160, 0, 6, 167, 0, 44, 42, 180, 0, 13, 28, 50, 21, 5, 181, 0, 126, 42]
abbrev dktX0_whomBits_1 : List UInt8 := dkwX0_whomBits_1 ++ dktX0_whomBits_2
def dkwX0_whomBits_0 : List UInt8 := [42, 180, 0, 13, 28, 50, 180, 0, 126, 62, 3, 54, 4, 2, 54, 5, 21, 5, 42, 180, 0, 85]
abbrev dktX0_whomBits_0 : List UInt8 := dkwX0_whomBits_0 ++ dktX0_whomBits_1
theorem dksX0_whomBits_0 : cX0_whomBits.data.toList.drop 0 = dktX0_whomBits_0 := by decide +kernel
theorem dksX0_whomBits_1 : cX0_whomBits.data.toList.drop 22 = dktX0_whomBits_1 := dk_seg dksX0_whomBits_0 22 rfl rfl
theorem dksX0_whomBits_2 : cX0_whomBits.data.toList.drop 46 = dktX0_whomBits_2 := dk_seg dksX0_whomBits_1 24 rfl rfl
theorem dksX0_whomBits_3 : cX0_whomBits.data.toList.drop 69 = dktX0_whomBits_3 := dk_seg dksX0_whomBits_2 23 rfl rfl
theorem dksX0_whomBits_4 : cX0_whomBits.data.toList.drop 93 = dktX0_whomBits_4 := dk_seg dksX0_whomBits_3 24 rfl rfl
theorem dX0_whomBits_0 : decode cX0_whomBits 0 = .ok (.aload_n 0, 1) := dk_42 (dk_at dksX0_whomBits_0 0 rfl rfl)
theorem dX0_whomBits_1 : decode cX0_whomBits 1 = .ok (.getfield 13, 3) := dk_180 0 13 (dk_at dksX0_whomBits_0 1 rfl rfl)
theorem dX0_whomBits_4 : decode cX0_whomBits 4 = .ok (.iload_n 2, 1) := dk_28 (dk_at dksX0_whomBits_0 4 rfl rfl)
theorem dX0_whomBits_5 : decode cX0_whomBits 5 = .ok (.aaload, 1) := dk_50 (dk_at dksX0_whomBits_0 5 rfl rfl)
theorem dX0_whomBits_6 : decode cX0_whomBits 6 = .ok (.getfield 126, 3) := dk_180 0 126 (dk_at dksX0_whomBits_0 6 rfl rfl)
theorem dX0_whomBits_9 : decode cX0_whomBits 9 = .ok (.istore_n 3, 1) := dk_62 (dk_at dksX0_whomBits_0 9 rfl rfl)
theorem dX0_whomBits_10 : decode cX0_whomBits 10 = .ok (.iconst 0, 1) := dk_3 (dk_at dksX0_whomBits_0 10 rfl rfl)
theorem dX0_whomBits_11 : decode cX0_whomBits 11 = .ok (.istore 4, 2) := dk_54 4 (dk_at dksX0_whomBits_0 11 rfl rfl)
theorem dX0_whomBits_13 : decode cX0_whomBits 13 = .ok (.iconst (-1), 1) := dk_2 (dk_at dksX0_whomBits_0 13 rfl rfl)
theorem dX0_whomBits_14 : decode cX0_whomBits 14 = .ok (.istore 5, 2) := dk_54 5 (dk_at dksX0_whomBits_0 14 rfl rfl)
theorem dX0_whomBits_16 : decode cX0_whomBits 16 = .ok (.iload 5, 2) := dk_21 5 (dk_at dksX0_whomBits_0 16 rfl rfl)
theorem dX0_whomBits_18 : decode cX0_whomBits 18 = .ok (.aload_n 0, 1) := dk_42 (dk_at dksX0_whomBits_0 18 rfl rfl)
theorem dX0_whomBits_19 : decode cX0_whomBits 19 = .ok (.getfield 85, 3) := dk_180 0 85 (dk_at dksX0_whomBits_0 19 rfl rfl)
theorem dX0_whomBits_22 : decode cX0_whomBits 22 = .ok (.if_icmp .ge 59, 3) := dk_162 0 59 (dk_at dksX0_whomBits_1 0 rfl rfl)
theorem dX0_whomBits_25 : decode cX0_whomBits 25 = .ok (.iload 5, 2) := dk_21 5 (dk_at dksX0_whomBits_1 3 rfl rfl)
theorem dX0_whomBits_27 : decode cX0_whomBits 27 = .ok (.iload_n 2, 1) := dk_28 (dk_at dksX0_whomBits_1 5 rfl rfl)
theorem dX0_whomBits_28 : decode cX0_whomBits 28 = .ok (.if_icmp .ne 6, 3) := dk_160 0 6 (dk_at dksX0_whomBits_1 6 rfl rfl)
theorem dX0_whomBits_31 : decode cX0_whomBits 31 = .ok (.goto 44, 3) := dk_167 0 44 (dk_at dksX0_whomBits_1 9 rfl rfl)
theorem dX0_whomBits_34 : decode cX0_whomBits 34 = .ok (.aload_n 0, 1) := dk_42 (dk_at dksX0_whomBits_1 12 rfl rfl)
theorem dX0_whomBits_35 : decode cX0_whomBits 35 = .ok (.getfield 13, 3) := dk_180 0 13 (dk_at dksX0_whomBits_1 13 rfl rfl)
theorem dX0_whomBits_38 : decode cX0_whomBits 38 = .ok (.iload_n 2, 1) := dk_28 (dk_at dksX0_whomBits_1 16 rfl rfl)
theorem dX0_whomBits_39 : decode cX0_whomBits 39 = .ok (.aaload, 1) := dk_50 (dk_at dksX0_whomBits_1 17 rfl rfl)
theorem dX0_whomBits_40 : decode cX0_whomBits 40 = .ok (.iload 5, 2) := dk_21 5 (dk_at dksX0_whomBits_1 18 rfl rfl)
theorem dX0_whomBits_42 : decode cX0_whomBits 42 = .ok (.putfield 126, 3) := dk_181 0 126 (dk_at dksX0_whomBits_1 20 rfl rfl)
theorem dX0_whomBits_45 : decode cX0_whomBits 45 = .ok (.aload_n 0, 1) := dk_42 (dk_at dksX0_whomBits_1 23 rfl rfl)
theorem dX0_whomBits_46 : decode cX0_whomBits 46 = .ok (.iload_n 1, 1) := dk_27 (dk_at dksX0_whomBits_2 0 rfl rfl)
theorem dX0_whomBits_47 : decode cX0_whomBits 47 = .ok (.invokevirtual 330, 3) := dk_182 1 74 (dk_at dksX0_whomBits_2 1 rfl rfl)
theorem dX0_whomBits_50 : decode cX0_whomBits 50 = .ok (.bipush (-2), 2) := dk_16 254 (dk_at dksX0_whomBits_2 4 rfl rfl)
theorem dX0_whomBits_52 : decode cX0_whomBits 52 = .ok (.if_icmp .ne 23, 3) := dk_160 0 23 (dk_at dksX0_whomBits_2 6 rfl rfl)
theorem dX0_whomBits_55 : decode cX0_whomBits 55 = .ok (.iload 4, 2) := dk_21 4 (dk_at dksX0_whomBits_2 9 rfl rfl)
theorem dX0_whomBits_57 : decode cX0_whomBits 57 = .ok (.iload 5, 2) := dk_21 5 (dk_at dksX0_whomBits_2 11 rfl rfl)
theorem dX0_whomBits_59 : decode cX0_whomBits 59 = .ok (.ifCond .ge 9, 3) := dk_156 0 9 (dk_at dksX0_whomBits_2 13 rfl rfl)
theorem dX0_whomBits_62 : decode cX0_whomBits 62 = .ok (.sipush 256, 3) := dk_17 1 0 (dk_at dksX0_whomBits_2 16 rfl rfl)
theorem dX0_whomBits_65 : decode cX0_whomBits 65 = .ok (.goto 7, 3) := dk_167 0 7 (dk_at dksX0_whomBits_2 19 rfl rfl)
theorem dX0_whomBits_68 : decode cX0_whomBits 68 = .ok (.iconst 1, 1) := dk_4 (dk_at dksX0_whomBits_2 22 rfl rfl)
theorem dX0_whomBits_69 : decode cX0_whomBits 69 = .ok (.iload 5, 2) := dk_21 5 (dk_at dksX0_whomBits_3 0 rfl rfl)
theorem dX0_whomBits_71 : decode cX0_whomBits 71 = .ok (.ishl, 1) := dk_120 (dk_at dksX0_whomBits_3 2 rfl rfl)
theorem dX0_whomBits_72 : decode cX0_whomBits 72 = .ok (.ior, 1) := dk_128 (dk_at dksX0_whomBits_3 3 rfl rfl)
theorem dX0_whomBits_73 : decode cX0_whomBits 73 = .ok (.istore 4, 2) := dk_54 4 (dk_at dksX0_whomBits_3 4 rfl rfl)
theorem dX0_whomBits_75 : decode cX0_whomBits 75 = .ok (.iinc 5 1, 3) := dk_132 5 1 (dk_at dksX0_whomBits_3 6 rfl rfl)
theorem dX0_whomBits_78 : decode cX0_whomBits 78 = .ok (.goto (-62), 3) := dk_167 255 194 (dk_at dksX0_whomBits_3 9 rfl rfl)
theorem dX0_whomBits_81 : decode cX0_whomBits 81 = .ok (.aload_n 0, 1) := dk_42 (dk_at dksX0_whomBits_3 12 rfl rfl)
theorem dX0_whomBits_82 : decode cX0_whomBits 82 = .ok (.getfield 13, 3) := dk_180 0 13 (dk_at dksX0_whomBits_3 13 rfl rfl)
theorem dX0_whomBits_85 : decode cX0_whomBits 85 = .ok (.iload_n 2, 1) := dk_28 (dk_at dksX0_whomBits_3 16 rfl rfl)
theorem dX0_whomBits_86 : decode cX0_whomBits 86 = .ok (.aaload, 1) := dk_50 (dk_at dksX0_whomBits_3 17 rfl rfl)
theorem dX0_whomBits_87 : decode cX0_whomBits 87 = .ok (.iload_n 3, 1) := dk_29 (dk_at dksX0_whomBits_3 18 rfl rfl)
theorem dX0_whomBits_88 : decode cX0_whomBits 88 = .ok (.putfield 126, 3) := dk_181 0 126 (dk_at dksX0_whomBits_3 19 rfl rfl)
theorem dX0_whomBits_91 : decode cX0_whomBits 91 = .ok (.iload 4, 2) := dk_21 4 (dk_at dksX0_whomBits_3 22 rfl rfl)
theorem dX0_whomBits_93 : decode cX0_whomBits 93 = .ok (.ireturn, 1) := dk_172 (dk_at dksX0_whomBits_4 0 rfl rfl)
abbrev cX0_giftBits : ByteArray := prog_1_method_51_code
def yX0_giftBits : MethodName := ⟨RX0, "giftBits", "(ILShieldLine$Person;)I"⟩
def dkwX0_giftBits_2 : List UInt8 := [167, 255, 221, 44, 29, 181, 0, 108, 21, 4, 172]
abbrev dktX0_giftBits_2 : List UInt8 := dkwX0_giftBits_2 ++ []
def dkwX0_giftBits_1 : List UInt8 := [42, 27, 182, 1, 74, 16, 254, 160, 0, 12, 21, 4, 4, 21, 5, 120, 128, 54, 4, 132, 5, 1]
abbrev dktX0_giftBits_1 : List UInt8 := dkwX0_giftBits_1 ++ dktX0_giftBits_2
def dkwX0_giftBits_0 : List UInt8 := [44, 180, 0, 108, 62, 3, 54, 4, 3, 54, 5, 21, 5, 16, 9, 163, 0, 34, 44, 21, 5, 181, 0, 108]
abbrev dktX0_giftBits_0 : List UInt8 := dkwX0_giftBits_0 ++ dktX0_giftBits_1
theorem dksX0_giftBits_0 : cX0_giftBits.data.toList.drop 0 = dktX0_giftBits_0 := by decide +kernel
theorem dksX0_giftBits_1 : cX0_giftBits.data.toList.drop 24 = dktX0_giftBits_1 := dk_seg dksX0_giftBits_0 24 rfl rfl
theorem dksX0_giftBits_2 : cX0_giftBits.data.toList.drop 46 = dktX0_giftBits_2 := dk_seg dksX0_giftBits_1 22 rfl rfl
theorem dX0_giftBits_0 : decode cX0_giftBits 0 = .ok (.aload_n 2, 1) := dk_44 (dk_at dksX0_giftBits_0 0 rfl rfl)
theorem dX0_giftBits_1 : decode cX0_giftBits 1 = .ok (.getfield 108, 3) := dk_180 0 108 (dk_at dksX0_giftBits_0 1 rfl rfl)
theorem dX0_giftBits_4 : decode cX0_giftBits 4 = .ok (.istore_n 3, 1) := dk_62 (dk_at dksX0_giftBits_0 4 rfl rfl)
theorem dX0_giftBits_5 : decode cX0_giftBits 5 = .ok (.iconst 0, 1) := dk_3 (dk_at dksX0_giftBits_0 5 rfl rfl)
theorem dX0_giftBits_6 : decode cX0_giftBits 6 = .ok (.istore 4, 2) := dk_54 4 (dk_at dksX0_giftBits_0 6 rfl rfl)
theorem dX0_giftBits_8 : decode cX0_giftBits 8 = .ok (.iconst 0, 1) := dk_3 (dk_at dksX0_giftBits_0 8 rfl rfl)
theorem dX0_giftBits_9 : decode cX0_giftBits 9 = .ok (.istore 5, 2) := dk_54 5 (dk_at dksX0_giftBits_0 9 rfl rfl)
theorem dX0_giftBits_11 : decode cX0_giftBits 11 = .ok (.iload 5, 2) := dk_21 5 (dk_at dksX0_giftBits_0 11 rfl rfl)
theorem dX0_giftBits_13 : decode cX0_giftBits 13 = .ok (.bipush 9, 2) := dk_16 9 (dk_at dksX0_giftBits_0 13 rfl rfl)
theorem dX0_giftBits_15 : decode cX0_giftBits 15 = .ok (.if_icmp .gt 34, 3) := dk_163 0 34 (dk_at dksX0_giftBits_0 15 rfl rfl)
theorem dX0_giftBits_18 : decode cX0_giftBits 18 = .ok (.aload_n 2, 1) := dk_44 (dk_at dksX0_giftBits_0 18 rfl rfl)
theorem dX0_giftBits_19 : decode cX0_giftBits 19 = .ok (.iload 5, 2) := dk_21 5 (dk_at dksX0_giftBits_0 19 rfl rfl)
theorem dX0_giftBits_21 : decode cX0_giftBits 21 = .ok (.putfield 108, 3) := dk_181 0 108 (dk_at dksX0_giftBits_0 21 rfl rfl)
theorem dX0_giftBits_24 : decode cX0_giftBits 24 = .ok (.aload_n 0, 1) := dk_42 (dk_at dksX0_giftBits_1 0 rfl rfl)
theorem dX0_giftBits_25 : decode cX0_giftBits 25 = .ok (.iload_n 1, 1) := dk_27 (dk_at dksX0_giftBits_1 1 rfl rfl)
theorem dX0_giftBits_26 : decode cX0_giftBits 26 = .ok (.invokevirtual 330, 3) := dk_182 1 74 (dk_at dksX0_giftBits_1 2 rfl rfl)
theorem dX0_giftBits_29 : decode cX0_giftBits 29 = .ok (.bipush (-2), 2) := dk_16 254 (dk_at dksX0_giftBits_1 5 rfl rfl)
theorem dX0_giftBits_31 : decode cX0_giftBits 31 = .ok (.if_icmp .ne 12, 3) := dk_160 0 12 (dk_at dksX0_giftBits_1 7 rfl rfl)
theorem dX0_giftBits_34 : decode cX0_giftBits 34 = .ok (.iload 4, 2) := dk_21 4 (dk_at dksX0_giftBits_1 10 rfl rfl)
theorem dX0_giftBits_36 : decode cX0_giftBits 36 = .ok (.iconst 1, 1) := dk_4 (dk_at dksX0_giftBits_1 12 rfl rfl)
theorem dX0_giftBits_37 : decode cX0_giftBits 37 = .ok (.iload 5, 2) := dk_21 5 (dk_at dksX0_giftBits_1 13 rfl rfl)
theorem dX0_giftBits_39 : decode cX0_giftBits 39 = .ok (.ishl, 1) := dk_120 (dk_at dksX0_giftBits_1 15 rfl rfl)
theorem dX0_giftBits_40 : decode cX0_giftBits 40 = .ok (.ior, 1) := dk_128 (dk_at dksX0_giftBits_1 16 rfl rfl)
theorem dX0_giftBits_41 : decode cX0_giftBits 41 = .ok (.istore 4, 2) := dk_54 4 (dk_at dksX0_giftBits_1 17 rfl rfl)
theorem dX0_giftBits_43 : decode cX0_giftBits 43 = .ok (.iinc 5 1, 3) := dk_132 5 1 (dk_at dksX0_giftBits_1 19 rfl rfl)
theorem dX0_giftBits_46 : decode cX0_giftBits 46 = .ok (.goto (-35), 3) := dk_167 255 221 (dk_at dksX0_giftBits_2 0 rfl rfl)
theorem dX0_giftBits_49 : decode cX0_giftBits 49 = .ok (.aload_n 2, 1) := dk_44 (dk_at dksX0_giftBits_2 3 rfl rfl)
theorem dX0_giftBits_50 : decode cX0_giftBits 50 = .ok (.iload_n 3, 1) := dk_29 (dk_at dksX0_giftBits_2 4 rfl rfl)
theorem dX0_giftBits_51 : decode cX0_giftBits 51 = .ok (.putfield 108, 3) := dk_181 0 108 (dk_at dksX0_giftBits_2 5 rfl rfl)
theorem dX0_giftBits_54 : decode cX0_giftBits 54 = .ok (.iload 4, 2) := dk_21 4 (dk_at dksX0_giftBits_2 8 rfl rfl)
theorem dX0_giftBits_56 : decode cX0_giftBits 56 = .ok (.ireturn, 1) := dk_172 (dk_at dksX0_giftBits_2 10 rfl rfl)
abbrev cX0_can : ByteArray := prog_1_method_55_code
def yX0_can : MethodName := ⟨RX0, "can", "(II)J"⟩
def dkwX0_can_4 : List UInt8 := [105, 55, 5, 132, 7, 1, 167, 255, 194, 33, 33, 22, 5, 97, 28, 184, 1, 88, 173]
abbrev dktX0_can_4 : List UInt8 := dkwX0_can_4 ++ []
def dkwX0_can_3 : List UInt8 := [180, 0, 57, 21, 7, 46, 4, 160, 0, 12, 33, 20, 1, 86, 105, 66, 167, 0, 11, 22, 5, 20, 1, 86]
abbrev dktX0_can_3 : List UInt8 := dkwX0_can_3 ++ dktX0_can_4
def dkwX0_can_2 : List UInt8 := [180, 1, 65, 162, 0, 52, 42, 180, 0, 57, 21, 7, 46, 3, 4, 184, 0, 81, 153, 0, 37, 42]
abbrev dktX0_can_2 : List UInt8 := dkwX0_can_2 ++ dktX0_can_3
def dkwX0_can_1 : List UInt8 := [20, 1, 84, 173, 10, 66, 10, 55, 5, 3, 54, 7, 21, 7, 16, 30, 162, 0, 61, 21, 7, 42]
abbrev dktX0_can_1 : List UInt8 := dkwX0_can_1 ++ dktX0_can_2
def dkwX0_can_0 : List UInt8 := [27, 184, 0, 99, 153, 0, 20, 28, 3, 4, 184, 0, 81, 153, 0, 11, 42, 27, 182, 1, 71, 156, 0, 7]
abbrev dktX0_can_0 : List UInt8 := dkwX0_can_0 ++ dktX0_can_1
theorem dksX0_can_0 : cX0_can.data.toList.drop 0 = dktX0_can_0 := by decide +kernel
theorem dksX0_can_1 : cX0_can.data.toList.drop 24 = dktX0_can_1 := dk_seg dksX0_can_0 24 rfl rfl
theorem dksX0_can_2 : cX0_can.data.toList.drop 46 = dktX0_can_2 := dk_seg dksX0_can_1 22 rfl rfl
theorem dksX0_can_3 : cX0_can.data.toList.drop 68 = dktX0_can_3 := dk_seg dksX0_can_2 22 rfl rfl
theorem dksX0_can_4 : cX0_can.data.toList.drop 92 = dktX0_can_4 := dk_seg dksX0_can_3 24 rfl rfl
theorem dX0_can_0 : decode cX0_can 0 = .ok (.iload_n 1, 1) := dk_27 (dk_at dksX0_can_0 0 rfl rfl)
theorem dX0_can_1 : decode cX0_can 1 = .ok (.invokestatic 99, 3) := dk_184 0 99 (dk_at dksX0_can_0 1 rfl rfl)
theorem dX0_can_4 : decode cX0_can 4 = .ok (.ifCond .eq 20, 3) := dk_153 0 20 (dk_at dksX0_can_0 4 rfl rfl)
theorem dX0_can_7 : decode cX0_can 7 = .ok (.iload_n 2, 1) := dk_28 (dk_at dksX0_can_0 7 rfl rfl)
theorem dX0_can_8 : decode cX0_can 8 = .ok (.iconst 0, 1) := dk_3 (dk_at dksX0_can_0 8 rfl rfl)
theorem dX0_can_9 : decode cX0_can 9 = .ok (.iconst 1, 1) := dk_4 (dk_at dksX0_can_0 9 rfl rfl)
theorem dX0_can_10 : decode cX0_can 10 = .ok (.invokestatic 81, 3) := dk_184 0 81 (dk_at dksX0_can_0 10 rfl rfl)
theorem dX0_can_13 : decode cX0_can 13 = .ok (.ifCond .eq 11, 3) := dk_153 0 11 (dk_at dksX0_can_0 13 rfl rfl)
theorem dX0_can_16 : decode cX0_can 16 = .ok (.aload_n 0, 1) := dk_42 (dk_at dksX0_can_0 16 rfl rfl)
theorem dX0_can_17 : decode cX0_can 17 = .ok (.iload_n 1, 1) := dk_27 (dk_at dksX0_can_0 17 rfl rfl)
theorem dX0_can_18 : decode cX0_can 18 = .ok (.invokevirtual 327, 3) := dk_182 1 71 (dk_at dksX0_can_0 18 rfl rfl)
theorem dX0_can_21 : decode cX0_can 21 = .ok (.ifCond .ge 7, 3) := dk_156 0 7 (dk_at dksX0_can_0 21 rfl rfl)
theorem dX0_can_24 : decode cX0_can 24 = .ok (.ldc2_w 340, 3) := dk_20 1 84 (dk_at dksX0_can_1 0 rfl rfl)
theorem dX0_can_27 : decode cX0_can 27 = .ok (.lreturn, 1) := dk_173 (dk_at dksX0_can_1 3 rfl rfl)
theorem dX0_can_28 : decode cX0_can 28 = .ok (.lconst 1, 1) := dk_10 (dk_at dksX0_can_1 4 rfl rfl)
theorem dX0_can_29 : decode cX0_can 29 = .ok (.lstore_n 3, 1) := dk_66 (dk_at dksX0_can_1 5 rfl rfl)
theorem dX0_can_30 : decode cX0_can 30 = .ok (.lconst 1, 1) := dk_10 (dk_at dksX0_can_1 6 rfl rfl)
theorem dX0_can_31 : decode cX0_can 31 = .ok (.lstore 5, 2) := dk_55 5 (dk_at dksX0_can_1 7 rfl rfl)
theorem dX0_can_33 : decode cX0_can 33 = .ok (.iconst 0, 1) := dk_3 (dk_at dksX0_can_1 9 rfl rfl)
theorem dX0_can_34 : decode cX0_can 34 = .ok (.istore 7, 2) := dk_54 7 (dk_at dksX0_can_1 10 rfl rfl)
theorem dX0_can_36 : decode cX0_can 36 = .ok (.iload 7, 2) := dk_21 7 (dk_at dksX0_can_1 12 rfl rfl)
theorem dX0_can_38 : decode cX0_can 38 = .ok (.bipush 30, 2) := dk_16 30 (dk_at dksX0_can_1 14 rfl rfl)
theorem dX0_can_40 : decode cX0_can 40 = .ok (.if_icmp .ge 61, 3) := dk_162 0 61 (dk_at dksX0_can_1 16 rfl rfl)
theorem dX0_can_43 : decode cX0_can 43 = .ok (.iload 7, 2) := dk_21 7 (dk_at dksX0_can_1 19 rfl rfl)
theorem dX0_can_45 : decode cX0_can 45 = .ok (.aload_n 0, 1) := dk_42 (dk_at dksX0_can_1 21 rfl rfl)
theorem dX0_can_46 : decode cX0_can 46 = .ok (.getfield 321, 3) := dk_180 1 65 (dk_at dksX0_can_2 0 rfl rfl)
theorem dX0_can_49 : decode cX0_can 49 = .ok (.if_icmp .ge 52, 3) := dk_162 0 52 (dk_at dksX0_can_2 3 rfl rfl)
theorem dX0_can_52 : decode cX0_can 52 = .ok (.aload_n 0, 1) := dk_42 (dk_at dksX0_can_2 6 rfl rfl)
theorem dX0_can_53 : decode cX0_can 53 = .ok (.getfield 57, 3) := dk_180 0 57 (dk_at dksX0_can_2 7 rfl rfl)
theorem dX0_can_56 : decode cX0_can 56 = .ok (.iload 7, 2) := dk_21 7 (dk_at dksX0_can_2 10 rfl rfl)
theorem dX0_can_58 : decode cX0_can 58 = .ok (.iaload, 1) := dk_46 (dk_at dksX0_can_2 12 rfl rfl)
theorem dX0_can_59 : decode cX0_can 59 = .ok (.iconst 0, 1) := dk_3 (dk_at dksX0_can_2 13 rfl rfl)
theorem dX0_can_60 : decode cX0_can 60 = .ok (.iconst 1, 1) := dk_4 (dk_at dksX0_can_2 14 rfl rfl)
theorem dX0_can_61 : decode cX0_can 61 = .ok (.invokestatic 81, 3) := dk_184 0 81 (dk_at dksX0_can_2 15 rfl rfl)
theorem dX0_can_64 : decode cX0_can 64 = .ok (.ifCond .eq 37, 3) := dk_153 0 37 (dk_at dksX0_can_2 18 rfl rfl)
theorem dX0_can_67 : decode cX0_can 67 = .ok (.aload_n 0, 1) := dk_42 (dk_at dksX0_can_2 21 rfl rfl)
theorem dX0_can_68 : decode cX0_can 68 = .ok (.getfield 57, 3) := dk_180 0 57 (dk_at dksX0_can_3 0 rfl rfl)
theorem dX0_can_71 : decode cX0_can 71 = .ok (.iload 7, 2) := dk_21 7 (dk_at dksX0_can_3 3 rfl rfl)
theorem dX0_can_73 : decode cX0_can 73 = .ok (.iaload, 1) := dk_46 (dk_at dksX0_can_3 5 rfl rfl)
theorem dX0_can_74 : decode cX0_can 74 = .ok (.iconst 1, 1) := dk_4 (dk_at dksX0_can_3 6 rfl rfl)
theorem dX0_can_75 : decode cX0_can 75 = .ok (.if_icmp .ne 12, 3) := dk_160 0 12 (dk_at dksX0_can_3 7 rfl rfl)
theorem dX0_can_78 : decode cX0_can 78 = .ok (.lload_n 3, 1) := dk_33 (dk_at dksX0_can_3 10 rfl rfl)
theorem dX0_can_79 : decode cX0_can 79 = .ok (.ldc2_w 342, 3) := dk_20 1 86 (dk_at dksX0_can_3 11 rfl rfl)
theorem dX0_can_82 : decode cX0_can 82 = .ok (.lmul, 1) := dk_105 (dk_at dksX0_can_3 14 rfl rfl)
theorem dX0_can_83 : decode cX0_can 83 = .ok (.lstore_n 3, 1) := dk_66 (dk_at dksX0_can_3 15 rfl rfl)
theorem dX0_can_84 : decode cX0_can 84 = .ok (.goto 11, 3) := dk_167 0 11 (dk_at dksX0_can_3 16 rfl rfl)
theorem dX0_can_87 : decode cX0_can 87 = .ok (.lload 5, 2) := dk_22 5 (dk_at dksX0_can_3 19 rfl rfl)
theorem dX0_can_89 : decode cX0_can 89 = .ok (.ldc2_w 342, 3) := dk_20 1 86 (dk_at dksX0_can_3 21 rfl rfl)
theorem dX0_can_92 : decode cX0_can 92 = .ok (.lmul, 1) := dk_105 (dk_at dksX0_can_4 0 rfl rfl)
theorem dX0_can_93 : decode cX0_can 93 = .ok (.lstore 5, 2) := dk_55 5 (dk_at dksX0_can_4 1 rfl rfl)
theorem dX0_can_95 : decode cX0_can 95 = .ok (.iinc 7 1, 3) := dk_132 7 1 (dk_at dksX0_can_4 3 rfl rfl)
theorem dX0_can_98 : decode cX0_can 98 = .ok (.goto (-62), 3) := dk_167 255 194 (dk_at dksX0_can_4 6 rfl rfl)
theorem dX0_can_101 : decode cX0_can 101 = .ok (.lload_n 3, 1) := dk_33 (dk_at dksX0_can_4 9 rfl rfl)
theorem dX0_can_102 : decode cX0_can 102 = .ok (.lload_n 3, 1) := dk_33 (dk_at dksX0_can_4 10 rfl rfl)
theorem dX0_can_103 : decode cX0_can 103 = .ok (.lload 5, 2) := dk_22 5 (dk_at dksX0_can_4 11 rfl rfl)
theorem dX0_can_105 : decode cX0_can 105 = .ok (.ladd, 1) := dk_97 (dk_at dksX0_can_4 13 rfl rfl)
theorem dX0_can_106 : decode cX0_can 106 = .ok (.iload_n 2, 1) := dk_28 (dk_at dksX0_can_4 14 rfl rfl)
theorem dX0_can_107 : decode cX0_can 107 = .ok (.invokestatic 344, 3) := dk_184 1 88 (dk_at dksX0_can_4 15 rfl rfl)
theorem dX0_can_110 : decode cX0_can 110 = .ok (.lreturn, 1) := dk_173 (dk_at dksX0_can_4 18 rfl rfl)
abbrev cX0_part : ByteArray := prog_1_method_54_code
def yX0_part : MethodName := ⟨RX0, "part", "(JJI)J"⟩
def dkwX0_part_2 : List UInt8 := [22, 5, 109, 167, 0, 7, 32, 22, 5, 109, 173]
abbrev dktX0_part_2 : List UInt8 := dkwX0_part_2 ++ []
def dkwX0_part_1 : List UInt8 := [22, 5, 22, 7, 113, 55, 9, 22, 7, 55, 5, 22, 9, 55, 7, 167, 255, 234, 21, 4, 154, 0, 10, 30]
abbrev dktX0_part_1 : List UInt8 := dkwX0_part_1 ++ dktX0_part_2
def dkwX0_part_0 : List UInt8 := [30, 9, 148, 154, 0, 7, 21, 4, 133, 173, 30, 55, 5, 32, 55, 7, 22, 7, 9, 148, 153, 0, 21]
abbrev dktX0_part_0 : List UInt8 := dkwX0_part_0 ++ dktX0_part_1
theorem dksX0_part_0 : cX0_part.data.toList.drop 0 = dktX0_part_0 := by decide +kernel
theorem dksX0_part_1 : cX0_part.data.toList.drop 23 = dktX0_part_1 := dk_seg dksX0_part_0 23 rfl rfl
theorem dksX0_part_2 : cX0_part.data.toList.drop 47 = dktX0_part_2 := dk_seg dksX0_part_1 24 rfl rfl
theorem dX0_part_0 : decode cX0_part 0 = .ok (.lload_n 0, 1) := dk_30 (dk_at dksX0_part_0 0 rfl rfl)
theorem dX0_part_1 : decode cX0_part 1 = .ok (.lconst 0, 1) := dk_9 (dk_at dksX0_part_0 1 rfl rfl)
theorem dX0_part_2 : decode cX0_part 2 = .ok (.lcmp, 1) := dk_148 (dk_at dksX0_part_0 2 rfl rfl)
theorem dX0_part_3 : decode cX0_part 3 = .ok (.ifCond .ne 7, 3) := dk_154 0 7 (dk_at dksX0_part_0 3 rfl rfl)
theorem dX0_part_6 : decode cX0_part 6 = .ok (.iload 4, 2) := dk_21 4 (dk_at dksX0_part_0 6 rfl rfl)
theorem dX0_part_8 : decode cX0_part 8 = .ok (.i2l, 1) := dk_133 (dk_at dksX0_part_0 8 rfl rfl)
theorem dX0_part_9 : decode cX0_part 9 = .ok (.lreturn, 1) := dk_173 (dk_at dksX0_part_0 9 rfl rfl)
theorem dX0_part_10 : decode cX0_part 10 = .ok (.lload_n 0, 1) := dk_30 (dk_at dksX0_part_0 10 rfl rfl)
theorem dX0_part_11 : decode cX0_part 11 = .ok (.lstore 5, 2) := dk_55 5 (dk_at dksX0_part_0 11 rfl rfl)
theorem dX0_part_13 : decode cX0_part 13 = .ok (.lload_n 2, 1) := dk_32 (dk_at dksX0_part_0 13 rfl rfl)
theorem dX0_part_14 : decode cX0_part 14 = .ok (.lstore 7, 2) := dk_55 7 (dk_at dksX0_part_0 14 rfl rfl)
theorem dX0_part_16 : decode cX0_part 16 = .ok (.lload 7, 2) := dk_22 7 (dk_at dksX0_part_0 16 rfl rfl)
theorem dX0_part_18 : decode cX0_part 18 = .ok (.lconst 0, 1) := dk_9 (dk_at dksX0_part_0 18 rfl rfl)
theorem dX0_part_19 : decode cX0_part 19 = .ok (.lcmp, 1) := dk_148 (dk_at dksX0_part_0 19 rfl rfl)
theorem dX0_part_20 : decode cX0_part 20 = .ok (.ifCond .eq 21, 3) := dk_153 0 21 (dk_at dksX0_part_0 20 rfl rfl)
theorem dX0_part_23 : decode cX0_part 23 = .ok (.lload 5, 2) := dk_22 5 (dk_at dksX0_part_1 0 rfl rfl)
theorem dX0_part_25 : decode cX0_part 25 = .ok (.lload 7, 2) := dk_22 7 (dk_at dksX0_part_1 2 rfl rfl)
theorem dX0_part_27 : decode cX0_part 27 = .ok (.lrem, 1) := dk_113 (dk_at dksX0_part_1 4 rfl rfl)
theorem dX0_part_28 : decode cX0_part 28 = .ok (.lstore 9, 2) := dk_55 9 (dk_at dksX0_part_1 5 rfl rfl)
theorem dX0_part_30 : decode cX0_part 30 = .ok (.lload 7, 2) := dk_22 7 (dk_at dksX0_part_1 7 rfl rfl)
theorem dX0_part_32 : decode cX0_part 32 = .ok (.lstore 5, 2) := dk_55 5 (dk_at dksX0_part_1 9 rfl rfl)
theorem dX0_part_34 : decode cX0_part 34 = .ok (.lload 9, 2) := dk_22 9 (dk_at dksX0_part_1 11 rfl rfl)
theorem dX0_part_36 : decode cX0_part 36 = .ok (.lstore 7, 2) := dk_55 7 (dk_at dksX0_part_1 13 rfl rfl)
theorem dX0_part_38 : decode cX0_part 38 = .ok (.goto (-22), 3) := dk_167 255 234 (dk_at dksX0_part_1 15 rfl rfl)
theorem dX0_part_41 : decode cX0_part 41 = .ok (.iload 4, 2) := dk_21 4 (dk_at dksX0_part_1 18 rfl rfl)
theorem dX0_part_43 : decode cX0_part 43 = .ok (.ifCond .ne 10, 3) := dk_154 0 10 (dk_at dksX0_part_1 20 rfl rfl)
theorem dX0_part_46 : decode cX0_part 46 = .ok (.lload_n 0, 1) := dk_30 (dk_at dksX0_part_1 23 rfl rfl)
theorem dX0_part_47 : decode cX0_part 47 = .ok (.lload 5, 2) := dk_22 5 (dk_at dksX0_part_2 0 rfl rfl)
theorem dX0_part_49 : decode cX0_part 49 = .ok (.ldiv, 1) := dk_109 (dk_at dksX0_part_2 2 rfl rfl)
theorem dX0_part_50 : decode cX0_part 50 = .ok (.goto 7, 3) := dk_167 0 7 (dk_at dksX0_part_2 3 rfl rfl)
theorem dX0_part_53 : decode cX0_part 53 = .ok (.lload_n 2, 1) := dk_32 (dk_at dksX0_part_2 6 rfl rfl)
theorem dX0_part_54 : decode cX0_part 54 = .ok (.lload 5, 2) := dk_22 5 (dk_at dksX0_part_2 7 rfl rfl)
theorem dX0_part_56 : decode cX0_part 56 = .ok (.ldiv, 1) := dk_109 (dk_at dksX0_part_2 9 rfl rfl)
theorem dX0_part_57 : decode cX0_part 57 = .ok (.lreturn, 1) := dk_173 (dk_at dksX0_part_2 10 rfl rfl)
abbrev cX0_paid : ByteArray := prog_1_method_57_code
def yX0_paid : MethodName := ⟨RX0, "paid", "(II)I"⟩
def dkwX0_paid_4 : List UInt8 := [180, 0, 13, 27, 50, 180, 0, 108, 104, 29, 108, 172]
abbrev dktX0_paid_4 : List UInt8 := dkwX0_paid_4 ++ []
def dkwX0_paid_3 : List UInt8 := [132, 4, 1, 167, 255, 218, 29, 153, 0, 11, 42, 27, 182, 1, 92, 154, 0, 7, 3, 167, 0, 16, 28, 42]
abbrev dktX0_paid_3 : List UInt8 := dkwX0_paid_3 ++ dktX0_paid_4
def dkwX0_paid_2 : List UInt8 := [21, 4, 182, 1, 92, 153, 0, 16, 42, 180, 0, 13, 21, 4, 50, 180, 0, 108, 167, 0, 4, 3, 96, 62]
abbrev dktX0_paid_2 : List UInt8 := dkwX0_paid_2 ++ dktX0_paid_3
def dkwX0_paid_1 : List UInt8 := [182, 0, 252, 42, 182, 0, 255, 3, 62, 3, 54, 4, 21, 4, 42, 180, 0, 85, 162, 0, 35, 29, 42]
abbrev dktX0_paid_1 : List UInt8 := dkwX0_paid_1 ++ dktX0_paid_2
def dkwX0_paid_0 : List UInt8 := [42, 27, 182, 0, 156, 153, 0, 14, 28, 3, 17, 39, 15, 184, 0, 81, 154, 0, 5, 2, 172, 42]
abbrev dktX0_paid_0 : List UInt8 := dkwX0_paid_0 ++ dktX0_paid_1
theorem dksX0_paid_0 : cX0_paid.data.toList.drop 0 = dktX0_paid_0 := by decide +kernel
theorem dksX0_paid_1 : cX0_paid.data.toList.drop 22 = dktX0_paid_1 := dk_seg dksX0_paid_0 22 rfl rfl
theorem dksX0_paid_2 : cX0_paid.data.toList.drop 45 = dktX0_paid_2 := dk_seg dksX0_paid_1 23 rfl rfl
theorem dksX0_paid_3 : cX0_paid.data.toList.drop 69 = dktX0_paid_3 := dk_seg dksX0_paid_2 24 rfl rfl
theorem dksX0_paid_4 : cX0_paid.data.toList.drop 93 = dktX0_paid_4 := dk_seg dksX0_paid_3 24 rfl rfl
theorem dX0_paid_0 : decode cX0_paid 0 = .ok (.aload_n 0, 1) := dk_42 (dk_at dksX0_paid_0 0 rfl rfl)
theorem dX0_paid_1 : decode cX0_paid 1 = .ok (.iload_n 1, 1) := dk_27 (dk_at dksX0_paid_0 1 rfl rfl)
theorem dX0_paid_2 : decode cX0_paid 2 = .ok (.invokevirtual 156, 3) := dk_182 0 156 (dk_at dksX0_paid_0 2 rfl rfl)
theorem dX0_paid_5 : decode cX0_paid 5 = .ok (.ifCond .eq 14, 3) := dk_153 0 14 (dk_at dksX0_paid_0 5 rfl rfl)
theorem dX0_paid_8 : decode cX0_paid 8 = .ok (.iload_n 2, 1) := dk_28 (dk_at dksX0_paid_0 8 rfl rfl)
theorem dX0_paid_9 : decode cX0_paid 9 = .ok (.iconst 0, 1) := dk_3 (dk_at dksX0_paid_0 9 rfl rfl)
theorem dX0_paid_10 : decode cX0_paid 10 = .ok (.sipush 9999, 3) := dk_17 39 15 (dk_at dksX0_paid_0 10 rfl rfl)
theorem dX0_paid_13 : decode cX0_paid 13 = .ok (.invokestatic 81, 3) := dk_184 0 81 (dk_at dksX0_paid_0 13 rfl rfl)
theorem dX0_paid_16 : decode cX0_paid 16 = .ok (.ifCond .ne 5, 3) := dk_154 0 5 (dk_at dksX0_paid_0 16 rfl rfl)
theorem dX0_paid_19 : decode cX0_paid 19 = .ok (.iconst (-1), 1) := dk_2 (dk_at dksX0_paid_0 19 rfl rfl)
theorem dX0_paid_20 : decode cX0_paid 20 = .ok (.ireturn, 1) := dk_172 (dk_at dksX0_paid_0 20 rfl rfl)
theorem dX0_paid_21 : decode cX0_paid 21 = .ok (.aload_n 0, 1) := dk_42 (dk_at dksX0_paid_0 21 rfl rfl)
theorem dX0_paid_22 : decode cX0_paid 22 = .ok (.invokevirtual 252, 3) := dk_182 0 252 (dk_at dksX0_paid_1 0 rfl rfl)
theorem dX0_paid_25 : decode cX0_paid 25 = .ok (.aload_n 0, 1) := dk_42 (dk_at dksX0_paid_1 3 rfl rfl)
theorem dX0_paid_26 : decode cX0_paid 26 = .ok (.invokevirtual 255, 3) := dk_182 0 255 (dk_at dksX0_paid_1 4 rfl rfl)
theorem dX0_paid_29 : decode cX0_paid 29 = .ok (.iconst 0, 1) := dk_3 (dk_at dksX0_paid_1 7 rfl rfl)
theorem dX0_paid_30 : decode cX0_paid 30 = .ok (.istore_n 3, 1) := dk_62 (dk_at dksX0_paid_1 8 rfl rfl)
theorem dX0_paid_31 : decode cX0_paid 31 = .ok (.iconst 0, 1) := dk_3 (dk_at dksX0_paid_1 9 rfl rfl)
theorem dX0_paid_32 : decode cX0_paid 32 = .ok (.istore 4, 2) := dk_54 4 (dk_at dksX0_paid_1 10 rfl rfl)
theorem dX0_paid_34 : decode cX0_paid 34 = .ok (.iload 4, 2) := dk_21 4 (dk_at dksX0_paid_1 12 rfl rfl)
theorem dX0_paid_36 : decode cX0_paid 36 = .ok (.aload_n 0, 1) := dk_42 (dk_at dksX0_paid_1 14 rfl rfl)
theorem dX0_paid_37 : decode cX0_paid 37 = .ok (.getfield 85, 3) := dk_180 0 85 (dk_at dksX0_paid_1 15 rfl rfl)
theorem dX0_paid_40 : decode cX0_paid 40 = .ok (.if_icmp .ge 35, 3) := dk_162 0 35 (dk_at dksX0_paid_1 18 rfl rfl)
theorem dX0_paid_43 : decode cX0_paid 43 = .ok (.iload_n 3, 1) := dk_29 (dk_at dksX0_paid_1 21 rfl rfl)
theorem dX0_paid_44 : decode cX0_paid 44 = .ok (.aload_n 0, 1) := dk_42 (dk_at dksX0_paid_1 22 rfl rfl)
theorem dX0_paid_45 : decode cX0_paid 45 = .ok (.iload 4, 2) := dk_21 4 (dk_at dksX0_paid_2 0 rfl rfl)
theorem dX0_paid_47 : decode cX0_paid 47 = .ok (.invokevirtual 348, 3) := dk_182 1 92 (dk_at dksX0_paid_2 2 rfl rfl)
theorem dX0_paid_50 : decode cX0_paid 50 = .ok (.ifCond .eq 16, 3) := dk_153 0 16 (dk_at dksX0_paid_2 5 rfl rfl)
theorem dX0_paid_53 : decode cX0_paid 53 = .ok (.aload_n 0, 1) := dk_42 (dk_at dksX0_paid_2 8 rfl rfl)
theorem dX0_paid_54 : decode cX0_paid 54 = .ok (.getfield 13, 3) := dk_180 0 13 (dk_at dksX0_paid_2 9 rfl rfl)
theorem dX0_paid_57 : decode cX0_paid 57 = .ok (.iload 4, 2) := dk_21 4 (dk_at dksX0_paid_2 12 rfl rfl)
theorem dX0_paid_59 : decode cX0_paid 59 = .ok (.aaload, 1) := dk_50 (dk_at dksX0_paid_2 14 rfl rfl)
theorem dX0_paid_60 : decode cX0_paid 60 = .ok (.getfield 108, 3) := dk_180 0 108 (dk_at dksX0_paid_2 15 rfl rfl)
theorem dX0_paid_63 : decode cX0_paid 63 = .ok (.goto 4, 3) := dk_167 0 4 (dk_at dksX0_paid_2 18 rfl rfl)
theorem dX0_paid_66 : decode cX0_paid 66 = .ok (.iconst 0, 1) := dk_3 (dk_at dksX0_paid_2 21 rfl rfl)
theorem dX0_paid_67 : decode cX0_paid 67 = .ok (.iadd, 1) := dk_96 (dk_at dksX0_paid_2 22 rfl rfl)
theorem dX0_paid_68 : decode cX0_paid 68 = .ok (.istore_n 3, 1) := dk_62 (dk_at dksX0_paid_2 23 rfl rfl)
theorem dX0_paid_69 : decode cX0_paid 69 = .ok (.iinc 4 1, 3) := dk_132 4 1 (dk_at dksX0_paid_3 0 rfl rfl)
theorem dX0_paid_72 : decode cX0_paid 72 = .ok (.goto (-38), 3) := dk_167 255 218 (dk_at dksX0_paid_3 3 rfl rfl)
theorem dX0_paid_75 : decode cX0_paid 75 = .ok (.iload_n 3, 1) := dk_29 (dk_at dksX0_paid_3 6 rfl rfl)
theorem dX0_paid_76 : decode cX0_paid 76 = .ok (.ifCond .eq 11, 3) := dk_153 0 11 (dk_at dksX0_paid_3 7 rfl rfl)
theorem dX0_paid_79 : decode cX0_paid 79 = .ok (.aload_n 0, 1) := dk_42 (dk_at dksX0_paid_3 10 rfl rfl)
theorem dX0_paid_80 : decode cX0_paid 80 = .ok (.iload_n 1, 1) := dk_27 (dk_at dksX0_paid_3 11 rfl rfl)
theorem dX0_paid_81 : decode cX0_paid 81 = .ok (.invokevirtual 348, 3) := dk_182 1 92 (dk_at dksX0_paid_3 12 rfl rfl)
theorem dX0_paid_84 : decode cX0_paid 84 = .ok (.ifCond .ne 7, 3) := dk_154 0 7 (dk_at dksX0_paid_3 15 rfl rfl)
theorem dX0_paid_87 : decode cX0_paid 87 = .ok (.iconst 0, 1) := dk_3 (dk_at dksX0_paid_3 18 rfl rfl)
theorem dX0_paid_88 : decode cX0_paid 88 = .ok (.goto 16, 3) := dk_167 0 16 (dk_at dksX0_paid_3 19 rfl rfl)
theorem dX0_paid_91 : decode cX0_paid 91 = .ok (.iload_n 2, 1) := dk_28 (dk_at dksX0_paid_3 22 rfl rfl)
theorem dX0_paid_92 : decode cX0_paid 92 = .ok (.aload_n 0, 1) := dk_42 (dk_at dksX0_paid_3 23 rfl rfl)
theorem dX0_paid_93 : decode cX0_paid 93 = .ok (.getfield 13, 3) := dk_180 0 13 (dk_at dksX0_paid_4 0 rfl rfl)
theorem dX0_paid_96 : decode cX0_paid 96 = .ok (.iload_n 1, 1) := dk_27 (dk_at dksX0_paid_4 3 rfl rfl)
theorem dX0_paid_97 : decode cX0_paid 97 = .ok (.aaload, 1) := dk_50 (dk_at dksX0_paid_4 4 rfl rfl)
theorem dX0_paid_98 : decode cX0_paid 98 = .ok (.getfield 108, 3) := dk_180 0 108 (dk_at dksX0_paid_4 5 rfl rfl)
theorem dX0_paid_101 : decode cX0_paid 101 = .ok (.imul, 1) := dk_104 (dk_at dksX0_paid_4 8 rfl rfl)
theorem dX0_paid_102 : decode cX0_paid 102 = .ok (.iload_n 3, 1) := dk_29 (dk_at dksX0_paid_4 9 rfl rfl)
theorem dX0_paid_103 : decode cX0_paid 103 = .ok (.idiv, 1) := dk_108 (dk_at dksX0_paid_4 10 rfl rfl)
theorem dX0_paid_104 : decode cX0_paid 104 = .ok (.ireturn, 1) := dk_172 (dk_at dksX0_paid_4 11 rfl rfl)
abbrev cX0_caresAlone : ByteArray := prog_1_method_56_code
def yX0_caresAlone : MethodName := ⟨RX0, "caresAlone", "(I)Z"⟩
def dkwX0_caresAlone_1 : List UInt8 := [180, 0, 126, 46, 4, 160, 0, 7, 4, 167, 0, 4, 3, 172]
abbrev dktX0_caresAlone_1 : List UInt8 := dkwX0_caresAlone_1 ++ []
def dkwX0_caresAlone_0 : List UInt8 := [42, 180, 0, 13, 27, 50, 180, 0, 126, 155, 0, 25, 42, 180, 0, 48, 42, 180, 0, 13, 27, 50]
abbrev dktX0_caresAlone_0 : List UInt8 := dkwX0_caresAlone_0 ++ dktX0_caresAlone_1
theorem dksX0_caresAlone_0 : cX0_caresAlone.data.toList.drop 0 = dktX0_caresAlone_0 := by decide +kernel
theorem dksX0_caresAlone_1 : cX0_caresAlone.data.toList.drop 22 = dktX0_caresAlone_1 := dk_seg dksX0_caresAlone_0 22 rfl rfl
theorem dX0_caresAlone_0 : decode cX0_caresAlone 0 = .ok (.aload_n 0, 1) := dk_42 (dk_at dksX0_caresAlone_0 0 rfl rfl)
theorem dX0_caresAlone_1 : decode cX0_caresAlone 1 = .ok (.getfield 13, 3) := dk_180 0 13 (dk_at dksX0_caresAlone_0 1 rfl rfl)
theorem dX0_caresAlone_4 : decode cX0_caresAlone 4 = .ok (.iload_n 1, 1) := dk_27 (dk_at dksX0_caresAlone_0 4 rfl rfl)
theorem dX0_caresAlone_5 : decode cX0_caresAlone 5 = .ok (.aaload, 1) := dk_50 (dk_at dksX0_caresAlone_0 5 rfl rfl)
theorem dX0_caresAlone_6 : decode cX0_caresAlone 6 = .ok (.getfield 126, 3) := dk_180 0 126 (dk_at dksX0_caresAlone_0 6 rfl rfl)
theorem dX0_caresAlone_9 : decode cX0_caresAlone 9 = .ok (.ifCond .lt 25, 3) := dk_155 0 25 (dk_at dksX0_caresAlone_0 9 rfl rfl)
theorem dX0_caresAlone_12 : decode cX0_caresAlone 12 = .ok (.aload_n 0, 1) := dk_42 (dk_at dksX0_caresAlone_0 12 rfl rfl)
theorem dX0_caresAlone_13 : decode cX0_caresAlone 13 = .ok (.getfield 48, 3) := dk_180 0 48 (dk_at dksX0_caresAlone_0 13 rfl rfl)
theorem dX0_caresAlone_16 : decode cX0_caresAlone 16 = .ok (.aload_n 0, 1) := dk_42 (dk_at dksX0_caresAlone_0 16 rfl rfl)
theorem dX0_caresAlone_17 : decode cX0_caresAlone 17 = .ok (.getfield 13, 3) := dk_180 0 13 (dk_at dksX0_caresAlone_0 17 rfl rfl)
theorem dX0_caresAlone_20 : decode cX0_caresAlone 20 = .ok (.iload_n 1, 1) := dk_27 (dk_at dksX0_caresAlone_0 20 rfl rfl)
theorem dX0_caresAlone_21 : decode cX0_caresAlone 21 = .ok (.aaload, 1) := dk_50 (dk_at dksX0_caresAlone_0 21 rfl rfl)
theorem dX0_caresAlone_22 : decode cX0_caresAlone 22 = .ok (.getfield 126, 3) := dk_180 0 126 (dk_at dksX0_caresAlone_1 0 rfl rfl)
theorem dX0_caresAlone_25 : decode cX0_caresAlone 25 = .ok (.iaload, 1) := dk_46 (dk_at dksX0_caresAlone_1 3 rfl rfl)
theorem dX0_caresAlone_26 : decode cX0_caresAlone 26 = .ok (.iconst 1, 1) := dk_4 (dk_at dksX0_caresAlone_1 4 rfl rfl)
theorem dX0_caresAlone_27 : decode cX0_caresAlone 27 = .ok (.if_icmp .ne 7, 3) := dk_160 0 7 (dk_at dksX0_caresAlone_1 5 rfl rfl)
theorem dX0_caresAlone_30 : decode cX0_caresAlone 30 = .ok (.iconst 1, 1) := dk_4 (dk_at dksX0_caresAlone_1 8 rfl rfl)
theorem dX0_caresAlone_31 : decode cX0_caresAlone 31 = .ok (.goto 4, 3) := dk_167 0 4 (dk_at dksX0_caresAlone_1 9 rfl rfl)
theorem dX0_caresAlone_34 : decode cX0_caresAlone 34 = .ok (.iconst 0, 1) := dk_3 (dk_at dksX0_caresAlone_1 12 rfl rfl)
theorem dX0_caresAlone_35 : decode cX0_caresAlone 35 = .ok (.ireturn, 1) := dk_172 (dk_at dksX0_caresAlone_1 13 rfl rfl)
abbrev cX0_byTurns : ByteArray := prog_1_method_62_code
def yX0_byTurns : MethodName := ⟨RX0, "byTurns", "(II)I"⟩
def dkwX0_byTurns_4 : List UInt8 := [132, 5, 1, 167, 255, 240, 21, 5, 172]
abbrev dktX0_byTurns_4 : List UInt8 := dkwX0_byTurns_4 ++ []
def dkwX0_byTurns_3 : List UInt8 := [160, 0, 6, 16, 8, 172, 3, 54, 5, 42, 21, 5, 29, 4, 182, 1, 108, 21, 4, 159, 0, 9]
abbrev dktX0_byTurns_3 : List UInt8 := dkwX0_byTurns_3 ++ dktX0_byTurns_4
def dkwX0_byTurns_2 : List UInt8 := [182, 1, 98, 54, 4, 28, 154, 0, 6, 21, 4, 172, 42, 16, 8, 29, 4, 182, 1, 108, 21, 4]
abbrev dktX0_byTurns_2 : List UInt8 := dkwX0_byTurns_2 ++ dktX0_byTurns_3
def dkwX0_byTurns_1 : List UInt8 := [184, 0, 81, 154, 0, 5, 2, 172, 42, 27, 16, 10, 112, 181, 1, 95, 27, 16, 10, 108, 62, 42, 29, 4]
abbrev dktX0_byTurns_1 : List UInt8 := dkwX0_byTurns_1 ++ dktX0_byTurns_2
def dkwX0_byTurns_0 : List UInt8 := [27, 16, 10, 108, 4, 6, 184, 0, 81, 153, 0, 21, 27, 16, 10, 112, 16, 6, 163, 0, 12, 28, 3, 4]
abbrev dktX0_byTurns_0 : List UInt8 := dkwX0_byTurns_0 ++ dktX0_byTurns_1
theorem dksX0_byTurns_0 : cX0_byTurns.data.toList.drop 0 = dktX0_byTurns_0 := by decide +kernel
theorem dksX0_byTurns_1 : cX0_byTurns.data.toList.drop 24 = dktX0_byTurns_1 := dk_seg dksX0_byTurns_0 24 rfl rfl
theorem dksX0_byTurns_2 : cX0_byTurns.data.toList.drop 48 = dktX0_byTurns_2 := dk_seg dksX0_byTurns_1 24 rfl rfl
theorem dksX0_byTurns_3 : cX0_byTurns.data.toList.drop 70 = dktX0_byTurns_3 := dk_seg dksX0_byTurns_2 22 rfl rfl
theorem dksX0_byTurns_4 : cX0_byTurns.data.toList.drop 92 = dktX0_byTurns_4 := dk_seg dksX0_byTurns_3 22 rfl rfl
theorem dX0_byTurns_0 : decode cX0_byTurns 0 = .ok (.iload_n 1, 1) := dk_27 (dk_at dksX0_byTurns_0 0 rfl rfl)
theorem dX0_byTurns_1 : decode cX0_byTurns 1 = .ok (.bipush 10, 2) := dk_16 10 (dk_at dksX0_byTurns_0 1 rfl rfl)
theorem dX0_byTurns_3 : decode cX0_byTurns 3 = .ok (.idiv, 1) := dk_108 (dk_at dksX0_byTurns_0 3 rfl rfl)
theorem dX0_byTurns_4 : decode cX0_byTurns 4 = .ok (.iconst 1, 1) := dk_4 (dk_at dksX0_byTurns_0 4 rfl rfl)
theorem dX0_byTurns_5 : decode cX0_byTurns 5 = .ok (.iconst 3, 1) := dk_6 (dk_at dksX0_byTurns_0 5 rfl rfl)
theorem dX0_byTurns_6 : decode cX0_byTurns 6 = .ok (.invokestatic 81, 3) := dk_184 0 81 (dk_at dksX0_byTurns_0 6 rfl rfl)
theorem dX0_byTurns_9 : decode cX0_byTurns 9 = .ok (.ifCond .eq 21, 3) := dk_153 0 21 (dk_at dksX0_byTurns_0 9 rfl rfl)
theorem dX0_byTurns_12 : decode cX0_byTurns 12 = .ok (.iload_n 1, 1) := dk_27 (dk_at dksX0_byTurns_0 12 rfl rfl)
theorem dX0_byTurns_13 : decode cX0_byTurns 13 = .ok (.bipush 10, 2) := dk_16 10 (dk_at dksX0_byTurns_0 13 rfl rfl)
theorem dX0_byTurns_15 : decode cX0_byTurns 15 = .ok (.irem, 1) := dk_112 (dk_at dksX0_byTurns_0 15 rfl rfl)
theorem dX0_byTurns_16 : decode cX0_byTurns 16 = .ok (.bipush 6, 2) := dk_16 6 (dk_at dksX0_byTurns_0 16 rfl rfl)
theorem dX0_byTurns_18 : decode cX0_byTurns 18 = .ok (.if_icmp .gt 12, 3) := dk_163 0 12 (dk_at dksX0_byTurns_0 18 rfl rfl)
theorem dX0_byTurns_21 : decode cX0_byTurns 21 = .ok (.iload_n 2, 1) := dk_28 (dk_at dksX0_byTurns_0 21 rfl rfl)
theorem dX0_byTurns_22 : decode cX0_byTurns 22 = .ok (.iconst 0, 1) := dk_3 (dk_at dksX0_byTurns_0 22 rfl rfl)
theorem dX0_byTurns_23 : decode cX0_byTurns 23 = .ok (.iconst 1, 1) := dk_4 (dk_at dksX0_byTurns_0 23 rfl rfl)
theorem dX0_byTurns_24 : decode cX0_byTurns 24 = .ok (.invokestatic 81, 3) := dk_184 0 81 (dk_at dksX0_byTurns_1 0 rfl rfl)
theorem dX0_byTurns_27 : decode cX0_byTurns 27 = .ok (.ifCond .ne 5, 3) := dk_154 0 5 (dk_at dksX0_byTurns_1 3 rfl rfl)
theorem dX0_byTurns_30 : decode cX0_byTurns 30 = .ok (.iconst (-1), 1) := dk_2 (dk_at dksX0_byTurns_1 6 rfl rfl)
theorem dX0_byTurns_31 : decode cX0_byTurns 31 = .ok (.ireturn, 1) := dk_172 (dk_at dksX0_byTurns_1 7 rfl rfl)
theorem dX0_byTurns_32 : decode cX0_byTurns 32 = .ok (.aload_n 0, 1) := dk_42 (dk_at dksX0_byTurns_1 8 rfl rfl)
theorem dX0_byTurns_33 : decode cX0_byTurns 33 = .ok (.iload_n 1, 1) := dk_27 (dk_at dksX0_byTurns_1 9 rfl rfl)
theorem dX0_byTurns_34 : decode cX0_byTurns 34 = .ok (.bipush 10, 2) := dk_16 10 (dk_at dksX0_byTurns_1 10 rfl rfl)
theorem dX0_byTurns_36 : decode cX0_byTurns 36 = .ok (.irem, 1) := dk_112 (dk_at dksX0_byTurns_1 12 rfl rfl)
theorem dX0_byTurns_37 : decode cX0_byTurns 37 = .ok (.putfield 351, 3) := dk_181 1 95 (dk_at dksX0_byTurns_1 13 rfl rfl)
theorem dX0_byTurns_40 : decode cX0_byTurns 40 = .ok (.iload_n 1, 1) := dk_27 (dk_at dksX0_byTurns_1 16 rfl rfl)
theorem dX0_byTurns_41 : decode cX0_byTurns 41 = .ok (.bipush 10, 2) := dk_16 10 (dk_at dksX0_byTurns_1 17 rfl rfl)
theorem dX0_byTurns_43 : decode cX0_byTurns 43 = .ok (.idiv, 1) := dk_108 (dk_at dksX0_byTurns_1 19 rfl rfl)
theorem dX0_byTurns_44 : decode cX0_byTurns 44 = .ok (.istore_n 3, 1) := dk_62 (dk_at dksX0_byTurns_1 20 rfl rfl)
theorem dX0_byTurns_45 : decode cX0_byTurns 45 = .ok (.aload_n 0, 1) := dk_42 (dk_at dksX0_byTurns_1 21 rfl rfl)
theorem dX0_byTurns_46 : decode cX0_byTurns 46 = .ok (.iload_n 3, 1) := dk_29 (dk_at dksX0_byTurns_1 22 rfl rfl)
theorem dX0_byTurns_47 : decode cX0_byTurns 47 = .ok (.iconst 1, 1) := dk_4 (dk_at dksX0_byTurns_1 23 rfl rfl)
theorem dX0_byTurns_48 : decode cX0_byTurns 48 = .ok (.invokevirtual 354, 3) := dk_182 1 98 (dk_at dksX0_byTurns_2 0 rfl rfl)
theorem dX0_byTurns_51 : decode cX0_byTurns 51 = .ok (.istore 4, 2) := dk_54 4 (dk_at dksX0_byTurns_2 3 rfl rfl)
theorem dX0_byTurns_53 : decode cX0_byTurns 53 = .ok (.iload_n 2, 1) := dk_28 (dk_at dksX0_byTurns_2 5 rfl rfl)
theorem dX0_byTurns_54 : decode cX0_byTurns 54 = .ok (.ifCond .ne 6, 3) := dk_154 0 6 (dk_at dksX0_byTurns_2 6 rfl rfl)
theorem dX0_byTurns_57 : decode cX0_byTurns 57 = .ok (.iload 4, 2) := dk_21 4 (dk_at dksX0_byTurns_2 9 rfl rfl)
theorem dX0_byTurns_59 : decode cX0_byTurns 59 = .ok (.ireturn, 1) := dk_172 (dk_at dksX0_byTurns_2 11 rfl rfl)
theorem dX0_byTurns_60 : decode cX0_byTurns 60 = .ok (.aload_n 0, 1) := dk_42 (dk_at dksX0_byTurns_2 12 rfl rfl)
theorem dX0_byTurns_61 : decode cX0_byTurns 61 = .ok (.bipush 8, 2) := dk_16 8 (dk_at dksX0_byTurns_2 13 rfl rfl)
theorem dX0_byTurns_63 : decode cX0_byTurns 63 = .ok (.iload_n 3, 1) := dk_29 (dk_at dksX0_byTurns_2 15 rfl rfl)
theorem dX0_byTurns_64 : decode cX0_byTurns 64 = .ok (.iconst 1, 1) := dk_4 (dk_at dksX0_byTurns_2 16 rfl rfl)
theorem dX0_byTurns_65 : decode cX0_byTurns 65 = .ok (.invokevirtual 364, 3) := dk_182 1 108 (dk_at dksX0_byTurns_2 17 rfl rfl)
theorem dX0_byTurns_68 : decode cX0_byTurns 68 = .ok (.iload 4, 2) := dk_21 4 (dk_at dksX0_byTurns_2 20 rfl rfl)
theorem dX0_byTurns_70 : decode cX0_byTurns 70 = .ok (.if_icmp .ne 6, 3) := dk_160 0 6 (dk_at dksX0_byTurns_3 0 rfl rfl)
theorem dX0_byTurns_73 : decode cX0_byTurns 73 = .ok (.bipush 8, 2) := dk_16 8 (dk_at dksX0_byTurns_3 3 rfl rfl)
theorem dX0_byTurns_75 : decode cX0_byTurns 75 = .ok (.ireturn, 1) := dk_172 (dk_at dksX0_byTurns_3 5 rfl rfl)
theorem dX0_byTurns_76 : decode cX0_byTurns 76 = .ok (.iconst 0, 1) := dk_3 (dk_at dksX0_byTurns_3 6 rfl rfl)
theorem dX0_byTurns_77 : decode cX0_byTurns 77 = .ok (.istore 5, 2) := dk_54 5 (dk_at dksX0_byTurns_3 7 rfl rfl)
theorem dX0_byTurns_79 : decode cX0_byTurns 79 = .ok (.aload_n 0, 1) := dk_42 (dk_at dksX0_byTurns_3 9 rfl rfl)
theorem dX0_byTurns_80 : decode cX0_byTurns 80 = .ok (.iload 5, 2) := dk_21 5 (dk_at dksX0_byTurns_3 10 rfl rfl)
theorem dX0_byTurns_82 : decode cX0_byTurns 82 = .ok (.iload_n 3, 1) := dk_29 (dk_at dksX0_byTurns_3 12 rfl rfl)
theorem dX0_byTurns_83 : decode cX0_byTurns 83 = .ok (.iconst 1, 1) := dk_4 (dk_at dksX0_byTurns_3 13 rfl rfl)
theorem dX0_byTurns_84 : decode cX0_byTurns 84 = .ok (.invokevirtual 364, 3) := dk_182 1 108 (dk_at dksX0_byTurns_3 14 rfl rfl)
theorem dX0_byTurns_87 : decode cX0_byTurns 87 = .ok (.iload 4, 2) := dk_21 4 (dk_at dksX0_byTurns_3 17 rfl rfl)
theorem dX0_byTurns_89 : decode cX0_byTurns 89 = .ok (.if_icmp .eq 9, 3) := dk_159 0 9 (dk_at dksX0_byTurns_3 19 rfl rfl)
theorem dX0_byTurns_92 : decode cX0_byTurns 92 = .ok (.iinc 5 1, 3) := dk_132 5 1 (dk_at dksX0_byTurns_4 0 rfl rfl)
theorem dX0_byTurns_95 : decode cX0_byTurns 95 = .ok (.goto (-16), 3) := dk_167 255 240 (dk_at dksX0_byTurns_4 3 rfl rfl)
theorem dX0_byTurns_98 : decode cX0_byTurns 98 = .ok (.iload 5, 2) := dk_21 5 (dk_at dksX0_byTurns_4 6 rfl rfl)
theorem dX0_byTurns_100 : decode cX0_byTurns 100 = .ok (.ireturn, 1) := dk_172 (dk_at dksX0_byTurns_4 8 rfl rfl)
abbrev cX0_bestOf : ByteArray := prog_1_method_61_code
def yX0_bestOf : MethodName := ⟨RX0, "bestOf", "(IZ)I"⟩
def dkwX0_bestOf_2 : List UInt8 := [162, 0, 15, 167, 0, 9, 21, 5, 29, 164, 0, 6, 21, 5, 62, 132, 4, 1, 167, 255, 212, 29, 172]
abbrev dktX0_bestOf_2 : List UInt8 := dkwX0_bestOf_2 ++ []
def dkwX0_bestOf_1 : List UInt8 := [180, 0, 85, 162, 0, 41, 42, 21, 4, 27, 28, 182, 1, 108, 54, 5, 28, 153, 0, 12, 21, 5, 29]
abbrev dktX0_bestOf_1 : List UInt8 := dkwX0_bestOf_1 ++ dktX0_bestOf_2
def dkwX0_bestOf_0 : List UInt8 := [27, 154, 0, 8, 42, 182, 1, 105, 172, 42, 16, 8, 27, 28, 182, 1, 108, 62, 3, 54, 4, 21, 4, 42]
abbrev dktX0_bestOf_0 : List UInt8 := dkwX0_bestOf_0 ++ dktX0_bestOf_1
theorem dksX0_bestOf_0 : cX0_bestOf.data.toList.drop 0 = dktX0_bestOf_0 := by decide +kernel
theorem dksX0_bestOf_1 : cX0_bestOf.data.toList.drop 24 = dktX0_bestOf_1 := dk_seg dksX0_bestOf_0 24 rfl rfl
theorem dksX0_bestOf_2 : cX0_bestOf.data.toList.drop 47 = dktX0_bestOf_2 := dk_seg dksX0_bestOf_1 23 rfl rfl
theorem dX0_bestOf_0 : decode cX0_bestOf 0 = .ok (.iload_n 1, 1) := dk_27 (dk_at dksX0_bestOf_0 0 rfl rfl)
theorem dX0_bestOf_1 : decode cX0_bestOf 1 = .ok (.ifCond .ne 8, 3) := dk_154 0 8 (dk_at dksX0_bestOf_0 1 rfl rfl)
theorem dX0_bestOf_4 : decode cX0_bestOf 4 = .ok (.aload_n 0, 1) := dk_42 (dk_at dksX0_bestOf_0 4 rfl rfl)
theorem dX0_bestOf_5 : decode cX0_bestOf 5 = .ok (.invokevirtual 361, 3) := dk_182 1 105 (dk_at dksX0_bestOf_0 5 rfl rfl)
theorem dX0_bestOf_8 : decode cX0_bestOf 8 = .ok (.ireturn, 1) := dk_172 (dk_at dksX0_bestOf_0 8 rfl rfl)
theorem dX0_bestOf_9 : decode cX0_bestOf 9 = .ok (.aload_n 0, 1) := dk_42 (dk_at dksX0_bestOf_0 9 rfl rfl)
theorem dX0_bestOf_10 : decode cX0_bestOf 10 = .ok (.bipush 8, 2) := dk_16 8 (dk_at dksX0_bestOf_0 10 rfl rfl)
theorem dX0_bestOf_12 : decode cX0_bestOf 12 = .ok (.iload_n 1, 1) := dk_27 (dk_at dksX0_bestOf_0 12 rfl rfl)
theorem dX0_bestOf_13 : decode cX0_bestOf 13 = .ok (.iload_n 2, 1) := dk_28 (dk_at dksX0_bestOf_0 13 rfl rfl)
theorem dX0_bestOf_14 : decode cX0_bestOf 14 = .ok (.invokevirtual 364, 3) := dk_182 1 108 (dk_at dksX0_bestOf_0 14 rfl rfl)
theorem dX0_bestOf_17 : decode cX0_bestOf 17 = .ok (.istore_n 3, 1) := dk_62 (dk_at dksX0_bestOf_0 17 rfl rfl)
theorem dX0_bestOf_18 : decode cX0_bestOf 18 = .ok (.iconst 0, 1) := dk_3 (dk_at dksX0_bestOf_0 18 rfl rfl)
theorem dX0_bestOf_19 : decode cX0_bestOf 19 = .ok (.istore 4, 2) := dk_54 4 (dk_at dksX0_bestOf_0 19 rfl rfl)
theorem dX0_bestOf_21 : decode cX0_bestOf 21 = .ok (.iload 4, 2) := dk_21 4 (dk_at dksX0_bestOf_0 21 rfl rfl)
theorem dX0_bestOf_23 : decode cX0_bestOf 23 = .ok (.aload_n 0, 1) := dk_42 (dk_at dksX0_bestOf_0 23 rfl rfl)
theorem dX0_bestOf_24 : decode cX0_bestOf 24 = .ok (.getfield 85, 3) := dk_180 0 85 (dk_at dksX0_bestOf_1 0 rfl rfl)
theorem dX0_bestOf_27 : decode cX0_bestOf 27 = .ok (.if_icmp .ge 41, 3) := dk_162 0 41 (dk_at dksX0_bestOf_1 3 rfl rfl)
theorem dX0_bestOf_30 : decode cX0_bestOf 30 = .ok (.aload_n 0, 1) := dk_42 (dk_at dksX0_bestOf_1 6 rfl rfl)
theorem dX0_bestOf_31 : decode cX0_bestOf 31 = .ok (.iload 4, 2) := dk_21 4 (dk_at dksX0_bestOf_1 7 rfl rfl)
theorem dX0_bestOf_33 : decode cX0_bestOf 33 = .ok (.iload_n 1, 1) := dk_27 (dk_at dksX0_bestOf_1 9 rfl rfl)
theorem dX0_bestOf_34 : decode cX0_bestOf 34 = .ok (.iload_n 2, 1) := dk_28 (dk_at dksX0_bestOf_1 10 rfl rfl)
theorem dX0_bestOf_35 : decode cX0_bestOf 35 = .ok (.invokevirtual 364, 3) := dk_182 1 108 (dk_at dksX0_bestOf_1 11 rfl rfl)
theorem dX0_bestOf_38 : decode cX0_bestOf 38 = .ok (.istore 5, 2) := dk_54 5 (dk_at dksX0_bestOf_1 14 rfl rfl)
theorem dX0_bestOf_40 : decode cX0_bestOf 40 = .ok (.iload_n 2, 1) := dk_28 (dk_at dksX0_bestOf_1 16 rfl rfl)
theorem dX0_bestOf_41 : decode cX0_bestOf 41 = .ok (.ifCond .eq 12, 3) := dk_153 0 12 (dk_at dksX0_bestOf_1 17 rfl rfl)
theorem dX0_bestOf_44 : decode cX0_bestOf 44 = .ok (.iload 5, 2) := dk_21 5 (dk_at dksX0_bestOf_1 20 rfl rfl)
theorem dX0_bestOf_46 : decode cX0_bestOf 46 = .ok (.iload_n 3, 1) := dk_29 (dk_at dksX0_bestOf_1 22 rfl rfl)
theorem dX0_bestOf_47 : decode cX0_bestOf 47 = .ok (.if_icmp .ge 15, 3) := dk_162 0 15 (dk_at dksX0_bestOf_2 0 rfl rfl)
theorem dX0_bestOf_50 : decode cX0_bestOf 50 = .ok (.goto 9, 3) := dk_167 0 9 (dk_at dksX0_bestOf_2 3 rfl rfl)
theorem dX0_bestOf_53 : decode cX0_bestOf 53 = .ok (.iload 5, 2) := dk_21 5 (dk_at dksX0_bestOf_2 6 rfl rfl)
theorem dX0_bestOf_55 : decode cX0_bestOf 55 = .ok (.iload_n 3, 1) := dk_29 (dk_at dksX0_bestOf_2 8 rfl rfl)
theorem dX0_bestOf_56 : decode cX0_bestOf 56 = .ok (.if_icmp .le 6, 3) := dk_164 0 6 (dk_at dksX0_bestOf_2 9 rfl rfl)
theorem dX0_bestOf_59 : decode cX0_bestOf 59 = .ok (.iload 5, 2) := dk_21 5 (dk_at dksX0_bestOf_2 12 rfl rfl)
theorem dX0_bestOf_61 : decode cX0_bestOf 61 = .ok (.istore_n 3, 1) := dk_62 (dk_at dksX0_bestOf_2 14 rfl rfl)
theorem dX0_bestOf_62 : decode cX0_bestOf 62 = .ok (.iinc 4 1, 3) := dk_132 4 1 (dk_at dksX0_bestOf_2 15 rfl rfl)
theorem dX0_bestOf_65 : decode cX0_bestOf 65 = .ok (.goto (-44), 3) := dk_167 255 212 (dk_at dksX0_bestOf_2 18 rfl rfl)
theorem dX0_bestOf_68 : decode cX0_bestOf 68 = .ok (.iload_n 3, 1) := dk_29 (dk_at dksX0_bestOf_2 21 rfl rfl)
theorem dX0_bestOf_69 : decode cX0_bestOf 69 = .ok (.ireturn, 1) := dk_172 (dk_at dksX0_bestOf_2 22 rfl rfl)
abbrev cX0_endsBy : ByteArray := prog_1_method_59_code
def yX0_endsBy : MethodName := ⟨RX0, "endsBy", "()I"⟩
def dkwX0_endsBy_0 : List UInt8 := [42, 182, 0, 252, 42, 42, 180, 1, 95, 182, 1, 22, 42, 182, 1, 50, 172]
abbrev dktX0_endsBy_0 : List UInt8 := dkwX0_endsBy_0 ++ []
theorem dksX0_endsBy_0 : cX0_endsBy.data.toList.drop 0 = dktX0_endsBy_0 := by decide +kernel
theorem dX0_endsBy_0 : decode cX0_endsBy 0 = .ok (.aload_n 0, 1) := dk_42 (dk_at dksX0_endsBy_0 0 rfl rfl)
theorem dX0_endsBy_1 : decode cX0_endsBy 1 = .ok (.invokevirtual 252, 3) := dk_182 0 252 (dk_at dksX0_endsBy_0 1 rfl rfl)
theorem dX0_endsBy_4 : decode cX0_endsBy 4 = .ok (.aload_n 0, 1) := dk_42 (dk_at dksX0_endsBy_0 4 rfl rfl)
theorem dX0_endsBy_5 : decode cX0_endsBy 5 = .ok (.aload_n 0, 1) := dk_42 (dk_at dksX0_endsBy_0 5 rfl rfl)
theorem dX0_endsBy_6 : decode cX0_endsBy 6 = .ok (.getfield 351, 3) := dk_180 1 95 (dk_at dksX0_endsBy_0 6 rfl rfl)
theorem dX0_endsBy_9 : decode cX0_endsBy 9 = .ok (.invokevirtual 278, 3) := dk_182 1 22 (dk_at dksX0_endsBy_0 9 rfl rfl)
theorem dX0_endsBy_12 : decode cX0_endsBy 12 = .ok (.aload_n 0, 1) := dk_42 (dk_at dksX0_endsBy_0 12 rfl rfl)
theorem dX0_endsBy_13 : decode cX0_endsBy 13 = .ok (.invokevirtual 306, 3) := dk_182 1 50 (dk_at dksX0_endsBy_0 13 rfl rfl)
theorem dX0_endsBy_16 : decode cX0_endsBy 16 = .ok (.ireturn, 1) := dk_172 (dk_at dksX0_endsBy_0 16 rfl rfl)
abbrev cX0_byDeed : ByteArray := prog_1_method_60_code
def yX0_byDeed : MethodName := ⟨RX0, "byDeed", "(IIZ)I"⟩
def dkwX0_byDeed_5 : List UInt8 := [167, 0, 14, 42, 180, 0, 13, 27, 50, 21, 4, 181, 0, 123, 21, 5, 172]
abbrev dktX0_byDeed_5 : List UInt8 := dkwX0_byDeed_5 ++ []
def dkwX0_byDeed_4 : List UInt8 := [167, 0, 4, 3, 182, 1, 98, 54, 5, 29, 153, 0, 17, 42, 180, 0, 13, 27, 50, 21, 4, 181, 0, 126]
abbrev dktX0_byDeed_4 : List UInt8 := dkwX0_byDeed_4 ++ dktX0_byDeed_5
def dkwX0_byDeed_3 : List UInt8 := [180, 0, 13, 27, 50, 21, 4, 8, 100, 184, 1, 5, 181, 0, 123, 42, 28, 4, 100, 29, 154, 0, 7, 4]
abbrev dktX0_byDeed_3 : List UInt8 := dkwX0_byDeed_3 ++ dktX0_byDeed_4
def dkwX0_byDeed_2 : List UInt8 := [54, 4, 29, 153, 0, 20, 42, 180, 0, 13, 27, 50, 42, 27, 182, 1, 102, 181, 0, 126, 167, 0, 19, 42]
abbrev dktX0_byDeed_2 : List UInt8 := dkwX0_byDeed_2 ++ dktX0_byDeed_3
def dkwX0_byDeed_1 : List UInt8 := [153, 0, 15, 42, 180, 0, 13, 27, 50, 180, 0, 126, 167, 0, 12, 42, 180, 0, 13, 27, 50, 180, 0, 123]
abbrev dktX0_byDeed_1 : List UInt8 := dkwX0_byDeed_1 ++ dktX0_byDeed_2
def dkwX0_byDeed_0 : List UInt8 := [27, 16, 8, 160, 0, 20, 42, 28, 4, 100, 29, 154, 0, 7, 4, 167, 0, 4, 3, 182, 1, 98, 172, 29]
abbrev dktX0_byDeed_0 : List UInt8 := dkwX0_byDeed_0 ++ dktX0_byDeed_1
theorem dksX0_byDeed_0 : cX0_byDeed.data.toList.drop 0 = dktX0_byDeed_0 := by decide +kernel
theorem dksX0_byDeed_1 : cX0_byDeed.data.toList.drop 24 = dktX0_byDeed_1 := dk_seg dksX0_byDeed_0 24 rfl rfl
theorem dksX0_byDeed_2 : cX0_byDeed.data.toList.drop 48 = dktX0_byDeed_2 := dk_seg dksX0_byDeed_1 24 rfl rfl
theorem dksX0_byDeed_3 : cX0_byDeed.data.toList.drop 72 = dktX0_byDeed_3 := dk_seg dksX0_byDeed_2 24 rfl rfl
theorem dksX0_byDeed_4 : cX0_byDeed.data.toList.drop 96 = dktX0_byDeed_4 := dk_seg dksX0_byDeed_3 24 rfl rfl
theorem dksX0_byDeed_5 : cX0_byDeed.data.toList.drop 120 = dktX0_byDeed_5 := dk_seg dksX0_byDeed_4 24 rfl rfl
theorem dX0_byDeed_0 : decode cX0_byDeed 0 = .ok (.iload_n 1, 1) := dk_27 (dk_at dksX0_byDeed_0 0 rfl rfl)
theorem dX0_byDeed_1 : decode cX0_byDeed 1 = .ok (.bipush 8, 2) := dk_16 8 (dk_at dksX0_byDeed_0 1 rfl rfl)
theorem dX0_byDeed_3 : decode cX0_byDeed 3 = .ok (.if_icmp .ne 20, 3) := dk_160 0 20 (dk_at dksX0_byDeed_0 3 rfl rfl)
theorem dX0_byDeed_6 : decode cX0_byDeed 6 = .ok (.aload_n 0, 1) := dk_42 (dk_at dksX0_byDeed_0 6 rfl rfl)
theorem dX0_byDeed_7 : decode cX0_byDeed 7 = .ok (.iload_n 2, 1) := dk_28 (dk_at dksX0_byDeed_0 7 rfl rfl)
theorem dX0_byDeed_8 : decode cX0_byDeed 8 = .ok (.iconst 1, 1) := dk_4 (dk_at dksX0_byDeed_0 8 rfl rfl)
theorem dX0_byDeed_9 : decode cX0_byDeed 9 = .ok (.isub, 1) := dk_100 (dk_at dksX0_byDeed_0 9 rfl rfl)
theorem dX0_byDeed_10 : decode cX0_byDeed 10 = .ok (.iload_n 3, 1) := dk_29 (dk_at dksX0_byDeed_0 10 rfl rfl)
theorem dX0_byDeed_11 : decode cX0_byDeed 11 = .ok (.ifCond .ne 7, 3) := dk_154 0 7 (dk_at dksX0_byDeed_0 11 rfl rfl)
theorem dX0_byDeed_14 : decode cX0_byDeed 14 = .ok (.iconst 1, 1) := dk_4 (dk_at dksX0_byDeed_0 14 rfl rfl)
theorem dX0_byDeed_15 : decode cX0_byDeed 15 = .ok (.goto 4, 3) := dk_167 0 4 (dk_at dksX0_byDeed_0 15 rfl rfl)
theorem dX0_byDeed_18 : decode cX0_byDeed 18 = .ok (.iconst 0, 1) := dk_3 (dk_at dksX0_byDeed_0 18 rfl rfl)
theorem dX0_byDeed_19 : decode cX0_byDeed 19 = .ok (.invokevirtual 354, 3) := dk_182 1 98 (dk_at dksX0_byDeed_0 19 rfl rfl)
theorem dX0_byDeed_22 : decode cX0_byDeed 22 = .ok (.ireturn, 1) := dk_172 (dk_at dksX0_byDeed_0 22 rfl rfl)
theorem dX0_byDeed_23 : decode cX0_byDeed 23 = .ok (.iload_n 3, 1) := dk_29 (dk_at dksX0_byDeed_0 23 rfl rfl)
theorem dX0_byDeed_24 : decode cX0_byDeed 24 = .ok (.ifCond .eq 15, 3) := dk_153 0 15 (dk_at dksX0_byDeed_1 0 rfl rfl)
theorem dX0_byDeed_27 : decode cX0_byDeed 27 = .ok (.aload_n 0, 1) := dk_42 (dk_at dksX0_byDeed_1 3 rfl rfl)
theorem dX0_byDeed_28 : decode cX0_byDeed 28 = .ok (.getfield 13, 3) := dk_180 0 13 (dk_at dksX0_byDeed_1 4 rfl rfl)
theorem dX0_byDeed_31 : decode cX0_byDeed 31 = .ok (.iload_n 1, 1) := dk_27 (dk_at dksX0_byDeed_1 7 rfl rfl)
theorem dX0_byDeed_32 : decode cX0_byDeed 32 = .ok (.aaload, 1) := dk_50 (dk_at dksX0_byDeed_1 8 rfl rfl)
theorem dX0_byDeed_33 : decode cX0_byDeed 33 = .ok (.getfield 126, 3) := dk_180 0 126 (dk_at dksX0_byDeed_1 9 rfl rfl)
theorem dX0_byDeed_36 : decode cX0_byDeed 36 = .ok (.goto 12, 3) := dk_167 0 12 (dk_at dksX0_byDeed_1 12 rfl rfl)
theorem dX0_byDeed_39 : decode cX0_byDeed 39 = .ok (.aload_n 0, 1) := dk_42 (dk_at dksX0_byDeed_1 15 rfl rfl)
theorem dX0_byDeed_40 : decode cX0_byDeed 40 = .ok (.getfield 13, 3) := dk_180 0 13 (dk_at dksX0_byDeed_1 16 rfl rfl)
theorem dX0_byDeed_43 : decode cX0_byDeed 43 = .ok (.iload_n 1, 1) := dk_27 (dk_at dksX0_byDeed_1 19 rfl rfl)
theorem dX0_byDeed_44 : decode cX0_byDeed 44 = .ok (.aaload, 1) := dk_50 (dk_at dksX0_byDeed_1 20 rfl rfl)
theorem dX0_byDeed_45 : decode cX0_byDeed 45 = .ok (.getfield 123, 3) := dk_180 0 123 (dk_at dksX0_byDeed_1 21 rfl rfl)
theorem dX0_byDeed_48 : decode cX0_byDeed 48 = .ok (.istore 4, 2) := dk_54 4 (dk_at dksX0_byDeed_2 0 rfl rfl)
theorem dX0_byDeed_50 : decode cX0_byDeed 50 = .ok (.iload_n 3, 1) := dk_29 (dk_at dksX0_byDeed_2 2 rfl rfl)
theorem dX0_byDeed_51 : decode cX0_byDeed 51 = .ok (.ifCond .eq 20, 3) := dk_153 0 20 (dk_at dksX0_byDeed_2 3 rfl rfl)
theorem dX0_byDeed_54 : decode cX0_byDeed 54 = .ok (.aload_n 0, 1) := dk_42 (dk_at dksX0_byDeed_2 6 rfl rfl)
theorem dX0_byDeed_55 : decode cX0_byDeed 55 = .ok (.getfield 13, 3) := dk_180 0 13 (dk_at dksX0_byDeed_2 7 rfl rfl)
theorem dX0_byDeed_58 : decode cX0_byDeed 58 = .ok (.iload_n 1, 1) := dk_27 (dk_at dksX0_byDeed_2 10 rfl rfl)
theorem dX0_byDeed_59 : decode cX0_byDeed 59 = .ok (.aaload, 1) := dk_50 (dk_at dksX0_byDeed_2 11 rfl rfl)
theorem dX0_byDeed_60 : decode cX0_byDeed 60 = .ok (.aload_n 0, 1) := dk_42 (dk_at dksX0_byDeed_2 12 rfl rfl)
theorem dX0_byDeed_61 : decode cX0_byDeed 61 = .ok (.iload_n 1, 1) := dk_27 (dk_at dksX0_byDeed_2 13 rfl rfl)
theorem dX0_byDeed_62 : decode cX0_byDeed 62 = .ok (.invokevirtual 358, 3) := dk_182 1 102 (dk_at dksX0_byDeed_2 14 rfl rfl)
theorem dX0_byDeed_65 : decode cX0_byDeed 65 = .ok (.putfield 126, 3) := dk_181 0 126 (dk_at dksX0_byDeed_2 17 rfl rfl)
theorem dX0_byDeed_68 : decode cX0_byDeed 68 = .ok (.goto 19, 3) := dk_167 0 19 (dk_at dksX0_byDeed_2 20 rfl rfl)
theorem dX0_byDeed_71 : decode cX0_byDeed 71 = .ok (.aload_n 0, 1) := dk_42 (dk_at dksX0_byDeed_2 23 rfl rfl)
theorem dX0_byDeed_72 : decode cX0_byDeed 72 = .ok (.getfield 13, 3) := dk_180 0 13 (dk_at dksX0_byDeed_3 0 rfl rfl)
theorem dX0_byDeed_75 : decode cX0_byDeed 75 = .ok (.iload_n 1, 1) := dk_27 (dk_at dksX0_byDeed_3 3 rfl rfl)
theorem dX0_byDeed_76 : decode cX0_byDeed 76 = .ok (.aaload, 1) := dk_50 (dk_at dksX0_byDeed_3 4 rfl rfl)
theorem dX0_byDeed_77 : decode cX0_byDeed 77 = .ok (.iload 4, 2) := dk_21 4 (dk_at dksX0_byDeed_3 5 rfl rfl)
theorem dX0_byDeed_79 : decode cX0_byDeed 79 = .ok (.iconst 5, 1) := dk_8 (dk_at dksX0_byDeed_3 7 rfl rfl)
theorem dX0_byDeed_80 : decode cX0_byDeed 80 = .ok (.isub, 1) := dk_100 (dk_at dksX0_byDeed_3 8 rfl rfl)
theorem dX0_byDeed_81 : decode cX0_byDeed 81 = .ok (.invokestatic 261, 3) := dk_184 1 5 (dk_at dksX0_byDeed_3 9 rfl rfl)
theorem dX0_byDeed_84 : decode cX0_byDeed 84 = .ok (.putfield 123, 3) := dk_181 0 123 (dk_at dksX0_byDeed_3 12 rfl rfl)
theorem dX0_byDeed_87 : decode cX0_byDeed 87 = .ok (.aload_n 0, 1) := dk_42 (dk_at dksX0_byDeed_3 15 rfl rfl)
theorem dX0_byDeed_88 : decode cX0_byDeed 88 = .ok (.iload_n 2, 1) := dk_28 (dk_at dksX0_byDeed_3 16 rfl rfl)
theorem dX0_byDeed_89 : decode cX0_byDeed 89 = .ok (.iconst 1, 1) := dk_4 (dk_at dksX0_byDeed_3 17 rfl rfl)
theorem dX0_byDeed_90 : decode cX0_byDeed 90 = .ok (.isub, 1) := dk_100 (dk_at dksX0_byDeed_3 18 rfl rfl)
theorem dX0_byDeed_91 : decode cX0_byDeed 91 = .ok (.iload_n 3, 1) := dk_29 (dk_at dksX0_byDeed_3 19 rfl rfl)
theorem dX0_byDeed_92 : decode cX0_byDeed 92 = .ok (.ifCond .ne 7, 3) := dk_154 0 7 (dk_at dksX0_byDeed_3 20 rfl rfl)
theorem dX0_byDeed_95 : decode cX0_byDeed 95 = .ok (.iconst 1, 1) := dk_4 (dk_at dksX0_byDeed_3 23 rfl rfl)
theorem dX0_byDeed_96 : decode cX0_byDeed 96 = .ok (.goto 4, 3) := dk_167 0 4 (dk_at dksX0_byDeed_4 0 rfl rfl)
theorem dX0_byDeed_99 : decode cX0_byDeed 99 = .ok (.iconst 0, 1) := dk_3 (dk_at dksX0_byDeed_4 3 rfl rfl)
theorem dX0_byDeed_100 : decode cX0_byDeed 100 = .ok (.invokevirtual 354, 3) := dk_182 1 98 (dk_at dksX0_byDeed_4 4 rfl rfl)
theorem dX0_byDeed_103 : decode cX0_byDeed 103 = .ok (.istore 5, 2) := dk_54 5 (dk_at dksX0_byDeed_4 7 rfl rfl)
theorem dX0_byDeed_105 : decode cX0_byDeed 105 = .ok (.iload_n 3, 1) := dk_29 (dk_at dksX0_byDeed_4 9 rfl rfl)
theorem dX0_byDeed_106 : decode cX0_byDeed 106 = .ok (.ifCond .eq 17, 3) := dk_153 0 17 (dk_at dksX0_byDeed_4 10 rfl rfl)
theorem dX0_byDeed_109 : decode cX0_byDeed 109 = .ok (.aload_n 0, 1) := dk_42 (dk_at dksX0_byDeed_4 13 rfl rfl)
theorem dX0_byDeed_110 : decode cX0_byDeed 110 = .ok (.getfield 13, 3) := dk_180 0 13 (dk_at dksX0_byDeed_4 14 rfl rfl)
theorem dX0_byDeed_113 : decode cX0_byDeed 113 = .ok (.iload_n 1, 1) := dk_27 (dk_at dksX0_byDeed_4 17 rfl rfl)
theorem dX0_byDeed_114 : decode cX0_byDeed 114 = .ok (.aaload, 1) := dk_50 (dk_at dksX0_byDeed_4 18 rfl rfl)
theorem dX0_byDeed_115 : decode cX0_byDeed 115 = .ok (.iload 4, 2) := dk_21 4 (dk_at dksX0_byDeed_4 19 rfl rfl)
theorem dX0_byDeed_117 : decode cX0_byDeed 117 = .ok (.putfield 126, 3) := dk_181 0 126 (dk_at dksX0_byDeed_4 21 rfl rfl)
theorem dX0_byDeed_120 : decode cX0_byDeed 120 = .ok (.goto 14, 3) := dk_167 0 14 (dk_at dksX0_byDeed_5 0 rfl rfl)
theorem dX0_byDeed_123 : decode cX0_byDeed 123 = .ok (.aload_n 0, 1) := dk_42 (dk_at dksX0_byDeed_5 3 rfl rfl)
theorem dX0_byDeed_124 : decode cX0_byDeed 124 = .ok (.getfield 13, 3) := dk_180 0 13 (dk_at dksX0_byDeed_5 4 rfl rfl)
theorem dX0_byDeed_127 : decode cX0_byDeed 127 = .ok (.iload_n 1, 1) := dk_27 (dk_at dksX0_byDeed_5 7 rfl rfl)
theorem dX0_byDeed_128 : decode cX0_byDeed 128 = .ok (.aaload, 1) := dk_50 (dk_at dksX0_byDeed_5 8 rfl rfl)
theorem dX0_byDeed_129 : decode cX0_byDeed 129 = .ok (.iload 4, 2) := dk_21 4 (dk_at dksX0_byDeed_5 9 rfl rfl)
theorem dX0_byDeed_131 : decode cX0_byDeed 131 = .ok (.putfield 123, 3) := dk_181 0 123 (dk_at dksX0_byDeed_5 11 rfl rfl)
theorem dX0_byDeed_134 : decode cX0_byDeed 134 = .ok (.iload 5, 2) := dk_21 5 (dk_at dksX0_byDeed_5 14 rfl rfl)
theorem dX0_byDeed_136 : decode cX0_byDeed 136 = .ok (.ireturn, 1) := dk_172 (dk_at dksX0_byDeed_5 16 rfl rfl)
abbrev cX0_nextWhom : ByteArray := prog_1_method_58_code
def yX0_nextWhom : MethodName := ⟨RX0, "nextWhom", "(I)I"⟩
def dkwX0_nextWhom_1 : List UInt8 := [96, 42, 180, 0, 85, 112, 61, 28, 27, 160, 0, 7, 2, 167, 0, 4, 28, 172]
abbrev dktX0_nextWhom_1 : List UInt8 := dkwX0_nextWhom_1 ++ []
def dkwX0_nextWhom_0 : List UInt8 := [42, 180, 0, 13, 27, 50, 180, 0, 126, 4, 96, 42, 180, 0, 85, 112, 61, 28, 27, 160, 0, 12, 28, 4]
abbrev dktX0_nextWhom_0 : List UInt8 := dkwX0_nextWhom_0 ++ dktX0_nextWhom_1
theorem dksX0_nextWhom_0 : cX0_nextWhom.data.toList.drop 0 = dktX0_nextWhom_0 := by decide +kernel
theorem dksX0_nextWhom_1 : cX0_nextWhom.data.toList.drop 24 = dktX0_nextWhom_1 := dk_seg dksX0_nextWhom_0 24 rfl rfl
theorem dX0_nextWhom_0 : decode cX0_nextWhom 0 = .ok (.aload_n 0, 1) := dk_42 (dk_at dksX0_nextWhom_0 0 rfl rfl)
theorem dX0_nextWhom_1 : decode cX0_nextWhom 1 = .ok (.getfield 13, 3) := dk_180 0 13 (dk_at dksX0_nextWhom_0 1 rfl rfl)
theorem dX0_nextWhom_4 : decode cX0_nextWhom 4 = .ok (.iload_n 1, 1) := dk_27 (dk_at dksX0_nextWhom_0 4 rfl rfl)
theorem dX0_nextWhom_5 : decode cX0_nextWhom 5 = .ok (.aaload, 1) := dk_50 (dk_at dksX0_nextWhom_0 5 rfl rfl)
theorem dX0_nextWhom_6 : decode cX0_nextWhom 6 = .ok (.getfield 126, 3) := dk_180 0 126 (dk_at dksX0_nextWhom_0 6 rfl rfl)
theorem dX0_nextWhom_9 : decode cX0_nextWhom 9 = .ok (.iconst 1, 1) := dk_4 (dk_at dksX0_nextWhom_0 9 rfl rfl)
theorem dX0_nextWhom_10 : decode cX0_nextWhom 10 = .ok (.iadd, 1) := dk_96 (dk_at dksX0_nextWhom_0 10 rfl rfl)
theorem dX0_nextWhom_11 : decode cX0_nextWhom 11 = .ok (.aload_n 0, 1) := dk_42 (dk_at dksX0_nextWhom_0 11 rfl rfl)
theorem dX0_nextWhom_12 : decode cX0_nextWhom 12 = .ok (.getfield 85, 3) := dk_180 0 85 (dk_at dksX0_nextWhom_0 12 rfl rfl)
theorem dX0_nextWhom_15 : decode cX0_nextWhom 15 = .ok (.irem, 1) := dk_112 (dk_at dksX0_nextWhom_0 15 rfl rfl)
theorem dX0_nextWhom_16 : decode cX0_nextWhom 16 = .ok (.istore_n 2, 1) := dk_61 (dk_at dksX0_nextWhom_0 16 rfl rfl)
theorem dX0_nextWhom_17 : decode cX0_nextWhom 17 = .ok (.iload_n 2, 1) := dk_28 (dk_at dksX0_nextWhom_0 17 rfl rfl)
theorem dX0_nextWhom_18 : decode cX0_nextWhom 18 = .ok (.iload_n 1, 1) := dk_27 (dk_at dksX0_nextWhom_0 18 rfl rfl)
theorem dX0_nextWhom_19 : decode cX0_nextWhom 19 = .ok (.if_icmp .ne 12, 3) := dk_160 0 12 (dk_at dksX0_nextWhom_0 19 rfl rfl)
theorem dX0_nextWhom_22 : decode cX0_nextWhom 22 = .ok (.iload_n 2, 1) := dk_28 (dk_at dksX0_nextWhom_0 22 rfl rfl)
theorem dX0_nextWhom_23 : decode cX0_nextWhom 23 = .ok (.iconst 1, 1) := dk_4 (dk_at dksX0_nextWhom_0 23 rfl rfl)
theorem dX0_nextWhom_24 : decode cX0_nextWhom 24 = .ok (.iadd, 1) := dk_96 (dk_at dksX0_nextWhom_1 0 rfl rfl)
theorem dX0_nextWhom_25 : decode cX0_nextWhom 25 = .ok (.aload_n 0, 1) := dk_42 (dk_at dksX0_nextWhom_1 1 rfl rfl)
theorem dX0_nextWhom_26 : decode cX0_nextWhom 26 = .ok (.getfield 85, 3) := dk_180 0 85 (dk_at dksX0_nextWhom_1 2 rfl rfl)
theorem dX0_nextWhom_29 : decode cX0_nextWhom 29 = .ok (.irem, 1) := dk_112 (dk_at dksX0_nextWhom_1 5 rfl rfl)
theorem dX0_nextWhom_30 : decode cX0_nextWhom 30 = .ok (.istore_n 2, 1) := dk_61 (dk_at dksX0_nextWhom_1 6 rfl rfl)
theorem dX0_nextWhom_31 : decode cX0_nextWhom 31 = .ok (.iload_n 2, 1) := dk_28 (dk_at dksX0_nextWhom_1 7 rfl rfl)
theorem dX0_nextWhom_32 : decode cX0_nextWhom 32 = .ok (.iload_n 1, 1) := dk_27 (dk_at dksX0_nextWhom_1 8 rfl rfl)
theorem dX0_nextWhom_33 : decode cX0_nextWhom 33 = .ok (.if_icmp .ne 7, 3) := dk_160 0 7 (dk_at dksX0_nextWhom_1 9 rfl rfl)
theorem dX0_nextWhom_36 : decode cX0_nextWhom 36 = .ok (.iconst (-1), 1) := dk_2 (dk_at dksX0_nextWhom_1 12 rfl rfl)
theorem dX0_nextWhom_37 : decode cX0_nextWhom 37 = .ok (.goto 4, 3) := dk_167 0 4 (dk_at dksX0_nextWhom_1 13 rfl rfl)
theorem dX0_nextWhom_40 : decode cX0_nextWhom 40 = .ok (.iload_n 2, 1) := dk_28 (dk_at dksX0_nextWhom_1 16 rfl rfl)
theorem dX0_nextWhom_41 : decode cX0_nextWhom 41 = .ok (.ireturn, 1) := dk_172 (dk_at dksX0_nextWhom_1 17 rfl rfl)
abbrev cX0_drawn : ByteArray := prog_1_method_63_code
def yX0_drawn : MethodName := ⟨RX0, "drawn", "(III)I"⟩
def dkwX0_drawn_7 : List UInt8 := [46, 96, 54, 5, 132, 6, 1, 167, 255, 139, 21, 5, 172]
abbrev dktX0_drawn_7 : List UInt8 := dkwX0_drawn_7 ++ []
def dkwX0_drawn_6 : List UInt8 := [132, 7, 1, 167, 255, 183, 21, 5, 29, 156, 0, 10, 42, 182, 1, 50, 167, 0, 9, 42, 180, 0, 38, 29]
abbrev dktX0_drawn_6 : List UInt8 := dkwX0_drawn_6 ++ dktX0_drawn_7
def dkwX0_drawn_5 : List UInt8 := [42, 180, 0, 38, 21, 8, 46, 21, 4, 16, 16, 124, 16, 10, 112, 100, 184, 1, 5, 79, 42, 182, 1, 8]
abbrev dktX0_drawn_5 : List UInt8 := dkwX0_drawn_5 ++ dktX0_drawn_6
def dkwX0_drawn_4 : List UInt8 := [180, 0, 85, 158, 0, 41, 21, 4, 16, 8, 124, 42, 180, 0, 85, 112, 54, 8, 42, 180, 0, 38, 21, 8]
abbrev dktX0_drawn_4 : List UInt8 := dkwX0_drawn_4 ++ dktX0_drawn_5
def dkwX0_drawn_3 : List UInt8 := [21, 7, 28, 16, 100, 112, 162, 0, 70, 21, 4, 19, 1, 112, 104, 17, 48, 57, 96, 54, 4, 42]
abbrev dktX0_drawn_3 : List UInt8 := dkwX0_drawn_3 ++ dktX0_drawn_4
def dkwX0_drawn_2 : List UInt8 := [54, 4, 3, 54, 5, 3, 54, 6, 21, 6, 28, 16, 100, 108, 162, 0, 114, 42, 182, 0, 252, 3, 54, 7]
abbrev dktX0_drawn_2 : List UInt8 := dkwX0_drawn_2 ++ dktX0_drawn_3
def dkwX0_drawn_1 : List UInt8 := [184, 0, 81, 153, 0, 17, 29, 2, 42, 180, 0, 85, 4, 100, 184, 0, 81, 154, 0, 5, 2, 172, 27]
abbrev dktX0_drawn_1 : List UInt8 := dkwX0_drawn_1 ++ dktX0_drawn_2
def dkwX0_drawn_0 : List UInt8 := [28, 155, 0, 43, 28, 16, 100, 108, 4, 16, 30, 184, 0, 81, 153, 0, 30, 28, 16, 100, 112, 4, 16, 40]
abbrev dktX0_drawn_0 : List UInt8 := dkwX0_drawn_0 ++ dktX0_drawn_1
theorem dksX0_drawn_0 : cX0_drawn.data.toList.drop 0 = dktX0_drawn_0 := by decide +kernel
theorem dksX0_drawn_1 : cX0_drawn.data.toList.drop 24 = dktX0_drawn_1 := dk_seg dksX0_drawn_0 24 rfl rfl
theorem dksX0_drawn_2 : cX0_drawn.data.toList.drop 47 = dktX0_drawn_2 := dk_seg dksX0_drawn_1 23 rfl rfl
theorem dksX0_drawn_3 : cX0_drawn.data.toList.drop 71 = dktX0_drawn_3 := dk_seg dksX0_drawn_2 24 rfl rfl
theorem dksX0_drawn_4 : cX0_drawn.data.toList.drop 93 = dktX0_drawn_4 := dk_seg dksX0_drawn_3 22 rfl rfl
theorem dksX0_drawn_5 : cX0_drawn.data.toList.drop 117 = dktX0_drawn_5 := dk_seg dksX0_drawn_4 24 rfl rfl
theorem dksX0_drawn_6 : cX0_drawn.data.toList.drop 141 = dktX0_drawn_6 := dk_seg dksX0_drawn_5 24 rfl rfl
theorem dksX0_drawn_7 : cX0_drawn.data.toList.drop 165 = dktX0_drawn_7 := dk_seg dksX0_drawn_6 24 rfl rfl
theorem dX0_drawn_0 : decode cX0_drawn 0 = .ok (.iload_n 2, 1) := dk_28 (dk_at dksX0_drawn_0 0 rfl rfl)
theorem dX0_drawn_1 : decode cX0_drawn 1 = .ok (.ifCond .lt 43, 3) := dk_155 0 43 (dk_at dksX0_drawn_0 1 rfl rfl)
theorem dX0_drawn_4 : decode cX0_drawn 4 = .ok (.iload_n 2, 1) := dk_28 (dk_at dksX0_drawn_0 4 rfl rfl)
theorem dX0_drawn_5 : decode cX0_drawn 5 = .ok (.bipush 100, 2) := dk_16 100 (dk_at dksX0_drawn_0 5 rfl rfl)
theorem dX0_drawn_7 : decode cX0_drawn 7 = .ok (.idiv, 1) := dk_108 (dk_at dksX0_drawn_0 7 rfl rfl)
theorem dX0_drawn_8 : decode cX0_drawn 8 = .ok (.iconst 1, 1) := dk_4 (dk_at dksX0_drawn_0 8 rfl rfl)
theorem dX0_drawn_9 : decode cX0_drawn 9 = .ok (.bipush 30, 2) := dk_16 30 (dk_at dksX0_drawn_0 9 rfl rfl)
theorem dX0_drawn_11 : decode cX0_drawn 11 = .ok (.invokestatic 81, 3) := dk_184 0 81 (dk_at dksX0_drawn_0 11 rfl rfl)
theorem dX0_drawn_14 : decode cX0_drawn 14 = .ok (.ifCond .eq 30, 3) := dk_153 0 30 (dk_at dksX0_drawn_0 14 rfl rfl)
theorem dX0_drawn_17 : decode cX0_drawn 17 = .ok (.iload_n 2, 1) := dk_28 (dk_at dksX0_drawn_0 17 rfl rfl)
theorem dX0_drawn_18 : decode cX0_drawn 18 = .ok (.bipush 100, 2) := dk_16 100 (dk_at dksX0_drawn_0 18 rfl rfl)
theorem dX0_drawn_20 : decode cX0_drawn 20 = .ok (.irem, 1) := dk_112 (dk_at dksX0_drawn_0 20 rfl rfl)
theorem dX0_drawn_21 : decode cX0_drawn 21 = .ok (.iconst 1, 1) := dk_4 (dk_at dksX0_drawn_0 21 rfl rfl)
theorem dX0_drawn_22 : decode cX0_drawn 22 = .ok (.bipush 40, 2) := dk_16 40 (dk_at dksX0_drawn_0 22 rfl rfl)
theorem dX0_drawn_24 : decode cX0_drawn 24 = .ok (.invokestatic 81, 3) := dk_184 0 81 (dk_at dksX0_drawn_1 0 rfl rfl)
theorem dX0_drawn_27 : decode cX0_drawn 27 = .ok (.ifCond .eq 17, 3) := dk_153 0 17 (dk_at dksX0_drawn_1 3 rfl rfl)
theorem dX0_drawn_30 : decode cX0_drawn 30 = .ok (.iload_n 3, 1) := dk_29 (dk_at dksX0_drawn_1 6 rfl rfl)
theorem dX0_drawn_31 : decode cX0_drawn 31 = .ok (.iconst (-1), 1) := dk_2 (dk_at dksX0_drawn_1 7 rfl rfl)
theorem dX0_drawn_32 : decode cX0_drawn 32 = .ok (.aload_n 0, 1) := dk_42 (dk_at dksX0_drawn_1 8 rfl rfl)
theorem dX0_drawn_33 : decode cX0_drawn 33 = .ok (.getfield 85, 3) := dk_180 0 85 (dk_at dksX0_drawn_1 9 rfl rfl)
theorem dX0_drawn_36 : decode cX0_drawn 36 = .ok (.iconst 1, 1) := dk_4 (dk_at dksX0_drawn_1 12 rfl rfl)
theorem dX0_drawn_37 : decode cX0_drawn 37 = .ok (.isub, 1) := dk_100 (dk_at dksX0_drawn_1 13 rfl rfl)
theorem dX0_drawn_38 : decode cX0_drawn 38 = .ok (.invokestatic 81, 3) := dk_184 0 81 (dk_at dksX0_drawn_1 14 rfl rfl)
theorem dX0_drawn_41 : decode cX0_drawn 41 = .ok (.ifCond .ne 5, 3) := dk_154 0 5 (dk_at dksX0_drawn_1 17 rfl rfl)
theorem dX0_drawn_44 : decode cX0_drawn 44 = .ok (.iconst (-1), 1) := dk_2 (dk_at dksX0_drawn_1 20 rfl rfl)
theorem dX0_drawn_45 : decode cX0_drawn 45 = .ok (.ireturn, 1) := dk_172 (dk_at dksX0_drawn_1 21 rfl rfl)
theorem dX0_drawn_46 : decode cX0_drawn 46 = .ok (.iload_n 1, 1) := dk_27 (dk_at dksX0_drawn_1 22 rfl rfl)
theorem dX0_drawn_47 : decode cX0_drawn 47 = .ok (.istore 4, 2) := dk_54 4 (dk_at dksX0_drawn_2 0 rfl rfl)
theorem dX0_drawn_49 : decode cX0_drawn 49 = .ok (.iconst 0, 1) := dk_3 (dk_at dksX0_drawn_2 2 rfl rfl)
theorem dX0_drawn_50 : decode cX0_drawn 50 = .ok (.istore 5, 2) := dk_54 5 (dk_at dksX0_drawn_2 3 rfl rfl)
theorem dX0_drawn_52 : decode cX0_drawn 52 = .ok (.iconst 0, 1) := dk_3 (dk_at dksX0_drawn_2 5 rfl rfl)
theorem dX0_drawn_53 : decode cX0_drawn 53 = .ok (.istore 6, 2) := dk_54 6 (dk_at dksX0_drawn_2 6 rfl rfl)
theorem dX0_drawn_55 : decode cX0_drawn 55 = .ok (.iload 6, 2) := dk_21 6 (dk_at dksX0_drawn_2 8 rfl rfl)
theorem dX0_drawn_57 : decode cX0_drawn 57 = .ok (.iload_n 2, 1) := dk_28 (dk_at dksX0_drawn_2 10 rfl rfl)
theorem dX0_drawn_58 : decode cX0_drawn 58 = .ok (.bipush 100, 2) := dk_16 100 (dk_at dksX0_drawn_2 11 rfl rfl)
theorem dX0_drawn_60 : decode cX0_drawn 60 = .ok (.idiv, 1) := dk_108 (dk_at dksX0_drawn_2 13 rfl rfl)
theorem dX0_drawn_61 : decode cX0_drawn 61 = .ok (.if_icmp .ge 114, 3) := dk_162 0 114 (dk_at dksX0_drawn_2 14 rfl rfl)
theorem dX0_drawn_64 : decode cX0_drawn 64 = .ok (.aload_n 0, 1) := dk_42 (dk_at dksX0_drawn_2 17 rfl rfl)
theorem dX0_drawn_65 : decode cX0_drawn 65 = .ok (.invokevirtual 252, 3) := dk_182 0 252 (dk_at dksX0_drawn_2 18 rfl rfl)
theorem dX0_drawn_68 : decode cX0_drawn 68 = .ok (.iconst 0, 1) := dk_3 (dk_at dksX0_drawn_2 21 rfl rfl)
theorem dX0_drawn_69 : decode cX0_drawn 69 = .ok (.istore 7, 2) := dk_54 7 (dk_at dksX0_drawn_2 22 rfl rfl)
theorem dX0_drawn_71 : decode cX0_drawn 71 = .ok (.iload 7, 2) := dk_21 7 (dk_at dksX0_drawn_3 0 rfl rfl)
theorem dX0_drawn_73 : decode cX0_drawn 73 = .ok (.iload_n 2, 1) := dk_28 (dk_at dksX0_drawn_3 2 rfl rfl)
theorem dX0_drawn_74 : decode cX0_drawn 74 = .ok (.bipush 100, 2) := dk_16 100 (dk_at dksX0_drawn_3 3 rfl rfl)
theorem dX0_drawn_76 : decode cX0_drawn 76 = .ok (.irem, 1) := dk_112 (dk_at dksX0_drawn_3 5 rfl rfl)
theorem dX0_drawn_77 : decode cX0_drawn 77 = .ok (.if_icmp .ge 70, 3) := dk_162 0 70 (dk_at dksX0_drawn_3 6 rfl rfl)
theorem dX0_drawn_80 : decode cX0_drawn 80 = .ok (.iload 4, 2) := dk_21 4 (dk_at dksX0_drawn_3 9 rfl rfl)
theorem dX0_drawn_82 : decode cX0_drawn 82 = .ok (.ldc_w 368, 3) := dk_19 1 112 (dk_at dksX0_drawn_3 11 rfl rfl)
theorem dX0_drawn_85 : decode cX0_drawn 85 = .ok (.imul, 1) := dk_104 (dk_at dksX0_drawn_3 14 rfl rfl)
theorem dX0_drawn_86 : decode cX0_drawn 86 = .ok (.sipush 12345, 3) := dk_17 48 57 (dk_at dksX0_drawn_3 15 rfl rfl)
theorem dX0_drawn_89 : decode cX0_drawn 89 = .ok (.iadd, 1) := dk_96 (dk_at dksX0_drawn_3 18 rfl rfl)
theorem dX0_drawn_90 : decode cX0_drawn 90 = .ok (.istore 4, 2) := dk_54 4 (dk_at dksX0_drawn_3 19 rfl rfl)
theorem dX0_drawn_92 : decode cX0_drawn 92 = .ok (.aload_n 0, 1) := dk_42 (dk_at dksX0_drawn_3 21 rfl rfl)
theorem dX0_drawn_93 : decode cX0_drawn 93 = .ok (.getfield 85, 3) := dk_180 0 85 (dk_at dksX0_drawn_4 0 rfl rfl)
theorem dX0_drawn_96 : decode cX0_drawn 96 = .ok (.ifCond .le 41, 3) := dk_158 0 41 (dk_at dksX0_drawn_4 3 rfl rfl)
theorem dX0_drawn_99 : decode cX0_drawn 99 = .ok (.iload 4, 2) := dk_21 4 (dk_at dksX0_drawn_4 6 rfl rfl)
theorem dX0_drawn_101 : decode cX0_drawn 101 = .ok (.bipush 8, 2) := dk_16 8 (dk_at dksX0_drawn_4 8 rfl rfl)
theorem dX0_drawn_103 : decode cX0_drawn 103 = .ok (.iushr, 1) := dk_124 (dk_at dksX0_drawn_4 10 rfl rfl)
theorem dX0_drawn_104 : decode cX0_drawn 104 = .ok (.aload_n 0, 1) := dk_42 (dk_at dksX0_drawn_4 11 rfl rfl)
theorem dX0_drawn_105 : decode cX0_drawn 105 = .ok (.getfield 85, 3) := dk_180 0 85 (dk_at dksX0_drawn_4 12 rfl rfl)
theorem dX0_drawn_108 : decode cX0_drawn 108 = .ok (.irem, 1) := dk_112 (dk_at dksX0_drawn_4 15 rfl rfl)
theorem dX0_drawn_109 : decode cX0_drawn 109 = .ok (.istore 8, 2) := dk_54 8 (dk_at dksX0_drawn_4 16 rfl rfl)
theorem dX0_drawn_111 : decode cX0_drawn 111 = .ok (.aload_n 0, 1) := dk_42 (dk_at dksX0_drawn_4 18 rfl rfl)
theorem dX0_drawn_112 : decode cX0_drawn 112 = .ok (.getfield 38, 3) := dk_180 0 38 (dk_at dksX0_drawn_4 19 rfl rfl)
theorem dX0_drawn_115 : decode cX0_drawn 115 = .ok (.iload 8, 2) := dk_21 8 (dk_at dksX0_drawn_4 22 rfl rfl)
theorem dX0_drawn_117 : decode cX0_drawn 117 = .ok (.aload_n 0, 1) := dk_42 (dk_at dksX0_drawn_5 0 rfl rfl)
theorem dX0_drawn_118 : decode cX0_drawn 118 = .ok (.getfield 38, 3) := dk_180 0 38 (dk_at dksX0_drawn_5 1 rfl rfl)
theorem dX0_drawn_121 : decode cX0_drawn 121 = .ok (.iload 8, 2) := dk_21 8 (dk_at dksX0_drawn_5 4 rfl rfl)
theorem dX0_drawn_123 : decode cX0_drawn 123 = .ok (.iaload, 1) := dk_46 (dk_at dksX0_drawn_5 6 rfl rfl)
theorem dX0_drawn_124 : decode cX0_drawn 124 = .ok (.iload 4, 2) := dk_21 4 (dk_at dksX0_drawn_5 7 rfl rfl)
theorem dX0_drawn_126 : decode cX0_drawn 126 = .ok (.bipush 16, 2) := dk_16 16 (dk_at dksX0_drawn_5 9 rfl rfl)
theorem dX0_drawn_128 : decode cX0_drawn 128 = .ok (.iushr, 1) := dk_124 (dk_at dksX0_drawn_5 11 rfl rfl)
theorem dX0_drawn_129 : decode cX0_drawn 129 = .ok (.bipush 10, 2) := dk_16 10 (dk_at dksX0_drawn_5 12 rfl rfl)
theorem dX0_drawn_131 : decode cX0_drawn 131 = .ok (.irem, 1) := dk_112 (dk_at dksX0_drawn_5 14 rfl rfl)
theorem dX0_drawn_132 : decode cX0_drawn 132 = .ok (.isub, 1) := dk_100 (dk_at dksX0_drawn_5 15 rfl rfl)
theorem dX0_drawn_133 : decode cX0_drawn 133 = .ok (.invokestatic 261, 3) := dk_184 1 5 (dk_at dksX0_drawn_5 16 rfl rfl)
theorem dX0_drawn_136 : decode cX0_drawn 136 = .ok (.iastore, 1) := dk_79 (dk_at dksX0_drawn_5 19 rfl rfl)
theorem dX0_drawn_137 : decode cX0_drawn 137 = .ok (.aload_n 0, 1) := dk_42 (dk_at dksX0_drawn_5 20 rfl rfl)
theorem dX0_drawn_138 : decode cX0_drawn 138 = .ok (.invokevirtual 264, 3) := dk_182 1 8 (dk_at dksX0_drawn_5 21 rfl rfl)
theorem dX0_drawn_141 : decode cX0_drawn 141 = .ok (.iinc 7 1, 3) := dk_132 7 1 (dk_at dksX0_drawn_6 0 rfl rfl)
theorem dX0_drawn_144 : decode cX0_drawn 144 = .ok (.goto (-73), 3) := dk_167 255 183 (dk_at dksX0_drawn_6 3 rfl rfl)
theorem dX0_drawn_147 : decode cX0_drawn 147 = .ok (.iload 5, 2) := dk_21 5 (dk_at dksX0_drawn_6 6 rfl rfl)
theorem dX0_drawn_149 : decode cX0_drawn 149 = .ok (.iload_n 3, 1) := dk_29 (dk_at dksX0_drawn_6 8 rfl rfl)
theorem dX0_drawn_150 : decode cX0_drawn 150 = .ok (.ifCond .ge 10, 3) := dk_156 0 10 (dk_at dksX0_drawn_6 9 rfl rfl)
theorem dX0_drawn_153 : decode cX0_drawn 153 = .ok (.aload_n 0, 1) := dk_42 (dk_at dksX0_drawn_6 12 rfl rfl)
theorem dX0_drawn_154 : decode cX0_drawn 154 = .ok (.invokevirtual 306, 3) := dk_182 1 50 (dk_at dksX0_drawn_6 13 rfl rfl)
theorem dX0_drawn_157 : decode cX0_drawn 157 = .ok (.goto 9, 3) := dk_167 0 9 (dk_at dksX0_drawn_6 16 rfl rfl)
theorem dX0_drawn_160 : decode cX0_drawn 160 = .ok (.aload_n 0, 1) := dk_42 (dk_at dksX0_drawn_6 19 rfl rfl)
theorem dX0_drawn_161 : decode cX0_drawn 161 = .ok (.getfield 38, 3) := dk_180 0 38 (dk_at dksX0_drawn_6 20 rfl rfl)
theorem dX0_drawn_164 : decode cX0_drawn 164 = .ok (.iload_n 3, 1) := dk_29 (dk_at dksX0_drawn_6 23 rfl rfl)
theorem dX0_drawn_165 : decode cX0_drawn 165 = .ok (.iaload, 1) := dk_46 (dk_at dksX0_drawn_7 0 rfl rfl)
theorem dX0_drawn_166 : decode cX0_drawn 166 = .ok (.iadd, 1) := dk_96 (dk_at dksX0_drawn_7 1 rfl rfl)
theorem dX0_drawn_167 : decode cX0_drawn 167 = .ok (.istore 5, 2) := dk_54 5 (dk_at dksX0_drawn_7 2 rfl rfl)
theorem dX0_drawn_169 : decode cX0_drawn 169 = .ok (.iinc 6 1, 3) := dk_132 6 1 (dk_at dksX0_drawn_7 4 rfl rfl)
theorem dX0_drawn_172 : decode cX0_drawn 172 = .ok (.goto (-117), 3) := dk_167 255 139 (dk_at dksX0_drawn_7 7 rfl rfl)
theorem dX0_drawn_175 : decode cX0_drawn 175 = .ok (.iload 5, 2) := dk_21 5 (dk_at dksX0_drawn_7 10 rfl rfl)
theorem dX0_drawn_177 : decode cX0_drawn 177 = .ok (.ireturn, 1) := dk_172 (dk_at dksX0_drawn_7 12 rfl rfl)
abbrev cX0_day : ByteArray := prog_1_method_64_code
def yX0_day : MethodName := ⟨RX0, "day", "()I"⟩
def dkwX0_day_4 : List UInt8 := [181, 1, 119, 42, 182, 1, 50, 172]
abbrev dktX0_day_4 : List UInt8 := dkwX0_day_4 ++ []
def dkwX0_day_3 : List UInt8 := [180, 0, 221, 96, 181, 1, 116, 42, 89, 180, 1, 119, 42, 182, 1, 11, 27, 2, 130, 126, 184, 1, 14, 96]
abbrev dktX0_day_3 : List UInt8 := dkwX0_day_3 ++ dktX0_day_4
def dkwX0_day_2 : List UInt8 := [180, 0, 215, 181, 0, 129, 42, 89, 180, 1, 113, 4, 96, 181, 1, 113, 42, 89, 180, 1, 116, 42]
abbrev dktX0_day_2 : List UInt8 := dkwX0_day_2 ++ dktX0_day_3
def dkwX0_day_1 : List UInt8 := [180, 0, 13, 28, 50, 42, 180, 0, 38, 28, 46, 181, 0, 123, 132, 2, 1, 167, 255, 230, 42, 42]
abbrev dktX0_day_1 : List UInt8 := dkwX0_day_1 ++ dktX0_day_2
def dkwX0_day_0 : List UInt8 := [42, 182, 0, 252, 42, 182, 1, 11, 60, 42, 182, 1, 8, 3, 61, 28, 42, 180, 0, 85, 162, 0, 24, 42]
abbrev dktX0_day_0 : List UInt8 := dkwX0_day_0 ++ dktX0_day_1
theorem dksX0_day_0 : cX0_day.data.toList.drop 0 = dktX0_day_0 := by decide +kernel
theorem dksX0_day_1 : cX0_day.data.toList.drop 24 = dktX0_day_1 := dk_seg dksX0_day_0 24 rfl rfl
theorem dksX0_day_2 : cX0_day.data.toList.drop 46 = dktX0_day_2 := dk_seg dksX0_day_1 22 rfl rfl
theorem dksX0_day_3 : cX0_day.data.toList.drop 68 = dktX0_day_3 := dk_seg dksX0_day_2 22 rfl rfl
theorem dksX0_day_4 : cX0_day.data.toList.drop 92 = dktX0_day_4 := dk_seg dksX0_day_3 24 rfl rfl
theorem dX0_day_0 : decode cX0_day 0 = .ok (.aload_n 0, 1) := dk_42 (dk_at dksX0_day_0 0 rfl rfl)
theorem dX0_day_1 : decode cX0_day 1 = .ok (.invokevirtual 252, 3) := dk_182 0 252 (dk_at dksX0_day_0 1 rfl rfl)
theorem dX0_day_4 : decode cX0_day 4 = .ok (.aload_n 0, 1) := dk_42 (dk_at dksX0_day_0 4 rfl rfl)
theorem dX0_day_5 : decode cX0_day 5 = .ok (.invokevirtual 267, 3) := dk_182 1 11 (dk_at dksX0_day_0 5 rfl rfl)
theorem dX0_day_8 : decode cX0_day 8 = .ok (.istore_n 1, 1) := dk_60 (dk_at dksX0_day_0 8 rfl rfl)
theorem dX0_day_9 : decode cX0_day 9 = .ok (.aload_n 0, 1) := dk_42 (dk_at dksX0_day_0 9 rfl rfl)
theorem dX0_day_10 : decode cX0_day 10 = .ok (.invokevirtual 264, 3) := dk_182 1 8 (dk_at dksX0_day_0 10 rfl rfl)
theorem dX0_day_13 : decode cX0_day 13 = .ok (.iconst 0, 1) := dk_3 (dk_at dksX0_day_0 13 rfl rfl)
theorem dX0_day_14 : decode cX0_day 14 = .ok (.istore_n 2, 1) := dk_61 (dk_at dksX0_day_0 14 rfl rfl)
theorem dX0_day_15 : decode cX0_day 15 = .ok (.iload_n 2, 1) := dk_28 (dk_at dksX0_day_0 15 rfl rfl)
theorem dX0_day_16 : decode cX0_day 16 = .ok (.aload_n 0, 1) := dk_42 (dk_at dksX0_day_0 16 rfl rfl)
theorem dX0_day_17 : decode cX0_day 17 = .ok (.getfield 85, 3) := dk_180 0 85 (dk_at dksX0_day_0 17 rfl rfl)
theorem dX0_day_20 : decode cX0_day 20 = .ok (.if_icmp .ge 24, 3) := dk_162 0 24 (dk_at dksX0_day_0 20 rfl rfl)
theorem dX0_day_23 : decode cX0_day 23 = .ok (.aload_n 0, 1) := dk_42 (dk_at dksX0_day_0 23 rfl rfl)
theorem dX0_day_24 : decode cX0_day 24 = .ok (.getfield 13, 3) := dk_180 0 13 (dk_at dksX0_day_1 0 rfl rfl)
theorem dX0_day_27 : decode cX0_day 27 = .ok (.iload_n 2, 1) := dk_28 (dk_at dksX0_day_1 3 rfl rfl)
theorem dX0_day_28 : decode cX0_day 28 = .ok (.aaload, 1) := dk_50 (dk_at dksX0_day_1 4 rfl rfl)
theorem dX0_day_29 : decode cX0_day 29 = .ok (.aload_n 0, 1) := dk_42 (dk_at dksX0_day_1 5 rfl rfl)
theorem dX0_day_30 : decode cX0_day 30 = .ok (.getfield 38, 3) := dk_180 0 38 (dk_at dksX0_day_1 6 rfl rfl)
theorem dX0_day_33 : decode cX0_day 33 = .ok (.iload_n 2, 1) := dk_28 (dk_at dksX0_day_1 9 rfl rfl)
theorem dX0_day_34 : decode cX0_day 34 = .ok (.iaload, 1) := dk_46 (dk_at dksX0_day_1 10 rfl rfl)
theorem dX0_day_35 : decode cX0_day 35 = .ok (.putfield 123, 3) := dk_181 0 123 (dk_at dksX0_day_1 11 rfl rfl)
theorem dX0_day_38 : decode cX0_day 38 = .ok (.iinc 2 1, 3) := dk_132 2 1 (dk_at dksX0_day_1 14 rfl rfl)
theorem dX0_day_41 : decode cX0_day 41 = .ok (.goto (-26), 3) := dk_167 255 230 (dk_at dksX0_day_1 17 rfl rfl)
theorem dX0_day_44 : decode cX0_day 44 = .ok (.aload_n 0, 1) := dk_42 (dk_at dksX0_day_1 20 rfl rfl)
theorem dX0_day_45 : decode cX0_day 45 = .ok (.aload_n 0, 1) := dk_42 (dk_at dksX0_day_1 21 rfl rfl)
theorem dX0_day_46 : decode cX0_day 46 = .ok (.getfield 215, 3) := dk_180 0 215 (dk_at dksX0_day_2 0 rfl rfl)
theorem dX0_day_49 : decode cX0_day 49 = .ok (.putfield 129, 3) := dk_181 0 129 (dk_at dksX0_day_2 3 rfl rfl)
theorem dX0_day_52 : decode cX0_day 52 = .ok (.aload_n 0, 1) := dk_42 (dk_at dksX0_day_2 6 rfl rfl)
theorem dX0_day_53 : decode cX0_day 53 = .ok (.dup, 1) := dk_89 (dk_at dksX0_day_2 7 rfl rfl)
theorem dX0_day_54 : decode cX0_day 54 = .ok (.getfield 369, 3) := dk_180 1 113 (dk_at dksX0_day_2 8 rfl rfl)
theorem dX0_day_57 : decode cX0_day 57 = .ok (.iconst 1, 1) := dk_4 (dk_at dksX0_day_2 11 rfl rfl)
theorem dX0_day_58 : decode cX0_day 58 = .ok (.iadd, 1) := dk_96 (dk_at dksX0_day_2 12 rfl rfl)
theorem dX0_day_59 : decode cX0_day 59 = .ok (.putfield 369, 3) := dk_181 1 113 (dk_at dksX0_day_2 13 rfl rfl)
theorem dX0_day_62 : decode cX0_day 62 = .ok (.aload_n 0, 1) := dk_42 (dk_at dksX0_day_2 16 rfl rfl)
theorem dX0_day_63 : decode cX0_day 63 = .ok (.dup, 1) := dk_89 (dk_at dksX0_day_2 17 rfl rfl)
theorem dX0_day_64 : decode cX0_day 64 = .ok (.getfield 372, 3) := dk_180 1 116 (dk_at dksX0_day_2 18 rfl rfl)
theorem dX0_day_67 : decode cX0_day 67 = .ok (.aload_n 0, 1) := dk_42 (dk_at dksX0_day_2 21 rfl rfl)
theorem dX0_day_68 : decode cX0_day 68 = .ok (.getfield 221, 3) := dk_180 0 221 (dk_at dksX0_day_3 0 rfl rfl)
theorem dX0_day_71 : decode cX0_day 71 = .ok (.iadd, 1) := dk_96 (dk_at dksX0_day_3 3 rfl rfl)
theorem dX0_day_72 : decode cX0_day 72 = .ok (.putfield 372, 3) := dk_181 1 116 (dk_at dksX0_day_3 4 rfl rfl)
theorem dX0_day_75 : decode cX0_day 75 = .ok (.aload_n 0, 1) := dk_42 (dk_at dksX0_day_3 7 rfl rfl)
theorem dX0_day_76 : decode cX0_day 76 = .ok (.dup, 1) := dk_89 (dk_at dksX0_day_3 8 rfl rfl)
theorem dX0_day_77 : decode cX0_day 77 = .ok (.getfield 375, 3) := dk_180 1 119 (dk_at dksX0_day_3 9 rfl rfl)
theorem dX0_day_80 : decode cX0_day 80 = .ok (.aload_n 0, 1) := dk_42 (dk_at dksX0_day_3 12 rfl rfl)
theorem dX0_day_81 : decode cX0_day 81 = .ok (.invokevirtual 267, 3) := dk_182 1 11 (dk_at dksX0_day_3 13 rfl rfl)
theorem dX0_day_84 : decode cX0_day 84 = .ok (.iload_n 1, 1) := dk_27 (dk_at dksX0_day_3 16 rfl rfl)
theorem dX0_day_85 : decode cX0_day 85 = .ok (.iconst (-1), 1) := dk_2 (dk_at dksX0_day_3 17 rfl rfl)
theorem dX0_day_86 : decode cX0_day 86 = .ok (.ixor, 1) := dk_130 (dk_at dksX0_day_3 18 rfl rfl)
theorem dX0_day_87 : decode cX0_day 87 = .ok (.iand, 1) := dk_126 (dk_at dksX0_day_3 19 rfl rfl)
theorem dX0_day_88 : decode cX0_day 88 = .ok (.invokestatic 270, 3) := dk_184 1 14 (dk_at dksX0_day_3 20 rfl rfl)
theorem dX0_day_91 : decode cX0_day 91 = .ok (.iadd, 1) := dk_96 (dk_at dksX0_day_3 23 rfl rfl)
theorem dX0_day_92 : decode cX0_day 92 = .ok (.putfield 375, 3) := dk_181 1 119 (dk_at dksX0_day_4 0 rfl rfl)
theorem dX0_day_95 : decode cX0_day 95 = .ok (.aload_n 0, 1) := dk_42 (dk_at dksX0_day_4 3 rfl rfl)
theorem dX0_day_96 : decode cX0_day 96 = .ok (.invokevirtual 306, 3) := dk_182 1 50 (dk_at dksX0_day_4 4 rfl rfl)
theorem dX0_day_99 : decode cX0_day 99 = .ok (.ireturn, 1) := dk_172 (dk_at dksX0_day_4 7 rfl rfl)
abbrev cX0_cares : ByteArray := prog_1_method_65_code
def yX0_cares : MethodName := ⟨RX0, "cares", "(II)I"⟩
def dkwX0_cares_2 : List UInt8 := [181, 1, 122, 29, 172]
abbrev dktX0_cares_2 : List UInt8 := dkwX0_cares_2 ++ []
def dkwX0_cares_1 : List UInt8 := [27, 50, 180, 0, 126, 62, 42, 180, 0, 13, 27, 50, 28, 181, 0, 126, 42, 89, 180, 1, 122, 4, 96]
abbrev dktX0_cares_1 : List UInt8 := dkwX0_cares_1 ++ dktX0_cares_2
def dkwX0_cares_0 : List UInt8 := [42, 27, 182, 0, 156, 153, 0, 12, 42, 27, 28, 182, 0, 159, 154, 0, 6, 18, 177, 172, 42, 180, 0, 13]
abbrev dktX0_cares_0 : List UInt8 := dkwX0_cares_0 ++ dktX0_cares_1
theorem dksX0_cares_0 : cX0_cares.data.toList.drop 0 = dktX0_cares_0 := by decide +kernel
theorem dksX0_cares_1 : cX0_cares.data.toList.drop 24 = dktX0_cares_1 := dk_seg dksX0_cares_0 24 rfl rfl
theorem dksX0_cares_2 : cX0_cares.data.toList.drop 47 = dktX0_cares_2 := dk_seg dksX0_cares_1 23 rfl rfl
theorem dX0_cares_0 : decode cX0_cares 0 = .ok (.aload_n 0, 1) := dk_42 (dk_at dksX0_cares_0 0 rfl rfl)
theorem dX0_cares_1 : decode cX0_cares 1 = .ok (.iload_n 1, 1) := dk_27 (dk_at dksX0_cares_0 1 rfl rfl)
theorem dX0_cares_2 : decode cX0_cares 2 = .ok (.invokevirtual 156, 3) := dk_182 0 156 (dk_at dksX0_cares_0 2 rfl rfl)
theorem dX0_cares_5 : decode cX0_cares 5 = .ok (.ifCond .eq 12, 3) := dk_153 0 12 (dk_at dksX0_cares_0 5 rfl rfl)
theorem dX0_cares_8 : decode cX0_cares 8 = .ok (.aload_n 0, 1) := dk_42 (dk_at dksX0_cares_0 8 rfl rfl)
theorem dX0_cares_9 : decode cX0_cares 9 = .ok (.iload_n 1, 1) := dk_27 (dk_at dksX0_cares_0 9 rfl rfl)
theorem dX0_cares_10 : decode cX0_cares 10 = .ok (.iload_n 2, 1) := dk_28 (dk_at dksX0_cares_0 10 rfl rfl)
theorem dX0_cares_11 : decode cX0_cares 11 = .ok (.invokevirtual 159, 3) := dk_182 0 159 (dk_at dksX0_cares_0 11 rfl rfl)
theorem dX0_cares_14 : decode cX0_cares 14 = .ok (.ifCond .ne 6, 3) := dk_154 0 6 (dk_at dksX0_cares_0 14 rfl rfl)
theorem dX0_cares_17 : decode cX0_cares 17 = .ok (.ldc 177, 2) := dk_18 177 (dk_at dksX0_cares_0 17 rfl rfl)
theorem dX0_cares_19 : decode cX0_cares 19 = .ok (.ireturn, 1) := dk_172 (dk_at dksX0_cares_0 19 rfl rfl)
theorem dX0_cares_20 : decode cX0_cares 20 = .ok (.aload_n 0, 1) := dk_42 (dk_at dksX0_cares_0 20 rfl rfl)
theorem dX0_cares_21 : decode cX0_cares 21 = .ok (.getfield 13, 3) := dk_180 0 13 (dk_at dksX0_cares_0 21 rfl rfl)
theorem dX0_cares_24 : decode cX0_cares 24 = .ok (.iload_n 1, 1) := dk_27 (dk_at dksX0_cares_1 0 rfl rfl)
theorem dX0_cares_25 : decode cX0_cares 25 = .ok (.aaload, 1) := dk_50 (dk_at dksX0_cares_1 1 rfl rfl)
theorem dX0_cares_26 : decode cX0_cares 26 = .ok (.getfield 126, 3) := dk_180 0 126 (dk_at dksX0_cares_1 2 rfl rfl)
theorem dX0_cares_29 : decode cX0_cares 29 = .ok (.istore_n 3, 1) := dk_62 (dk_at dksX0_cares_1 5 rfl rfl)
theorem dX0_cares_30 : decode cX0_cares 30 = .ok (.aload_n 0, 1) := dk_42 (dk_at dksX0_cares_1 6 rfl rfl)
theorem dX0_cares_31 : decode cX0_cares 31 = .ok (.getfield 13, 3) := dk_180 0 13 (dk_at dksX0_cares_1 7 rfl rfl)
theorem dX0_cares_34 : decode cX0_cares 34 = .ok (.iload_n 1, 1) := dk_27 (dk_at dksX0_cares_1 10 rfl rfl)
theorem dX0_cares_35 : decode cX0_cares 35 = .ok (.aaload, 1) := dk_50 (dk_at dksX0_cares_1 11 rfl rfl)
theorem dX0_cares_36 : decode cX0_cares 36 = .ok (.iload_n 2, 1) := dk_28 (dk_at dksX0_cares_1 12 rfl rfl)
theorem dX0_cares_37 : decode cX0_cares 37 = .ok (.putfield 126, 3) := dk_181 0 126 (dk_at dksX0_cares_1 13 rfl rfl)
theorem dX0_cares_40 : decode cX0_cares 40 = .ok (.aload_n 0, 1) := dk_42 (dk_at dksX0_cares_1 16 rfl rfl)
theorem dX0_cares_41 : decode cX0_cares 41 = .ok (.dup, 1) := dk_89 (dk_at dksX0_cares_1 17 rfl rfl)
theorem dX0_cares_42 : decode cX0_cares 42 = .ok (.getfield 378, 3) := dk_180 1 122 (dk_at dksX0_cares_1 18 rfl rfl)
theorem dX0_cares_45 : decode cX0_cares 45 = .ok (.iconst 1, 1) := dk_4 (dk_at dksX0_cares_1 21 rfl rfl)
theorem dX0_cares_46 : decode cX0_cares 46 = .ok (.iadd, 1) := dk_96 (dk_at dksX0_cares_1 22 rfl rfl)
theorem dX0_cares_47 : decode cX0_cares 47 = .ok (.putfield 378, 3) := dk_181 1 122 (dk_at dksX0_cares_2 0 rfl rfl)
theorem dX0_cares_50 : decode cX0_cares 50 = .ok (.iload_n 3, 1) := dk_29 (dk_at dksX0_cares_2 3 rfl rfl)
theorem dX0_cares_51 : decode cX0_cares 51 = .ok (.ireturn, 1) := dk_172 (dk_at dksX0_cares_2 4 rfl rfl)
abbrev cX0_gives : ByteArray := prog_1_method_66_code
def yX0_gives : MethodName := ⟨RX0, "gives", "(III)I"⟩
def dkwX0_gives_4 : List UInt8 := [181, 1, 125, 42, 180, 0, 13, 27, 50, 180, 0, 123, 172]
abbrev dktX0_gives_4 : List UInt8 := dkwX0_gives_4 ++ []
def dkwX0_gives_3 : List UInt8 := [42, 180, 0, 13, 28, 50, 180, 0, 123, 29, 96, 184, 1, 5, 181, 0, 123, 42, 89, 180, 1, 125, 29, 96]
abbrev dktX0_gives_3 : List UInt8 := dkwX0_gives_3 ++ dktX0_gives_4
def dkwX0_gives_2 : List UInt8 := [16, 251, 172, 42, 180, 0, 13, 27, 50, 89, 180, 0, 123, 29, 100, 181, 0, 123, 42, 180, 0, 13, 28, 50]
abbrev dktX0_gives_2 : List UInt8 := dkwX0_gives_2 ++ dktX0_gives_3
def dkwX0_gives_1 : List UInt8 := [16, 99, 184, 0, 81, 154, 0, 5, 2, 172, 42, 180, 0, 13, 27, 50, 180, 0, 123, 29, 162, 0, 6]
abbrev dktX0_gives_1 : List UInt8 := dkwX0_gives_1 ++ dktX0_gives_2
def dkwX0_gives_0 : List UInt8 := [42, 27, 182, 0, 156, 153, 0, 26, 42, 28, 182, 0, 156, 153, 0, 18, 27, 28, 159, 0, 13, 29, 4]
abbrev dktX0_gives_0 : List UInt8 := dkwX0_gives_0 ++ dktX0_gives_1
theorem dksX0_gives_0 : cX0_gives.data.toList.drop 0 = dktX0_gives_0 := by decide +kernel
theorem dksX0_gives_1 : cX0_gives.data.toList.drop 23 = dktX0_gives_1 := dk_seg dksX0_gives_0 23 rfl rfl
theorem dksX0_gives_2 : cX0_gives.data.toList.drop 46 = dktX0_gives_2 := dk_seg dksX0_gives_1 23 rfl rfl
theorem dksX0_gives_3 : cX0_gives.data.toList.drop 70 = dktX0_gives_3 := dk_seg dksX0_gives_2 24 rfl rfl
theorem dksX0_gives_4 : cX0_gives.data.toList.drop 94 = dktX0_gives_4 := dk_seg dksX0_gives_3 24 rfl rfl
theorem dX0_gives_0 : decode cX0_gives 0 = .ok (.aload_n 0, 1) := dk_42 (dk_at dksX0_gives_0 0 rfl rfl)
theorem dX0_gives_1 : decode cX0_gives 1 = .ok (.iload_n 1, 1) := dk_27 (dk_at dksX0_gives_0 1 rfl rfl)
theorem dX0_gives_2 : decode cX0_gives 2 = .ok (.invokevirtual 156, 3) := dk_182 0 156 (dk_at dksX0_gives_0 2 rfl rfl)
theorem dX0_gives_5 : decode cX0_gives 5 = .ok (.ifCond .eq 26, 3) := dk_153 0 26 (dk_at dksX0_gives_0 5 rfl rfl)
theorem dX0_gives_8 : decode cX0_gives 8 = .ok (.aload_n 0, 1) := dk_42 (dk_at dksX0_gives_0 8 rfl rfl)
theorem dX0_gives_9 : decode cX0_gives 9 = .ok (.iload_n 2, 1) := dk_28 (dk_at dksX0_gives_0 9 rfl rfl)
theorem dX0_gives_10 : decode cX0_gives 10 = .ok (.invokevirtual 156, 3) := dk_182 0 156 (dk_at dksX0_gives_0 10 rfl rfl)
theorem dX0_gives_13 : decode cX0_gives 13 = .ok (.ifCond .eq 18, 3) := dk_153 0 18 (dk_at dksX0_gives_0 13 rfl rfl)
theorem dX0_gives_16 : decode cX0_gives 16 = .ok (.iload_n 1, 1) := dk_27 (dk_at dksX0_gives_0 16 rfl rfl)
theorem dX0_gives_17 : decode cX0_gives 17 = .ok (.iload_n 2, 1) := dk_28 (dk_at dksX0_gives_0 17 rfl rfl)
theorem dX0_gives_18 : decode cX0_gives 18 = .ok (.if_icmp .eq 13, 3) := dk_159 0 13 (dk_at dksX0_gives_0 18 rfl rfl)
theorem dX0_gives_21 : decode cX0_gives 21 = .ok (.iload_n 3, 1) := dk_29 (dk_at dksX0_gives_0 21 rfl rfl)
theorem dX0_gives_22 : decode cX0_gives 22 = .ok (.iconst 1, 1) := dk_4 (dk_at dksX0_gives_0 22 rfl rfl)
theorem dX0_gives_23 : decode cX0_gives 23 = .ok (.bipush 99, 2) := dk_16 99 (dk_at dksX0_gives_1 0 rfl rfl)
theorem dX0_gives_25 : decode cX0_gives 25 = .ok (.invokestatic 81, 3) := dk_184 0 81 (dk_at dksX0_gives_1 2 rfl rfl)
theorem dX0_gives_28 : decode cX0_gives 28 = .ok (.ifCond .ne 5, 3) := dk_154 0 5 (dk_at dksX0_gives_1 5 rfl rfl)
theorem dX0_gives_31 : decode cX0_gives 31 = .ok (.iconst (-1), 1) := dk_2 (dk_at dksX0_gives_1 8 rfl rfl)
theorem dX0_gives_32 : decode cX0_gives 32 = .ok (.ireturn, 1) := dk_172 (dk_at dksX0_gives_1 9 rfl rfl)
theorem dX0_gives_33 : decode cX0_gives 33 = .ok (.aload_n 0, 1) := dk_42 (dk_at dksX0_gives_1 10 rfl rfl)
theorem dX0_gives_34 : decode cX0_gives 34 = .ok (.getfield 13, 3) := dk_180 0 13 (dk_at dksX0_gives_1 11 rfl rfl)
theorem dX0_gives_37 : decode cX0_gives 37 = .ok (.iload_n 1, 1) := dk_27 (dk_at dksX0_gives_1 14 rfl rfl)
theorem dX0_gives_38 : decode cX0_gives 38 = .ok (.aaload, 1) := dk_50 (dk_at dksX0_gives_1 15 rfl rfl)
theorem dX0_gives_39 : decode cX0_gives 39 = .ok (.getfield 123, 3) := dk_180 0 123 (dk_at dksX0_gives_1 16 rfl rfl)
theorem dX0_gives_42 : decode cX0_gives 42 = .ok (.iload_n 3, 1) := dk_29 (dk_at dksX0_gives_1 19 rfl rfl)
theorem dX0_gives_43 : decode cX0_gives 43 = .ok (.if_icmp .ge 6, 3) := dk_162 0 6 (dk_at dksX0_gives_1 20 rfl rfl)
theorem dX0_gives_46 : decode cX0_gives 46 = .ok (.bipush (-5), 2) := dk_16 251 (dk_at dksX0_gives_2 0 rfl rfl)
theorem dX0_gives_48 : decode cX0_gives 48 = .ok (.ireturn, 1) := dk_172 (dk_at dksX0_gives_2 2 rfl rfl)
theorem dX0_gives_49 : decode cX0_gives 49 = .ok (.aload_n 0, 1) := dk_42 (dk_at dksX0_gives_2 3 rfl rfl)
theorem dX0_gives_50 : decode cX0_gives 50 = .ok (.getfield 13, 3) := dk_180 0 13 (dk_at dksX0_gives_2 4 rfl rfl)
theorem dX0_gives_53 : decode cX0_gives 53 = .ok (.iload_n 1, 1) := dk_27 (dk_at dksX0_gives_2 7 rfl rfl)
theorem dX0_gives_54 : decode cX0_gives 54 = .ok (.aaload, 1) := dk_50 (dk_at dksX0_gives_2 8 rfl rfl)
theorem dX0_gives_55 : decode cX0_gives 55 = .ok (.dup, 1) := dk_89 (dk_at dksX0_gives_2 9 rfl rfl)
theorem dX0_gives_56 : decode cX0_gives 56 = .ok (.getfield 123, 3) := dk_180 0 123 (dk_at dksX0_gives_2 10 rfl rfl)
theorem dX0_gives_59 : decode cX0_gives 59 = .ok (.iload_n 3, 1) := dk_29 (dk_at dksX0_gives_2 13 rfl rfl)
theorem dX0_gives_60 : decode cX0_gives 60 = .ok (.isub, 1) := dk_100 (dk_at dksX0_gives_2 14 rfl rfl)
theorem dX0_gives_61 : decode cX0_gives 61 = .ok (.putfield 123, 3) := dk_181 0 123 (dk_at dksX0_gives_2 15 rfl rfl)
theorem dX0_gives_64 : decode cX0_gives 64 = .ok (.aload_n 0, 1) := dk_42 (dk_at dksX0_gives_2 18 rfl rfl)
theorem dX0_gives_65 : decode cX0_gives 65 = .ok (.getfield 13, 3) := dk_180 0 13 (dk_at dksX0_gives_2 19 rfl rfl)
theorem dX0_gives_68 : decode cX0_gives 68 = .ok (.iload_n 2, 1) := dk_28 (dk_at dksX0_gives_2 22 rfl rfl)
theorem dX0_gives_69 : decode cX0_gives 69 = .ok (.aaload, 1) := dk_50 (dk_at dksX0_gives_2 23 rfl rfl)
theorem dX0_gives_70 : decode cX0_gives 70 = .ok (.aload_n 0, 1) := dk_42 (dk_at dksX0_gives_3 0 rfl rfl)
theorem dX0_gives_71 : decode cX0_gives 71 = .ok (.getfield 13, 3) := dk_180 0 13 (dk_at dksX0_gives_3 1 rfl rfl)
theorem dX0_gives_74 : decode cX0_gives 74 = .ok (.iload_n 2, 1) := dk_28 (dk_at dksX0_gives_3 4 rfl rfl)
theorem dX0_gives_75 : decode cX0_gives 75 = .ok (.aaload, 1) := dk_50 (dk_at dksX0_gives_3 5 rfl rfl)
theorem dX0_gives_76 : decode cX0_gives 76 = .ok (.getfield 123, 3) := dk_180 0 123 (dk_at dksX0_gives_3 6 rfl rfl)
theorem dX0_gives_79 : decode cX0_gives 79 = .ok (.iload_n 3, 1) := dk_29 (dk_at dksX0_gives_3 9 rfl rfl)
theorem dX0_gives_80 : decode cX0_gives 80 = .ok (.iadd, 1) := dk_96 (dk_at dksX0_gives_3 10 rfl rfl)
theorem dX0_gives_81 : decode cX0_gives 81 = .ok (.invokestatic 261, 3) := dk_184 1 5 (dk_at dksX0_gives_3 11 rfl rfl)
theorem dX0_gives_84 : decode cX0_gives 84 = .ok (.putfield 123, 3) := dk_181 0 123 (dk_at dksX0_gives_3 14 rfl rfl)
theorem dX0_gives_87 : decode cX0_gives 87 = .ok (.aload_n 0, 1) := dk_42 (dk_at dksX0_gives_3 17 rfl rfl)
theorem dX0_gives_88 : decode cX0_gives 88 = .ok (.dup, 1) := dk_89 (dk_at dksX0_gives_3 18 rfl rfl)
theorem dX0_gives_89 : decode cX0_gives 89 = .ok (.getfield 381, 3) := dk_180 1 125 (dk_at dksX0_gives_3 19 rfl rfl)
theorem dX0_gives_92 : decode cX0_gives 92 = .ok (.iload_n 3, 1) := dk_29 (dk_at dksX0_gives_3 22 rfl rfl)
theorem dX0_gives_93 : decode cX0_gives 93 = .ok (.iadd, 1) := dk_96 (dk_at dksX0_gives_3 23 rfl rfl)
theorem dX0_gives_94 : decode cX0_gives 94 = .ok (.putfield 381, 3) := dk_181 1 125 (dk_at dksX0_gives_4 0 rfl rfl)
theorem dX0_gives_97 : decode cX0_gives 97 = .ok (.aload_n 0, 1) := dk_42 (dk_at dksX0_gives_4 3 rfl rfl)
theorem dX0_gives_98 : decode cX0_gives 98 = .ok (.getfield 13, 3) := dk_180 0 13 (dk_at dksX0_gives_4 4 rfl rfl)
theorem dX0_gives_101 : decode cX0_gives 101 = .ok (.iload_n 1, 1) := dk_27 (dk_at dksX0_gives_4 7 rfl rfl)
theorem dX0_gives_102 : decode cX0_gives 102 = .ok (.aaload, 1) := dk_50 (dk_at dksX0_gives_4 8 rfl rfl)
theorem dX0_gives_103 : decode cX0_gives 103 = .ok (.getfield 123, 3) := dk_180 0 123 (dk_at dksX0_gives_4 9 rfl rfl)
theorem dX0_gives_106 : decode cX0_gives 106 = .ok (.ireturn, 1) := dk_172 (dk_at dksX0_gives_4 12 rfl rfl)
abbrev cX0_led : ByteArray := prog_1_method_67_code
def yX0_led : MethodName := ⟨RX0, "led", "(I)I"⟩
def dkwX0_led_3 : List UInt8 := [172, 2, 172]
abbrev dktX0_led_3 : List UInt8 := dkwX0_led_3 ++ []
def dkwX0_led_2 : List UInt8 := [42, 180, 1, 113, 172, 42, 180, 1, 116, 172, 42, 180, 1, 122, 172, 42, 180, 1, 125, 172, 42, 180, 1, 119]
abbrev dktX0_led_2 : List UInt8 := dkwX0_led_2 ++ dktX0_led_3
def dkwX0_led_1 : List UInt8 := [170, 0, 0, 0, 0, 0, 60, 0, 0, 0, 0, 0, 0, 0, 4, 0, 0, 0, 35, 0, 0, 0, 40, 0, 0, 0, 45, 0, 0, 0, 50, 0, 0, 0, 55]
abbrev dktX0_led_1 : List UInt8 := dkwX0_led_1 ++ dktX0_led_2
def dkwX0_led_0 : List UInt8 := [27]
abbrev dktX0_led_0 : List UInt8 := dkwX0_led_0 ++ dktX0_led_1
theorem dksX0_led_0 : cX0_led.data.toList.drop 0 = dktX0_led_0 := by decide +kernel
theorem dksX0_led_1 : cX0_led.data.toList.drop 1 = dktX0_led_1 := dk_seg dksX0_led_0 1 rfl rfl
theorem dksX0_led_2 : cX0_led.data.toList.drop 36 = dktX0_led_2 := dk_seg dksX0_led_1 35 rfl rfl
theorem dksX0_led_3 : cX0_led.data.toList.drop 60 = dktX0_led_3 := dk_seg dksX0_led_2 24 rfl rfl
theorem dX0_led_0 : decode cX0_led 0 = .ok (.iload_n 1, 1) := dk_27 (dk_at dksX0_led_0 0 rfl rfl)
theorem dX0_led_1 : decode cX0_led 1 = .ok (.tableswitch 60 0 4 #[35, 40, 45, 50, 55], 35) := by decide +kernel
theorem dX0_led_36 : decode cX0_led 36 = .ok (.aload_n 0, 1) := dk_42 (dk_at dksX0_led_2 0 rfl rfl)
theorem dX0_led_37 : decode cX0_led 37 = .ok (.getfield 369, 3) := dk_180 1 113 (dk_at dksX0_led_2 1 rfl rfl)
theorem dX0_led_40 : decode cX0_led 40 = .ok (.ireturn, 1) := dk_172 (dk_at dksX0_led_2 4 rfl rfl)
theorem dX0_led_41 : decode cX0_led 41 = .ok (.aload_n 0, 1) := dk_42 (dk_at dksX0_led_2 5 rfl rfl)
theorem dX0_led_42 : decode cX0_led 42 = .ok (.getfield 372, 3) := dk_180 1 116 (dk_at dksX0_led_2 6 rfl rfl)
theorem dX0_led_45 : decode cX0_led 45 = .ok (.ireturn, 1) := dk_172 (dk_at dksX0_led_2 9 rfl rfl)
theorem dX0_led_46 : decode cX0_led 46 = .ok (.aload_n 0, 1) := dk_42 (dk_at dksX0_led_2 10 rfl rfl)
theorem dX0_led_47 : decode cX0_led 47 = .ok (.getfield 378, 3) := dk_180 1 122 (dk_at dksX0_led_2 11 rfl rfl)
theorem dX0_led_50 : decode cX0_led 50 = .ok (.ireturn, 1) := dk_172 (dk_at dksX0_led_2 14 rfl rfl)
theorem dX0_led_51 : decode cX0_led 51 = .ok (.aload_n 0, 1) := dk_42 (dk_at dksX0_led_2 15 rfl rfl)
theorem dX0_led_52 : decode cX0_led 52 = .ok (.getfield 381, 3) := dk_180 1 125 (dk_at dksX0_led_2 16 rfl rfl)
theorem dX0_led_55 : decode cX0_led 55 = .ok (.ireturn, 1) := dk_172 (dk_at dksX0_led_2 19 rfl rfl)
theorem dX0_led_56 : decode cX0_led 56 = .ok (.aload_n 0, 1) := dk_42 (dk_at dksX0_led_2 20 rfl rfl)
theorem dX0_led_57 : decode cX0_led 57 = .ok (.getfield 375, 3) := dk_180 1 119 (dk_at dksX0_led_2 21 rfl rfl)
theorem dX0_led_60 : decode cX0_led 60 = .ok (.ireturn, 1) := dk_172 (dk_at dksX0_led_3 0 rfl rfl)
theorem dX0_led_61 : decode cX0_led 61 = .ok (.iconst (-1), 1) := dk_2 (dk_at dksX0_led_3 1 rfl rfl)
theorem dX0_led_62 : decode cX0_led 62 = .ok (.ireturn, 1) := dk_172 (dk_at dksX0_led_3 2 rfl rfl)
abbrev cX0_image : ByteArray := prog_1_method_68_code
def yX0_image : MethodName := ⟨RX0, "image", "()I"⟩
def dkwX0_image_4 : List UInt8 := [181, 1, 147, 42, 42, 180, 1, 119, 181, 1, 150, 42, 180, 1, 113, 172]
abbrev dktX0_image_4 : List UInt8 := dkwX0_image_4 ++ []
def dkwX0_image_3 : List UInt8 := [181, 1, 138, 42, 42, 180, 1, 116, 181, 1, 141, 42, 42, 180, 1, 122, 181, 1, 144, 42, 42, 180, 1, 125]
abbrev dktX0_image_3 : List UInt8 := dkwX0_image_3 ++ dktX0_image_4
def dkwX0_image_2 : List UInt8 := [167, 255, 215, 42, 42, 180, 0, 85, 181, 1, 132, 42, 42, 180, 0, 129, 181, 1, 135, 42, 42, 180, 1, 113]
abbrev dktX0_image_2 : List UInt8 := dkwX0_image_2 ++ dktX0_image_3
def dkwX0_image_1 : List UInt8 := [27, 50, 180, 0, 123, 79, 42, 180, 0, 63, 27, 42, 180, 0, 13, 27, 50, 180, 0, 126, 79, 132, 1, 1]
abbrev dktX0_image_1 : List UInt8 := dkwX0_image_1 ++ dktX0_image_2
def dkwX0_image_0 : List UInt8 := [42, 4, 181, 1, 128, 3, 60, 27, 42, 180, 0, 85, 162, 0, 39, 42, 180, 0, 60, 27, 42, 180, 0, 13]
abbrev dktX0_image_0 : List UInt8 := dkwX0_image_0 ++ dktX0_image_1
theorem dksX0_image_0 : cX0_image.data.toList.drop 0 = dktX0_image_0 := by decide +kernel
theorem dksX0_image_1 : cX0_image.data.toList.drop 24 = dktX0_image_1 := dk_seg dksX0_image_0 24 rfl rfl
theorem dksX0_image_2 : cX0_image.data.toList.drop 48 = dktX0_image_2 := dk_seg dksX0_image_1 24 rfl rfl
theorem dksX0_image_3 : cX0_image.data.toList.drop 72 = dktX0_image_3 := dk_seg dksX0_image_2 24 rfl rfl
theorem dksX0_image_4 : cX0_image.data.toList.drop 96 = dktX0_image_4 := dk_seg dksX0_image_3 24 rfl rfl
theorem dX0_image_0 : decode cX0_image 0 = .ok (.aload_n 0, 1) := dk_42 (dk_at dksX0_image_0 0 rfl rfl)
theorem dX0_image_1 : decode cX0_image 1 = .ok (.iconst 1, 1) := dk_4 (dk_at dksX0_image_0 1 rfl rfl)
theorem dX0_image_2 : decode cX0_image 2 = .ok (.putfield 384, 3) := dk_181 1 128 (dk_at dksX0_image_0 2 rfl rfl)
theorem dX0_image_5 : decode cX0_image 5 = .ok (.iconst 0, 1) := dk_3 (dk_at dksX0_image_0 5 rfl rfl)
theorem dX0_image_6 : decode cX0_image 6 = .ok (.istore_n 1, 1) := dk_60 (dk_at dksX0_image_0 6 rfl rfl)
theorem dX0_image_7 : decode cX0_image 7 = .ok (.iload_n 1, 1) := dk_27 (dk_at dksX0_image_0 7 rfl rfl)
theorem dX0_image_8 : decode cX0_image 8 = .ok (.aload_n 0, 1) := dk_42 (dk_at dksX0_image_0 8 rfl rfl)
theorem dX0_image_9 : decode cX0_image 9 = .ok (.getfield 85, 3) := dk_180 0 85 (dk_at dksX0_image_0 9 rfl rfl)
theorem dX0_image_12 : decode cX0_image 12 = .ok (.if_icmp .ge 39, 3) := dk_162 0 39 (dk_at dksX0_image_0 12 rfl rfl)
theorem dX0_image_15 : decode cX0_image 15 = .ok (.aload_n 0, 1) := dk_42 (dk_at dksX0_image_0 15 rfl rfl)
theorem dX0_image_16 : decode cX0_image 16 = .ok (.getfield 60, 3) := dk_180 0 60 (dk_at dksX0_image_0 16 rfl rfl)
theorem dX0_image_19 : decode cX0_image 19 = .ok (.iload_n 1, 1) := dk_27 (dk_at dksX0_image_0 19 rfl rfl)
theorem dX0_image_20 : decode cX0_image 20 = .ok (.aload_n 0, 1) := dk_42 (dk_at dksX0_image_0 20 rfl rfl)
theorem dX0_image_21 : decode cX0_image 21 = .ok (.getfield 13, 3) := dk_180 0 13 (dk_at dksX0_image_0 21 rfl rfl)
theorem dX0_image_24 : decode cX0_image 24 = .ok (.iload_n 1, 1) := dk_27 (dk_at dksX0_image_1 0 rfl rfl)
theorem dX0_image_25 : decode cX0_image 25 = .ok (.aaload, 1) := dk_50 (dk_at dksX0_image_1 1 rfl rfl)
theorem dX0_image_26 : decode cX0_image 26 = .ok (.getfield 123, 3) := dk_180 0 123 (dk_at dksX0_image_1 2 rfl rfl)
theorem dX0_image_29 : decode cX0_image 29 = .ok (.iastore, 1) := dk_79 (dk_at dksX0_image_1 5 rfl rfl)
theorem dX0_image_30 : decode cX0_image 30 = .ok (.aload_n 0, 1) := dk_42 (dk_at dksX0_image_1 6 rfl rfl)
theorem dX0_image_31 : decode cX0_image 31 = .ok (.getfield 63, 3) := dk_180 0 63 (dk_at dksX0_image_1 7 rfl rfl)
theorem dX0_image_34 : decode cX0_image 34 = .ok (.iload_n 1, 1) := dk_27 (dk_at dksX0_image_1 10 rfl rfl)
theorem dX0_image_35 : decode cX0_image 35 = .ok (.aload_n 0, 1) := dk_42 (dk_at dksX0_image_1 11 rfl rfl)
theorem dX0_image_36 : decode cX0_image 36 = .ok (.getfield 13, 3) := dk_180 0 13 (dk_at dksX0_image_1 12 rfl rfl)
theorem dX0_image_39 : decode cX0_image 39 = .ok (.iload_n 1, 1) := dk_27 (dk_at dksX0_image_1 15 rfl rfl)
theorem dX0_image_40 : decode cX0_image 40 = .ok (.aaload, 1) := dk_50 (dk_at dksX0_image_1 16 rfl rfl)
theorem dX0_image_41 : decode cX0_image 41 = .ok (.getfield 126, 3) := dk_180 0 126 (dk_at dksX0_image_1 17 rfl rfl)
theorem dX0_image_44 : decode cX0_image 44 = .ok (.iastore, 1) := dk_79 (dk_at dksX0_image_1 20 rfl rfl)
theorem dX0_image_45 : decode cX0_image 45 = .ok (.iinc 1 1, 3) := dk_132 1 1 (dk_at dksX0_image_1 21 rfl rfl)
theorem dX0_image_48 : decode cX0_image 48 = .ok (.goto (-41), 3) := dk_167 255 215 (dk_at dksX0_image_2 0 rfl rfl)
theorem dX0_image_51 : decode cX0_image 51 = .ok (.aload_n 0, 1) := dk_42 (dk_at dksX0_image_2 3 rfl rfl)
theorem dX0_image_52 : decode cX0_image 52 = .ok (.aload_n 0, 1) := dk_42 (dk_at dksX0_image_2 4 rfl rfl)
theorem dX0_image_53 : decode cX0_image 53 = .ok (.getfield 85, 3) := dk_180 0 85 (dk_at dksX0_image_2 5 rfl rfl)
theorem dX0_image_56 : decode cX0_image 56 = .ok (.putfield 388, 3) := dk_181 1 132 (dk_at dksX0_image_2 8 rfl rfl)
theorem dX0_image_59 : decode cX0_image 59 = .ok (.aload_n 0, 1) := dk_42 (dk_at dksX0_image_2 11 rfl rfl)
theorem dX0_image_60 : decode cX0_image 60 = .ok (.aload_n 0, 1) := dk_42 (dk_at dksX0_image_2 12 rfl rfl)
theorem dX0_image_61 : decode cX0_image 61 = .ok (.getfield 129, 3) := dk_180 0 129 (dk_at dksX0_image_2 13 rfl rfl)
theorem dX0_image_64 : decode cX0_image 64 = .ok (.putfield 391, 3) := dk_181 1 135 (dk_at dksX0_image_2 16 rfl rfl)
theorem dX0_image_67 : decode cX0_image 67 = .ok (.aload_n 0, 1) := dk_42 (dk_at dksX0_image_2 19 rfl rfl)
theorem dX0_image_68 : decode cX0_image 68 = .ok (.aload_n 0, 1) := dk_42 (dk_at dksX0_image_2 20 rfl rfl)
theorem dX0_image_69 : decode cX0_image 69 = .ok (.getfield 369, 3) := dk_180 1 113 (dk_at dksX0_image_2 21 rfl rfl)
theorem dX0_image_72 : decode cX0_image 72 = .ok (.putfield 394, 3) := dk_181 1 138 (dk_at dksX0_image_3 0 rfl rfl)
theorem dX0_image_75 : decode cX0_image 75 = .ok (.aload_n 0, 1) := dk_42 (dk_at dksX0_image_3 3 rfl rfl)
theorem dX0_image_76 : decode cX0_image 76 = .ok (.aload_n 0, 1) := dk_42 (dk_at dksX0_image_3 4 rfl rfl)
theorem dX0_image_77 : decode cX0_image 77 = .ok (.getfield 372, 3) := dk_180 1 116 (dk_at dksX0_image_3 5 rfl rfl)
theorem dX0_image_80 : decode cX0_image 80 = .ok (.putfield 397, 3) := dk_181 1 141 (dk_at dksX0_image_3 8 rfl rfl)
theorem dX0_image_83 : decode cX0_image 83 = .ok (.aload_n 0, 1) := dk_42 (dk_at dksX0_image_3 11 rfl rfl)
theorem dX0_image_84 : decode cX0_image 84 = .ok (.aload_n 0, 1) := dk_42 (dk_at dksX0_image_3 12 rfl rfl)
theorem dX0_image_85 : decode cX0_image 85 = .ok (.getfield 378, 3) := dk_180 1 122 (dk_at dksX0_image_3 13 rfl rfl)
theorem dX0_image_88 : decode cX0_image 88 = .ok (.putfield 400, 3) := dk_181 1 144 (dk_at dksX0_image_3 16 rfl rfl)
theorem dX0_image_91 : decode cX0_image 91 = .ok (.aload_n 0, 1) := dk_42 (dk_at dksX0_image_3 19 rfl rfl)
theorem dX0_image_92 : decode cX0_image 92 = .ok (.aload_n 0, 1) := dk_42 (dk_at dksX0_image_3 20 rfl rfl)
theorem dX0_image_93 : decode cX0_image 93 = .ok (.getfield 381, 3) := dk_180 1 125 (dk_at dksX0_image_3 21 rfl rfl)
theorem dX0_image_96 : decode cX0_image 96 = .ok (.putfield 403, 3) := dk_181 1 147 (dk_at dksX0_image_4 0 rfl rfl)
theorem dX0_image_99 : decode cX0_image 99 = .ok (.aload_n 0, 1) := dk_42 (dk_at dksX0_image_4 3 rfl rfl)
theorem dX0_image_100 : decode cX0_image 100 = .ok (.aload_n 0, 1) := dk_42 (dk_at dksX0_image_4 4 rfl rfl)
theorem dX0_image_101 : decode cX0_image 101 = .ok (.getfield 375, 3) := dk_180 1 119 (dk_at dksX0_image_4 5 rfl rfl)
theorem dX0_image_104 : decode cX0_image 104 = .ok (.putfield 406, 3) := dk_181 1 150 (dk_at dksX0_image_4 8 rfl rfl)
theorem dX0_image_107 : decode cX0_image 107 = .ok (.aload_n 0, 1) := dk_42 (dk_at dksX0_image_4 11 rfl rfl)
theorem dX0_image_108 : decode cX0_image 108 = .ok (.getfield 369, 3) := dk_180 1 113 (dk_at dksX0_image_4 12 rfl rfl)
theorem dX0_image_111 : decode cX0_image 111 = .ok (.ireturn, 1) := dk_172 (dk_at dksX0_image_4 15 rfl rfl)
abbrev cX0_back : ByteArray := prog_1_method_69_code
def yX0_back : MethodName := ⟨RX0, "back", "()I"⟩
def dkwX0_back_4 : List UInt8 := [181, 1, 125, 42, 42, 180, 1, 150, 181, 1, 119, 42, 180, 1, 113, 172]
abbrev dktX0_back_4 : List UInt8 := dkwX0_back_4 ++ []
def dkwX0_back_3 : List UInt8 := [181, 1, 113, 42, 42, 180, 1, 141, 181, 1, 116, 42, 42, 180, 1, 144, 181, 1, 122, 42, 42, 180, 1, 147]
abbrev dktX0_back_3 : List UInt8 := dkwX0_back_3 ++ dktX0_back_4
def dkwX0_back_2 : List UInt8 := [181, 0, 126, 132, 1, 1, 167, 255, 215, 42, 42, 180, 1, 135, 181, 0, 129, 42, 42, 180, 1, 138]
abbrev dktX0_back_2 : List UInt8 := dkwX0_back_2 ++ dktX0_back_3
def dkwX0_back_1 : List UInt8 := [27, 50, 42, 180, 0, 60, 27, 46, 181, 0, 123, 42, 180, 0, 13, 27, 50, 42, 180, 0, 63, 27, 46]
abbrev dktX0_back_1 : List UInt8 := dkwX0_back_1 ++ dktX0_back_2
def dkwX0_back_0 : List UInt8 := [42, 180, 1, 128, 154, 0, 6, 16, 251, 172, 3, 60, 27, 42, 180, 1, 132, 162, 0, 39, 42, 180, 0, 13]
abbrev dktX0_back_0 : List UInt8 := dkwX0_back_0 ++ dktX0_back_1
theorem dksX0_back_0 : cX0_back.data.toList.drop 0 = dktX0_back_0 := by decide +kernel
theorem dksX0_back_1 : cX0_back.data.toList.drop 24 = dktX0_back_1 := dk_seg dksX0_back_0 24 rfl rfl
theorem dksX0_back_2 : cX0_back.data.toList.drop 47 = dktX0_back_2 := dk_seg dksX0_back_1 23 rfl rfl
theorem dksX0_back_3 : cX0_back.data.toList.drop 69 = dktX0_back_3 := dk_seg dksX0_back_2 22 rfl rfl
theorem dksX0_back_4 : cX0_back.data.toList.drop 93 = dktX0_back_4 := dk_seg dksX0_back_3 24 rfl rfl
theorem dX0_back_0 : decode cX0_back 0 = .ok (.aload_n 0, 1) := dk_42 (dk_at dksX0_back_0 0 rfl rfl)
theorem dX0_back_1 : decode cX0_back 1 = .ok (.getfield 384, 3) := dk_180 1 128 (dk_at dksX0_back_0 1 rfl rfl)
theorem dX0_back_4 : decode cX0_back 4 = .ok (.ifCond .ne 6, 3) := dk_154 0 6 (dk_at dksX0_back_0 4 rfl rfl)
theorem dX0_back_7 : decode cX0_back 7 = .ok (.bipush (-5), 2) := dk_16 251 (dk_at dksX0_back_0 7 rfl rfl)
theorem dX0_back_9 : decode cX0_back 9 = .ok (.ireturn, 1) := dk_172 (dk_at dksX0_back_0 9 rfl rfl)
theorem dX0_back_10 : decode cX0_back 10 = .ok (.iconst 0, 1) := dk_3 (dk_at dksX0_back_0 10 rfl rfl)
theorem dX0_back_11 : decode cX0_back 11 = .ok (.istore_n 1, 1) := dk_60 (dk_at dksX0_back_0 11 rfl rfl)
theorem dX0_back_12 : decode cX0_back 12 = .ok (.iload_n 1, 1) := dk_27 (dk_at dksX0_back_0 12 rfl rfl)
theorem dX0_back_13 : decode cX0_back 13 = .ok (.aload_n 0, 1) := dk_42 (dk_at dksX0_back_0 13 rfl rfl)
theorem dX0_back_14 : decode cX0_back 14 = .ok (.getfield 388, 3) := dk_180 1 132 (dk_at dksX0_back_0 14 rfl rfl)
theorem dX0_back_17 : decode cX0_back 17 = .ok (.if_icmp .ge 39, 3) := dk_162 0 39 (dk_at dksX0_back_0 17 rfl rfl)
theorem dX0_back_20 : decode cX0_back 20 = .ok (.aload_n 0, 1) := dk_42 (dk_at dksX0_back_0 20 rfl rfl)
theorem dX0_back_21 : decode cX0_back 21 = .ok (.getfield 13, 3) := dk_180 0 13 (dk_at dksX0_back_0 21 rfl rfl)
theorem dX0_back_24 : decode cX0_back 24 = .ok (.iload_n 1, 1) := dk_27 (dk_at dksX0_back_1 0 rfl rfl)
theorem dX0_back_25 : decode cX0_back 25 = .ok (.aaload, 1) := dk_50 (dk_at dksX0_back_1 1 rfl rfl)
theorem dX0_back_26 : decode cX0_back 26 = .ok (.aload_n 0, 1) := dk_42 (dk_at dksX0_back_1 2 rfl rfl)
theorem dX0_back_27 : decode cX0_back 27 = .ok (.getfield 60, 3) := dk_180 0 60 (dk_at dksX0_back_1 3 rfl rfl)
theorem dX0_back_30 : decode cX0_back 30 = .ok (.iload_n 1, 1) := dk_27 (dk_at dksX0_back_1 6 rfl rfl)
theorem dX0_back_31 : decode cX0_back 31 = .ok (.iaload, 1) := dk_46 (dk_at dksX0_back_1 7 rfl rfl)
theorem dX0_back_32 : decode cX0_back 32 = .ok (.putfield 123, 3) := dk_181 0 123 (dk_at dksX0_back_1 8 rfl rfl)
theorem dX0_back_35 : decode cX0_back 35 = .ok (.aload_n 0, 1) := dk_42 (dk_at dksX0_back_1 11 rfl rfl)
theorem dX0_back_36 : decode cX0_back 36 = .ok (.getfield 13, 3) := dk_180 0 13 (dk_at dksX0_back_1 12 rfl rfl)
theorem dX0_back_39 : decode cX0_back 39 = .ok (.iload_n 1, 1) := dk_27 (dk_at dksX0_back_1 15 rfl rfl)
theorem dX0_back_40 : decode cX0_back 40 = .ok (.aaload, 1) := dk_50 (dk_at dksX0_back_1 16 rfl rfl)
theorem dX0_back_41 : decode cX0_back 41 = .ok (.aload_n 0, 1) := dk_42 (dk_at dksX0_back_1 17 rfl rfl)
theorem dX0_back_42 : decode cX0_back 42 = .ok (.getfield 63, 3) := dk_180 0 63 (dk_at dksX0_back_1 18 rfl rfl)
theorem dX0_back_45 : decode cX0_back 45 = .ok (.iload_n 1, 1) := dk_27 (dk_at dksX0_back_1 21 rfl rfl)
theorem dX0_back_46 : decode cX0_back 46 = .ok (.iaload, 1) := dk_46 (dk_at dksX0_back_1 22 rfl rfl)
theorem dX0_back_47 : decode cX0_back 47 = .ok (.putfield 126, 3) := dk_181 0 126 (dk_at dksX0_back_2 0 rfl rfl)
theorem dX0_back_50 : decode cX0_back 50 = .ok (.iinc 1 1, 3) := dk_132 1 1 (dk_at dksX0_back_2 3 rfl rfl)
theorem dX0_back_53 : decode cX0_back 53 = .ok (.goto (-41), 3) := dk_167 255 215 (dk_at dksX0_back_2 6 rfl rfl)
theorem dX0_back_56 : decode cX0_back 56 = .ok (.aload_n 0, 1) := dk_42 (dk_at dksX0_back_2 9 rfl rfl)
theorem dX0_back_57 : decode cX0_back 57 = .ok (.aload_n 0, 1) := dk_42 (dk_at dksX0_back_2 10 rfl rfl)
theorem dX0_back_58 : decode cX0_back 58 = .ok (.getfield 391, 3) := dk_180 1 135 (dk_at dksX0_back_2 11 rfl rfl)
theorem dX0_back_61 : decode cX0_back 61 = .ok (.putfield 129, 3) := dk_181 0 129 (dk_at dksX0_back_2 14 rfl rfl)
theorem dX0_back_64 : decode cX0_back 64 = .ok (.aload_n 0, 1) := dk_42 (dk_at dksX0_back_2 17 rfl rfl)
theorem dX0_back_65 : decode cX0_back 65 = .ok (.aload_n 0, 1) := dk_42 (dk_at dksX0_back_2 18 rfl rfl)
theorem dX0_back_66 : decode cX0_back 66 = .ok (.getfield 394, 3) := dk_180 1 138 (dk_at dksX0_back_2 19 rfl rfl)
theorem dX0_back_69 : decode cX0_back 69 = .ok (.putfield 369, 3) := dk_181 1 113 (dk_at dksX0_back_3 0 rfl rfl)
theorem dX0_back_72 : decode cX0_back 72 = .ok (.aload_n 0, 1) := dk_42 (dk_at dksX0_back_3 3 rfl rfl)
theorem dX0_back_73 : decode cX0_back 73 = .ok (.aload_n 0, 1) := dk_42 (dk_at dksX0_back_3 4 rfl rfl)
theorem dX0_back_74 : decode cX0_back 74 = .ok (.getfield 397, 3) := dk_180 1 141 (dk_at dksX0_back_3 5 rfl rfl)
theorem dX0_back_77 : decode cX0_back 77 = .ok (.putfield 372, 3) := dk_181 1 116 (dk_at dksX0_back_3 8 rfl rfl)
theorem dX0_back_80 : decode cX0_back 80 = .ok (.aload_n 0, 1) := dk_42 (dk_at dksX0_back_3 11 rfl rfl)
theorem dX0_back_81 : decode cX0_back 81 = .ok (.aload_n 0, 1) := dk_42 (dk_at dksX0_back_3 12 rfl rfl)
theorem dX0_back_82 : decode cX0_back 82 = .ok (.getfield 400, 3) := dk_180 1 144 (dk_at dksX0_back_3 13 rfl rfl)
theorem dX0_back_85 : decode cX0_back 85 = .ok (.putfield 378, 3) := dk_181 1 122 (dk_at dksX0_back_3 16 rfl rfl)
theorem dX0_back_88 : decode cX0_back 88 = .ok (.aload_n 0, 1) := dk_42 (dk_at dksX0_back_3 19 rfl rfl)
theorem dX0_back_89 : decode cX0_back 89 = .ok (.aload_n 0, 1) := dk_42 (dk_at dksX0_back_3 20 rfl rfl)
theorem dX0_back_90 : decode cX0_back 90 = .ok (.getfield 403, 3) := dk_180 1 147 (dk_at dksX0_back_3 21 rfl rfl)
theorem dX0_back_93 : decode cX0_back 93 = .ok (.putfield 381, 3) := dk_181 1 125 (dk_at dksX0_back_4 0 rfl rfl)
theorem dX0_back_96 : decode cX0_back 96 = .ok (.aload_n 0, 1) := dk_42 (dk_at dksX0_back_4 3 rfl rfl)
theorem dX0_back_97 : decode cX0_back 97 = .ok (.aload_n 0, 1) := dk_42 (dk_at dksX0_back_4 4 rfl rfl)
theorem dX0_back_98 : decode cX0_back 98 = .ok (.getfield 406, 3) := dk_180 1 150 (dk_at dksX0_back_4 5 rfl rfl)
theorem dX0_back_101 : decode cX0_back 101 = .ok (.putfield 375, 3) := dk_181 1 119 (dk_at dksX0_back_4 8 rfl rfl)
theorem dX0_back_104 : decode cX0_back 104 = .ok (.aload_n 0, 1) := dk_42 (dk_at dksX0_back_4 11 rfl rfl)
theorem dX0_back_105 : decode cX0_back 105 = .ok (.getfield 369, 3) := dk_180 1 113 (dk_at dksX0_back_4 12 rfl rfl)
theorem dX0_back_108 : decode cX0_back 108 = .ok (.ireturn, 1) := dk_172 (dk_at dksX0_back_4 15 rfl rfl)
abbrev cX0_body : ByteArray := prog_1_method_74_code
def yX0_body : MethodName := ⟨RX0, "body", "(I)I"⟩
def dkwX0_body_2 : List UInt8 := [42, 180, 1, 156, 4, 100, 172]
abbrev dktX0_body_2 : List UInt8 := dkwX0_body_2 ++ []
def dkwX0_body_1 : List UInt8 := [42, 180, 0, 71, 42, 180, 1, 156, 42, 27, 182, 1, 183, 83, 42, 89, 180, 1, 156, 4, 96, 181, 1, 156]
abbrev dktX0_body_1 : List UInt8 := dkwX0_body_1 ++ dktX0_body_2
def dkwX0_body_0 : List UInt8 := [27, 3, 16, 7, 184, 0, 81, 154, 0, 5, 2, 172, 42, 180, 1, 156, 16, 50, 160, 0, 6, 16, 253, 172]
abbrev dktX0_body_0 : List UInt8 := dkwX0_body_0 ++ dktX0_body_1
theorem dksX0_body_0 : cX0_body.data.toList.drop 0 = dktX0_body_0 := by decide +kernel
theorem dksX0_body_1 : cX0_body.data.toList.drop 24 = dktX0_body_1 := dk_seg dksX0_body_0 24 rfl rfl
theorem dksX0_body_2 : cX0_body.data.toList.drop 48 = dktX0_body_2 := dk_seg dksX0_body_1 24 rfl rfl
theorem dX0_body_0 : decode cX0_body 0 = .ok (.iload_n 1, 1) := dk_27 (dk_at dksX0_body_0 0 rfl rfl)
theorem dX0_body_1 : decode cX0_body 1 = .ok (.iconst 0, 1) := dk_3 (dk_at dksX0_body_0 1 rfl rfl)
theorem dX0_body_2 : decode cX0_body 2 = .ok (.bipush 7, 2) := dk_16 7 (dk_at dksX0_body_0 2 rfl rfl)
theorem dX0_body_4 : decode cX0_body 4 = .ok (.invokestatic 81, 3) := dk_184 0 81 (dk_at dksX0_body_0 4 rfl rfl)
theorem dX0_body_7 : decode cX0_body 7 = .ok (.ifCond .ne 5, 3) := dk_154 0 5 (dk_at dksX0_body_0 7 rfl rfl)
theorem dX0_body_10 : decode cX0_body 10 = .ok (.iconst (-1), 1) := dk_2 (dk_at dksX0_body_0 10 rfl rfl)
theorem dX0_body_11 : decode cX0_body 11 = .ok (.ireturn, 1) := dk_172 (dk_at dksX0_body_0 11 rfl rfl)
theorem dX0_body_12 : decode cX0_body 12 = .ok (.aload_n 0, 1) := dk_42 (dk_at dksX0_body_0 12 rfl rfl)
theorem dX0_body_13 : decode cX0_body 13 = .ok (.getfield 412, 3) := dk_180 1 156 (dk_at dksX0_body_0 13 rfl rfl)
theorem dX0_body_16 : decode cX0_body 16 = .ok (.bipush 50, 2) := dk_16 50 (dk_at dksX0_body_0 16 rfl rfl)
theorem dX0_body_18 : decode cX0_body 18 = .ok (.if_icmp .ne 6, 3) := dk_160 0 6 (dk_at dksX0_body_0 18 rfl rfl)
theorem dX0_body_21 : decode cX0_body 21 = .ok (.bipush (-3), 2) := dk_16 253 (dk_at dksX0_body_0 21 rfl rfl)
theorem dX0_body_23 : decode cX0_body 23 = .ok (.ireturn, 1) := dk_172 (dk_at dksX0_body_0 23 rfl rfl)
theorem dX0_body_24 : decode cX0_body 24 = .ok (.aload_n 0, 1) := dk_42 (dk_at dksX0_body_1 0 rfl rfl)
theorem dX0_body_25 : decode cX0_body 25 = .ok (.getfield 71, 3) := dk_180 0 71 (dk_at dksX0_body_1 1 rfl rfl)
theorem dX0_body_28 : decode cX0_body 28 = .ok (.aload_n 0, 1) := dk_42 (dk_at dksX0_body_1 4 rfl rfl)
theorem dX0_body_29 : decode cX0_body 29 = .ok (.getfield 412, 3) := dk_180 1 156 (dk_at dksX0_body_1 5 rfl rfl)
theorem dX0_body_32 : decode cX0_body 32 = .ok (.aload_n 0, 1) := dk_42 (dk_at dksX0_body_1 8 rfl rfl)
theorem dX0_body_33 : decode cX0_body 33 = .ok (.iload_n 1, 1) := dk_27 (dk_at dksX0_body_1 9 rfl rfl)
theorem dX0_body_34 : decode cX0_body 34 = .ok (.invokevirtual 439, 3) := dk_182 1 183 (dk_at dksX0_body_1 10 rfl rfl)
theorem dX0_body_37 : decode cX0_body 37 = .ok (.aastore, 1) := dk_83 (dk_at dksX0_body_1 13 rfl rfl)
theorem dX0_body_38 : decode cX0_body 38 = .ok (.aload_n 0, 1) := dk_42 (dk_at dksX0_body_1 14 rfl rfl)
theorem dX0_body_39 : decode cX0_body 39 = .ok (.dup, 1) := dk_89 (dk_at dksX0_body_1 15 rfl rfl)
theorem dX0_body_40 : decode cX0_body 40 = .ok (.getfield 412, 3) := dk_180 1 156 (dk_at dksX0_body_1 16 rfl rfl)
theorem dX0_body_43 : decode cX0_body 43 = .ok (.iconst 1, 1) := dk_4 (dk_at dksX0_body_1 19 rfl rfl)
theorem dX0_body_44 : decode cX0_body 44 = .ok (.iadd, 1) := dk_96 (dk_at dksX0_body_1 20 rfl rfl)
theorem dX0_body_45 : decode cX0_body 45 = .ok (.putfield 412, 3) := dk_181 1 156 (dk_at dksX0_body_1 21 rfl rfl)
theorem dX0_body_48 : decode cX0_body 48 = .ok (.aload_n 0, 1) := dk_42 (dk_at dksX0_body_2 0 rfl rfl)
theorem dX0_body_49 : decode cX0_body 49 = .ok (.getfield 412, 3) := dk_180 1 156 (dk_at dksX0_body_2 1 rfl rfl)
theorem dX0_body_52 : decode cX0_body 52 = .ok (.iconst 1, 1) := dk_4 (dk_at dksX0_body_2 4 rfl rfl)
theorem dX0_body_53 : decode cX0_body 53 = .ok (.isub, 1) := dk_100 (dk_at dksX0_body_2 5 rfl rfl)
theorem dX0_body_54 : decode cX0_body 54 = .ok (.ireturn, 1) := dk_172 (dk_at dksX0_body_2 6 rfl rfl)
abbrev cX0_made : ByteArray := prog_1_method_73_code
def yX0_made : MethodName := ⟨RX0, "made", "(I)LShieldLine$Shield;"⟩
def dkwX0_made_6 : List UInt8 := [187, 0, 69, 89, 42, 42, 180, 1, 156, 183, 1, 182, 176]
abbrev dktX0_made_6 : List UInt8 := dkwX0_made_6 ++ []
def dkwX0_made_5 : List UInt8 := [42, 42, 180, 1, 156, 183, 1, 178, 176, 187, 1, 179, 89, 42, 42, 180, 1, 156, 183, 1, 181, 176]
abbrev dktX0_made_5 : List UInt8 := dkwX0_made_5 ++ dktX0_made_6
def dkwX0_made_4 : List UInt8 := [180, 1, 156, 183, 1, 172, 176, 187, 1, 173, 89, 42, 42, 180, 1, 156, 183, 1, 175, 176, 187, 1, 176, 89]
abbrev dktX0_made_4 : List UInt8 := dkwX0_made_4 ++ dktX0_made_5
def dkwX0_made_3 : List UInt8 := [183, 1, 166, 176, 187, 1, 167, 89, 42, 42, 180, 1, 156, 183, 1, 169, 176, 187, 1, 170, 89, 42, 42]
abbrev dktX0_made_3 : List UInt8 := dkwX0_made_3 ++ dktX0_made_4
def dkwX0_made_2 : List UInt8 := [187, 1, 159, 89, 42, 42, 180, 1, 156, 183, 1, 161, 176, 187, 1, 164, 89, 42, 42, 180, 1, 156]
abbrev dktX0_made_2 : List UInt8 := dkwX0_made_2 ++ dktX0_made_3
def dkwX0_made_1 : List UInt8 := [170, 0, 0, 0, 0, 0, 134, 0, 0, 0, 1, 0, 0, 0, 7, 0, 0, 0, 43, 0, 0, 0, 56, 0, 0, 0, 69, 0, 0, 0, 82, 0, 0, 0, 95, 0, 0, 0, 108, 0, 0, 0, 121]
abbrev dktX0_made_1 : List UInt8 := dkwX0_made_1 ++ dktX0_made_2
def dkwX0_made_0 : List UInt8 := [27]
abbrev dktX0_made_0 : List UInt8 := dkwX0_made_0 ++ dktX0_made_1
theorem dksX0_made_0 : cX0_made.data.toList.drop 0 = dktX0_made_0 := by decide +kernel
theorem dksX0_made_1 : cX0_made.data.toList.drop 1 = dktX0_made_1 := dk_seg dksX0_made_0 1 rfl rfl
theorem dksX0_made_2 : cX0_made.data.toList.drop 44 = dktX0_made_2 := dk_seg dksX0_made_1 43 rfl rfl
theorem dksX0_made_3 : cX0_made.data.toList.drop 66 = dktX0_made_3 := dk_seg dksX0_made_2 22 rfl rfl
theorem dksX0_made_4 : cX0_made.data.toList.drop 89 = dktX0_made_4 := dk_seg dksX0_made_3 23 rfl rfl
theorem dksX0_made_5 : cX0_made.data.toList.drop 113 = dktX0_made_5 := dk_seg dksX0_made_4 24 rfl rfl
theorem dksX0_made_6 : cX0_made.data.toList.drop 135 = dktX0_made_6 := dk_seg dksX0_made_5 22 rfl rfl
theorem dX0_made_0 : decode cX0_made 0 = .ok (.iload_n 1, 1) := dk_27 (dk_at dksX0_made_0 0 rfl rfl)
theorem dX0_made_1 : decode cX0_made 1 = .ok (.tableswitch 134 1 7 #[43, 56, 69, 82, 95, 108, 121], 43) := by decide +kernel
theorem dX0_made_44 : decode cX0_made 44 = .ok (.new 415, 3) := dk_187 1 159 (dk_at dksX0_made_2 0 rfl rfl)
theorem dX0_made_47 : decode cX0_made 47 = .ok (.dup, 1) := dk_89 (dk_at dksX0_made_2 3 rfl rfl)
theorem dX0_made_48 : decode cX0_made 48 = .ok (.aload_n 0, 1) := dk_42 (dk_at dksX0_made_2 4 rfl rfl)
theorem dX0_made_49 : decode cX0_made 49 = .ok (.aload_n 0, 1) := dk_42 (dk_at dksX0_made_2 5 rfl rfl)
theorem dX0_made_50 : decode cX0_made 50 = .ok (.getfield 412, 3) := dk_180 1 156 (dk_at dksX0_made_2 6 rfl rfl)
theorem dX0_made_53 : decode cX0_made 53 = .ok (.invokespecial 417, 3) := dk_183 1 161 (dk_at dksX0_made_2 9 rfl rfl)
theorem dX0_made_56 : decode cX0_made 56 = .ok (.areturn, 1) := dk_176 (dk_at dksX0_made_2 12 rfl rfl)
theorem dX0_made_57 : decode cX0_made 57 = .ok (.new 420, 3) := dk_187 1 164 (dk_at dksX0_made_2 13 rfl rfl)
theorem dX0_made_60 : decode cX0_made 60 = .ok (.dup, 1) := dk_89 (dk_at dksX0_made_2 16 rfl rfl)
theorem dX0_made_61 : decode cX0_made 61 = .ok (.aload_n 0, 1) := dk_42 (dk_at dksX0_made_2 17 rfl rfl)
theorem dX0_made_62 : decode cX0_made 62 = .ok (.aload_n 0, 1) := dk_42 (dk_at dksX0_made_2 18 rfl rfl)
theorem dX0_made_63 : decode cX0_made 63 = .ok (.getfield 412, 3) := dk_180 1 156 (dk_at dksX0_made_2 19 rfl rfl)
theorem dX0_made_66 : decode cX0_made 66 = .ok (.invokespecial 422, 3) := dk_183 1 166 (dk_at dksX0_made_3 0 rfl rfl)
theorem dX0_made_69 : decode cX0_made 69 = .ok (.areturn, 1) := dk_176 (dk_at dksX0_made_3 3 rfl rfl)
theorem dX0_made_70 : decode cX0_made 70 = .ok (.new 423, 3) := dk_187 1 167 (dk_at dksX0_made_3 4 rfl rfl)
theorem dX0_made_73 : decode cX0_made 73 = .ok (.dup, 1) := dk_89 (dk_at dksX0_made_3 7 rfl rfl)
theorem dX0_made_74 : decode cX0_made 74 = .ok (.aload_n 0, 1) := dk_42 (dk_at dksX0_made_3 8 rfl rfl)
theorem dX0_made_75 : decode cX0_made 75 = .ok (.aload_n 0, 1) := dk_42 (dk_at dksX0_made_3 9 rfl rfl)
theorem dX0_made_76 : decode cX0_made 76 = .ok (.getfield 412, 3) := dk_180 1 156 (dk_at dksX0_made_3 10 rfl rfl)
theorem dX0_made_79 : decode cX0_made 79 = .ok (.invokespecial 425, 3) := dk_183 1 169 (dk_at dksX0_made_3 13 rfl rfl)
theorem dX0_made_82 : decode cX0_made 82 = .ok (.areturn, 1) := dk_176 (dk_at dksX0_made_3 16 rfl rfl)
theorem dX0_made_83 : decode cX0_made 83 = .ok (.new 426, 3) := dk_187 1 170 (dk_at dksX0_made_3 17 rfl rfl)
theorem dX0_made_86 : decode cX0_made 86 = .ok (.dup, 1) := dk_89 (dk_at dksX0_made_3 20 rfl rfl)
theorem dX0_made_87 : decode cX0_made 87 = .ok (.aload_n 0, 1) := dk_42 (dk_at dksX0_made_3 21 rfl rfl)
theorem dX0_made_88 : decode cX0_made 88 = .ok (.aload_n 0, 1) := dk_42 (dk_at dksX0_made_3 22 rfl rfl)
theorem dX0_made_89 : decode cX0_made 89 = .ok (.getfield 412, 3) := dk_180 1 156 (dk_at dksX0_made_4 0 rfl rfl)
theorem dX0_made_92 : decode cX0_made 92 = .ok (.invokespecial 428, 3) := dk_183 1 172 (dk_at dksX0_made_4 3 rfl rfl)
theorem dX0_made_95 : decode cX0_made 95 = .ok (.areturn, 1) := dk_176 (dk_at dksX0_made_4 6 rfl rfl)
theorem dX0_made_96 : decode cX0_made 96 = .ok (.new 429, 3) := dk_187 1 173 (dk_at dksX0_made_4 7 rfl rfl)
theorem dX0_made_99 : decode cX0_made 99 = .ok (.dup, 1) := dk_89 (dk_at dksX0_made_4 10 rfl rfl)
theorem dX0_made_100 : decode cX0_made 100 = .ok (.aload_n 0, 1) := dk_42 (dk_at dksX0_made_4 11 rfl rfl)
theorem dX0_made_101 : decode cX0_made 101 = .ok (.aload_n 0, 1) := dk_42 (dk_at dksX0_made_4 12 rfl rfl)
theorem dX0_made_102 : decode cX0_made 102 = .ok (.getfield 412, 3) := dk_180 1 156 (dk_at dksX0_made_4 13 rfl rfl)
theorem dX0_made_105 : decode cX0_made 105 = .ok (.invokespecial 431, 3) := dk_183 1 175 (dk_at dksX0_made_4 16 rfl rfl)
theorem dX0_made_108 : decode cX0_made 108 = .ok (.areturn, 1) := dk_176 (dk_at dksX0_made_4 19 rfl rfl)
theorem dX0_made_109 : decode cX0_made 109 = .ok (.new 432, 3) := dk_187 1 176 (dk_at dksX0_made_4 20 rfl rfl)
theorem dX0_made_112 : decode cX0_made 112 = .ok (.dup, 1) := dk_89 (dk_at dksX0_made_4 23 rfl rfl)
theorem dX0_made_113 : decode cX0_made 113 = .ok (.aload_n 0, 1) := dk_42 (dk_at dksX0_made_5 0 rfl rfl)
theorem dX0_made_114 : decode cX0_made 114 = .ok (.aload_n 0, 1) := dk_42 (dk_at dksX0_made_5 1 rfl rfl)
theorem dX0_made_115 : decode cX0_made 115 = .ok (.getfield 412, 3) := dk_180 1 156 (dk_at dksX0_made_5 2 rfl rfl)
theorem dX0_made_118 : decode cX0_made 118 = .ok (.invokespecial 434, 3) := dk_183 1 178 (dk_at dksX0_made_5 5 rfl rfl)
theorem dX0_made_121 : decode cX0_made 121 = .ok (.areturn, 1) := dk_176 (dk_at dksX0_made_5 8 rfl rfl)
theorem dX0_made_122 : decode cX0_made 122 = .ok (.new 435, 3) := dk_187 1 179 (dk_at dksX0_made_5 9 rfl rfl)
theorem dX0_made_125 : decode cX0_made 125 = .ok (.dup, 1) := dk_89 (dk_at dksX0_made_5 12 rfl rfl)
theorem dX0_made_126 : decode cX0_made 126 = .ok (.aload_n 0, 1) := dk_42 (dk_at dksX0_made_5 13 rfl rfl)
theorem dX0_made_127 : decode cX0_made 127 = .ok (.aload_n 0, 1) := dk_42 (dk_at dksX0_made_5 14 rfl rfl)
theorem dX0_made_128 : decode cX0_made 128 = .ok (.getfield 412, 3) := dk_180 1 156 (dk_at dksX0_made_5 15 rfl rfl)
theorem dX0_made_131 : decode cX0_made 131 = .ok (.invokespecial 437, 3) := dk_183 1 181 (dk_at dksX0_made_5 18 rfl rfl)
theorem dX0_made_134 : decode cX0_made 134 = .ok (.areturn, 1) := dk_176 (dk_at dksX0_made_5 21 rfl rfl)
theorem dX0_made_135 : decode cX0_made 135 = .ok (.new 69, 3) := dk_187 0 69 (dk_at dksX0_made_6 0 rfl rfl)
theorem dX0_made_138 : decode cX0_made 138 = .ok (.dup, 1) := dk_89 (dk_at dksX0_made_6 3 rfl rfl)
theorem dX0_made_139 : decode cX0_made 139 = .ok (.aload_n 0, 1) := dk_42 (dk_at dksX0_made_6 4 rfl rfl)
theorem dX0_made_140 : decode cX0_made 140 = .ok (.aload_n 0, 1) := dk_42 (dk_at dksX0_made_6 5 rfl rfl)
theorem dX0_made_141 : decode cX0_made 141 = .ok (.getfield 412, 3) := dk_180 1 156 (dk_at dksX0_made_6 6 rfl rfl)
theorem dX0_made_144 : decode cX0_made 144 = .ok (.invokespecial 438, 3) := dk_183 1 182 (dk_at dksX0_made_6 9 rfl rfl)
theorem dX0_made_147 : decode cX0_made 147 = .ok (.areturn, 1) := dk_176 (dk_at dksX0_made_6 12 rfl rfl)
abbrev cX0_act : ByteArray := prog_1_method_76_code
def yX0_act : MethodName := ⟨RX0, "act", "(III)I"⟩
def dkwX0_act_3 : List UInt8 := [25, 4, 29, 182, 1, 200, 167, 0, 9, 25, 4, 29, 182, 1, 203, 172]
abbrev dktX0_act_3 : List UInt8 := dkwX0_act_3 ++ []
def dkwX0_act_2 : List UInt8 := [172, 28, 6, 160, 0, 16, 25, 4, 58, 5, 25, 5, 29, 185, 1, 195, 2, 0, 172, 28, 4, 160, 0, 12]
abbrev dktX0_act_2 : List UInt8 := dkwX0_act_2 ++ dktX0_act_3
def dkwX0_act_1 : List UInt8 := [42, 180, 0, 71, 27, 50, 58, 4, 28, 154, 0, 16, 25, 4, 58, 5, 25, 5, 29, 185, 1, 190, 2, 0]
abbrev dktX0_act_1 : List UInt8 := dkwX0_act_1 ++ dktX0_act_2
def dkwX0_act_0 : List UInt8 := [42, 3, 181, 1, 153, 42, 27, 182, 1, 187, 153, 0, 12, 28, 3, 6, 184, 0, 81, 154, 0, 5, 3, 172]
abbrev dktX0_act_0 : List UInt8 := dkwX0_act_0 ++ dktX0_act_1
theorem dksX0_act_0 : cX0_act.data.toList.drop 0 = dktX0_act_0 := by decide +kernel
theorem dksX0_act_1 : cX0_act.data.toList.drop 24 = dktX0_act_1 := dk_seg dksX0_act_0 24 rfl rfl
theorem dksX0_act_2 : cX0_act.data.toList.drop 48 = dktX0_act_2 := dk_seg dksX0_act_1 24 rfl rfl
theorem dksX0_act_3 : cX0_act.data.toList.drop 72 = dktX0_act_3 := dk_seg dksX0_act_2 24 rfl rfl
theorem dX0_act_0 : decode cX0_act 0 = .ok (.aload_n 0, 1) := dk_42 (dk_at dksX0_act_0 0 rfl rfl)
theorem dX0_act_1 : decode cX0_act 1 = .ok (.iconst 0, 1) := dk_3 (dk_at dksX0_act_0 1 rfl rfl)
theorem dX0_act_2 : decode cX0_act 2 = .ok (.putfield 409, 3) := dk_181 1 153 (dk_at dksX0_act_0 2 rfl rfl)
theorem dX0_act_5 : decode cX0_act 5 = .ok (.aload_n 0, 1) := dk_42 (dk_at dksX0_act_0 5 rfl rfl)
theorem dX0_act_6 : decode cX0_act 6 = .ok (.iload_n 1, 1) := dk_27 (dk_at dksX0_act_0 6 rfl rfl)
theorem dX0_act_7 : decode cX0_act 7 = .ok (.invokevirtual 443, 3) := dk_182 1 187 (dk_at dksX0_act_0 7 rfl rfl)
theorem dX0_act_10 : decode cX0_act 10 = .ok (.ifCond .eq 12, 3) := dk_153 0 12 (dk_at dksX0_act_0 10 rfl rfl)
theorem dX0_act_13 : decode cX0_act 13 = .ok (.iload_n 2, 1) := dk_28 (dk_at dksX0_act_0 13 rfl rfl)
theorem dX0_act_14 : decode cX0_act 14 = .ok (.iconst 0, 1) := dk_3 (dk_at dksX0_act_0 14 rfl rfl)
theorem dX0_act_15 : decode cX0_act 15 = .ok (.iconst 3, 1) := dk_6 (dk_at dksX0_act_0 15 rfl rfl)
theorem dX0_act_16 : decode cX0_act 16 = .ok (.invokestatic 81, 3) := dk_184 0 81 (dk_at dksX0_act_0 16 rfl rfl)
theorem dX0_act_19 : decode cX0_act 19 = .ok (.ifCond .ne 5, 3) := dk_154 0 5 (dk_at dksX0_act_0 19 rfl rfl)
theorem dX0_act_22 : decode cX0_act 22 = .ok (.iconst 0, 1) := dk_3 (dk_at dksX0_act_0 22 rfl rfl)
theorem dX0_act_23 : decode cX0_act 23 = .ok (.ireturn, 1) := dk_172 (dk_at dksX0_act_0 23 rfl rfl)
theorem dX0_act_24 : decode cX0_act 24 = .ok (.aload_n 0, 1) := dk_42 (dk_at dksX0_act_1 0 rfl rfl)
theorem dX0_act_25 : decode cX0_act 25 = .ok (.getfield 71, 3) := dk_180 0 71 (dk_at dksX0_act_1 1 rfl rfl)
theorem dX0_act_28 : decode cX0_act 28 = .ok (.iload_n 1, 1) := dk_27 (dk_at dksX0_act_1 4 rfl rfl)
theorem dX0_act_29 : decode cX0_act 29 = .ok (.aaload, 1) := dk_50 (dk_at dksX0_act_1 5 rfl rfl)
theorem dX0_act_30 : decode cX0_act 30 = .ok (.astore 4, 2) := dk_58 4 (dk_at dksX0_act_1 6 rfl rfl)
theorem dX0_act_32 : decode cX0_act 32 = .ok (.iload_n 2, 1) := dk_28 (dk_at dksX0_act_1 8 rfl rfl)
theorem dX0_act_33 : decode cX0_act 33 = .ok (.ifCond .ne 16, 3) := dk_154 0 16 (dk_at dksX0_act_1 9 rfl rfl)
theorem dX0_act_36 : decode cX0_act 36 = .ok (.aload 4, 2) := dk_25 4 (dk_at dksX0_act_1 12 rfl rfl)
theorem dX0_act_38 : decode cX0_act 38 = .ok (.astore 5, 2) := dk_58 5 (dk_at dksX0_act_1 14 rfl rfl)
theorem dX0_act_40 : decode cX0_act 40 = .ok (.aload 5, 2) := dk_25 5 (dk_at dksX0_act_1 16 rfl rfl)
theorem dX0_act_42 : decode cX0_act 42 = .ok (.iload_n 3, 1) := dk_29 (dk_at dksX0_act_1 18 rfl rfl)
theorem dX0_act_43 : decode cX0_act 43 = .ok (.invokeinterface 446 2, 5) := by decide +kernel
theorem dX0_act_48 : decode cX0_act 48 = .ok (.ireturn, 1) := dk_172 (dk_at dksX0_act_2 0 rfl rfl)
theorem dX0_act_49 : decode cX0_act 49 = .ok (.iload_n 2, 1) := dk_28 (dk_at dksX0_act_2 1 rfl rfl)
theorem dX0_act_50 : decode cX0_act 50 = .ok (.iconst 3, 1) := dk_6 (dk_at dksX0_act_2 2 rfl rfl)
theorem dX0_act_51 : decode cX0_act 51 = .ok (.if_icmp .ne 16, 3) := dk_160 0 16 (dk_at dksX0_act_2 3 rfl rfl)
theorem dX0_act_54 : decode cX0_act 54 = .ok (.aload 4, 2) := dk_25 4 (dk_at dksX0_act_2 6 rfl rfl)
theorem dX0_act_56 : decode cX0_act 56 = .ok (.astore 5, 2) := dk_58 5 (dk_at dksX0_act_2 8 rfl rfl)
theorem dX0_act_58 : decode cX0_act 58 = .ok (.aload 5, 2) := dk_25 5 (dk_at dksX0_act_2 10 rfl rfl)
theorem dX0_act_60 : decode cX0_act 60 = .ok (.iload_n 3, 1) := dk_29 (dk_at dksX0_act_2 12 rfl rfl)
theorem dX0_act_61 : decode cX0_act 61 = .ok (.invokeinterface 451 2, 5) := by decide +kernel
theorem dX0_act_66 : decode cX0_act 66 = .ok (.ireturn, 1) := dk_172 (dk_at dksX0_act_2 18 rfl rfl)
theorem dX0_act_67 : decode cX0_act 67 = .ok (.iload_n 2, 1) := dk_28 (dk_at dksX0_act_2 19 rfl rfl)
theorem dX0_act_68 : decode cX0_act 68 = .ok (.iconst 1, 1) := dk_4 (dk_at dksX0_act_2 20 rfl rfl)
theorem dX0_act_69 : decode cX0_act 69 = .ok (.if_icmp .ne 12, 3) := dk_160 0 12 (dk_at dksX0_act_2 21 rfl rfl)
theorem dX0_act_72 : decode cX0_act 72 = .ok (.aload 4, 2) := dk_25 4 (dk_at dksX0_act_3 0 rfl rfl)
theorem dX0_act_74 : decode cX0_act 74 = .ok (.iload_n 3, 1) := dk_29 (dk_at dksX0_act_3 2 rfl rfl)
theorem dX0_act_75 : decode cX0_act 75 = .ok (.invokevirtual 456, 3) := dk_182 1 200 (dk_at dksX0_act_3 3 rfl rfl)
theorem dX0_act_78 : decode cX0_act 78 = .ok (.goto 9, 3) := dk_167 0 9 (dk_at dksX0_act_3 6 rfl rfl)
theorem dX0_act_81 : decode cX0_act 81 = .ok (.aload 4, 2) := dk_25 4 (dk_at dksX0_act_3 9 rfl rfl)
theorem dX0_act_83 : decode cX0_act 83 = .ok (.iload_n 3, 1) := dk_29 (dk_at dksX0_act_3 11 rfl rfl)
theorem dX0_act_84 : decode cX0_act 84 = .ok (.invokevirtual 459, 3) := dk_182 1 203 (dk_at dksX0_act_3 12 rfl rfl)
theorem dX0_act_87 : decode cX0_act 87 = .ok (.ireturn, 1) := dk_172 (dk_at dksX0_act_3 15 rfl rfl)
abbrev cX0_isBody : ByteArray := prog_1_method_72_code
def yX0_isBody : MethodName := ⟨RX0, "isBody", "(I)Z"⟩
def dkwX0_isBody_0 : List UInt8 := [27, 3, 42, 180, 1, 156, 4, 100, 184, 0, 81, 172]
abbrev dktX0_isBody_0 : List UInt8 := dkwX0_isBody_0 ++ []
theorem dksX0_isBody_0 : cX0_isBody.data.toList.drop 0 = dktX0_isBody_0 := by decide +kernel
theorem dX0_isBody_0 : decode cX0_isBody 0 = .ok (.iload_n 1, 1) := dk_27 (dk_at dksX0_isBody_0 0 rfl rfl)
theorem dX0_isBody_1 : decode cX0_isBody 1 = .ok (.iconst 0, 1) := dk_3 (dk_at dksX0_isBody_0 1 rfl rfl)
theorem dX0_isBody_2 : decode cX0_isBody 2 = .ok (.aload_n 0, 1) := dk_42 (dk_at dksX0_isBody_0 2 rfl rfl)
theorem dX0_isBody_3 : decode cX0_isBody 3 = .ok (.getfield 412, 3) := dk_180 1 156 (dk_at dksX0_isBody_0 3 rfl rfl)
theorem dX0_isBody_6 : decode cX0_isBody 6 = .ok (.iconst 1, 1) := dk_4 (dk_at dksX0_isBody_0 6 rfl rfl)
theorem dX0_isBody_7 : decode cX0_isBody 7 = .ok (.isub, 1) := dk_100 (dk_at dksX0_isBody_0 7 rfl rfl)
theorem dX0_isBody_8 : decode cX0_isBody 8 = .ok (.invokestatic 81, 3) := dk_184 0 81 (dk_at dksX0_isBody_0 8 rfl rfl)
theorem dX0_isBody_11 : decode cX0_isBody 11 = .ok (.ireturn, 1) := dk_172 (dk_at dksX0_isBody_0 11 rfl rfl)
abbrev cX0_ran : ByteArray := prog_1_method_71_code
def yX0_ran : MethodName := ⟨RX0, "ran", "(I)V"⟩
def dkwX0_ran_1 : List UInt8 := [180, 1, 153, 4, 96, 181, 1, 153, 177]
abbrev dktX0_ran_1 : List UInt8 := dkwX0_ran_1 ++ []
def dkwX0_ran_0 : List UInt8 := [42, 180, 1, 153, 16, 24, 162, 0, 14, 42, 180, 0, 66, 42, 180, 1, 153, 27, 145, 84, 42, 89]
abbrev dktX0_ran_0 : List UInt8 := dkwX0_ran_0 ++ dktX0_ran_1
theorem dksX0_ran_0 : cX0_ran.data.toList.drop 0 = dktX0_ran_0 := by decide +kernel
theorem dksX0_ran_1 : cX0_ran.data.toList.drop 22 = dktX0_ran_1 := dk_seg dksX0_ran_0 22 rfl rfl
theorem dX0_ran_0 : decode cX0_ran 0 = .ok (.aload_n 0, 1) := dk_42 (dk_at dksX0_ran_0 0 rfl rfl)
theorem dX0_ran_1 : decode cX0_ran 1 = .ok (.getfield 409, 3) := dk_180 1 153 (dk_at dksX0_ran_0 1 rfl rfl)
theorem dX0_ran_4 : decode cX0_ran 4 = .ok (.bipush 24, 2) := dk_16 24 (dk_at dksX0_ran_0 4 rfl rfl)
theorem dX0_ran_6 : decode cX0_ran 6 = .ok (.if_icmp .ge 14, 3) := dk_162 0 14 (dk_at dksX0_ran_0 6 rfl rfl)
theorem dX0_ran_9 : decode cX0_ran 9 = .ok (.aload_n 0, 1) := dk_42 (dk_at dksX0_ran_0 9 rfl rfl)
theorem dX0_ran_10 : decode cX0_ran 10 = .ok (.getfield 66, 3) := dk_180 0 66 (dk_at dksX0_ran_0 10 rfl rfl)
theorem dX0_ran_13 : decode cX0_ran 13 = .ok (.aload_n 0, 1) := dk_42 (dk_at dksX0_ran_0 13 rfl rfl)
theorem dX0_ran_14 : decode cX0_ran 14 = .ok (.getfield 409, 3) := dk_180 1 153 (dk_at dksX0_ran_0 14 rfl rfl)
theorem dX0_ran_17 : decode cX0_ran 17 = .ok (.iload_n 1, 1) := dk_27 (dk_at dksX0_ran_0 17 rfl rfl)
theorem dX0_ran_18 : decode cX0_ran 18 = .ok (.i2b, 1) := dk_145 (dk_at dksX0_ran_0 18 rfl rfl)
theorem dX0_ran_19 : decode cX0_ran 19 = .ok (.bastore, 1) := dk_84 (dk_at dksX0_ran_0 19 rfl rfl)
theorem dX0_ran_20 : decode cX0_ran 20 = .ok (.aload_n 0, 1) := dk_42 (dk_at dksX0_ran_0 20 rfl rfl)
theorem dX0_ran_21 : decode cX0_ran 21 = .ok (.dup, 1) := dk_89 (dk_at dksX0_ran_0 21 rfl rfl)
theorem dX0_ran_22 : decode cX0_ran 22 = .ok (.getfield 409, 3) := dk_180 1 153 (dk_at dksX0_ran_1 0 rfl rfl)
theorem dX0_ran_25 : decode cX0_ran 25 = .ok (.iconst 1, 1) := dk_4 (dk_at dksX0_ran_1 3 rfl rfl)
theorem dX0_ran_26 : decode cX0_ran 26 = .ok (.iadd, 1) := dk_96 (dk_at dksX0_ran_1 4 rfl rfl)
theorem dX0_ran_27 : decode cX0_ran 27 = .ok (.putfield 409, 3) := dk_181 1 153 (dk_at dksX0_ran_1 5 rfl rfl)
theorem dX0_ran_30 : decode cX0_ran 30 = .ok (.return_, 1) := dk_177 (dk_at dksX0_ran_1 8 rfl rfl)
abbrev cX0_trace : ByteArray := prog_1_method_77_code
def yX0_trace : MethodName := ⟨RX0, "trace", "(I)I"⟩
def dkwX0_trace_1 : List UInt8 := [167, 0, 4, 2, 172]
abbrev dktX0_trace_1 : List UInt8 := dkwX0_trace_1 ++ []
def dkwX0_trace_0 : List UInt8 := [27, 155, 0, 26, 27, 42, 180, 1, 153, 162, 0, 18, 27, 16, 24, 162, 0, 12, 42, 180, 0, 66, 27, 51]
abbrev dktX0_trace_0 : List UInt8 := dkwX0_trace_0 ++ dktX0_trace_1
theorem dksX0_trace_0 : cX0_trace.data.toList.drop 0 = dktX0_trace_0 := by decide +kernel
theorem dksX0_trace_1 : cX0_trace.data.toList.drop 24 = dktX0_trace_1 := dk_seg dksX0_trace_0 24 rfl rfl
theorem dX0_trace_0 : decode cX0_trace 0 = .ok (.iload_n 1, 1) := dk_27 (dk_at dksX0_trace_0 0 rfl rfl)
theorem dX0_trace_1 : decode cX0_trace 1 = .ok (.ifCond .lt 26, 3) := dk_155 0 26 (dk_at dksX0_trace_0 1 rfl rfl)
theorem dX0_trace_4 : decode cX0_trace 4 = .ok (.iload_n 1, 1) := dk_27 (dk_at dksX0_trace_0 4 rfl rfl)
theorem dX0_trace_5 : decode cX0_trace 5 = .ok (.aload_n 0, 1) := dk_42 (dk_at dksX0_trace_0 5 rfl rfl)
theorem dX0_trace_6 : decode cX0_trace 6 = .ok (.getfield 409, 3) := dk_180 1 153 (dk_at dksX0_trace_0 6 rfl rfl)
theorem dX0_trace_9 : decode cX0_trace 9 = .ok (.if_icmp .ge 18, 3) := dk_162 0 18 (dk_at dksX0_trace_0 9 rfl rfl)
theorem dX0_trace_12 : decode cX0_trace 12 = .ok (.iload_n 1, 1) := dk_27 (dk_at dksX0_trace_0 12 rfl rfl)
theorem dX0_trace_13 : decode cX0_trace 13 = .ok (.bipush 24, 2) := dk_16 24 (dk_at dksX0_trace_0 13 rfl rfl)
theorem dX0_trace_15 : decode cX0_trace 15 = .ok (.if_icmp .ge 12, 3) := dk_162 0 12 (dk_at dksX0_trace_0 15 rfl rfl)
theorem dX0_trace_18 : decode cX0_trace 18 = .ok (.aload_n 0, 1) := dk_42 (dk_at dksX0_trace_0 18 rfl rfl)
theorem dX0_trace_19 : decode cX0_trace 19 = .ok (.getfield 66, 3) := dk_180 0 66 (dk_at dksX0_trace_0 19 rfl rfl)
theorem dX0_trace_22 : decode cX0_trace 22 = .ok (.iload_n 1, 1) := dk_27 (dk_at dksX0_trace_0 22 rfl rfl)
theorem dX0_trace_23 : decode cX0_trace 23 = .ok (.baload, 1) := dk_51 (dk_at dksX0_trace_0 23 rfl rfl)
theorem dX0_trace_24 : decode cX0_trace 24 = .ok (.goto 4, 3) := dk_167 0 4 (dk_at dksX0_trace_1 0 rfl rfl)
theorem dX0_trace_27 : decode cX0_trace 27 = .ok (.iconst (-1), 1) := dk_2 (dk_at dksX0_trace_1 3 rfl rfl)
theorem dX0_trace_28 : decode cX0_trace 28 = .ok (.ireturn, 1) := dk_172 (dk_at dksX0_trace_1 4 rfl rfl)
abbrev cX0_keep : ByteArray := prog_1_method_78_code
def yX0_keep : MethodName := ⟨RX0, "keep", "(II)I"⟩
def dkwX0_keep_1 : List UInt8 := [180, 0, 77, 27, 28, 156, 0, 7, 1, 167, 0, 9, 42, 180, 0, 71, 28, 50, 83, 4, 172]
abbrev dktX0_keep_1 : List UInt8 := dkwX0_keep_1 ++ []
def dkwX0_keep_0 : List UInt8 := [27, 184, 0, 99, 153, 0, 16, 28, 2, 159, 0, 13, 42, 28, 182, 1, 187, 154, 0, 5, 2, 172, 42]
abbrev dktX0_keep_0 : List UInt8 := dkwX0_keep_0 ++ dktX0_keep_1
theorem dksX0_keep_0 : cX0_keep.data.toList.drop 0 = dktX0_keep_0 := by decide +kernel
theorem dksX0_keep_1 : cX0_keep.data.toList.drop 23 = dktX0_keep_1 := dk_seg dksX0_keep_0 23 rfl rfl
theorem dX0_keep_0 : decode cX0_keep 0 = .ok (.iload_n 1, 1) := dk_27 (dk_at dksX0_keep_0 0 rfl rfl)
theorem dX0_keep_1 : decode cX0_keep 1 = .ok (.invokestatic 99, 3) := dk_184 0 99 (dk_at dksX0_keep_0 1 rfl rfl)
theorem dX0_keep_4 : decode cX0_keep 4 = .ok (.ifCond .eq 16, 3) := dk_153 0 16 (dk_at dksX0_keep_0 4 rfl rfl)
theorem dX0_keep_7 : decode cX0_keep 7 = .ok (.iload_n 2, 1) := dk_28 (dk_at dksX0_keep_0 7 rfl rfl)
theorem dX0_keep_8 : decode cX0_keep 8 = .ok (.iconst (-1), 1) := dk_2 (dk_at dksX0_keep_0 8 rfl rfl)
theorem dX0_keep_9 : decode cX0_keep 9 = .ok (.if_icmp .eq 13, 3) := dk_159 0 13 (dk_at dksX0_keep_0 9 rfl rfl)
theorem dX0_keep_12 : decode cX0_keep 12 = .ok (.aload_n 0, 1) := dk_42 (dk_at dksX0_keep_0 12 rfl rfl)
theorem dX0_keep_13 : decode cX0_keep 13 = .ok (.iload_n 2, 1) := dk_28 (dk_at dksX0_keep_0 13 rfl rfl)
theorem dX0_keep_14 : decode cX0_keep 14 = .ok (.invokevirtual 443, 3) := dk_182 1 187 (dk_at dksX0_keep_0 14 rfl rfl)
theorem dX0_keep_17 : decode cX0_keep 17 = .ok (.ifCond .ne 5, 3) := dk_154 0 5 (dk_at dksX0_keep_0 17 rfl rfl)
theorem dX0_keep_20 : decode cX0_keep 20 = .ok (.iconst (-1), 1) := dk_2 (dk_at dksX0_keep_0 20 rfl rfl)
theorem dX0_keep_21 : decode cX0_keep 21 = .ok (.ireturn, 1) := dk_172 (dk_at dksX0_keep_0 21 rfl rfl)
theorem dX0_keep_22 : decode cX0_keep 22 = .ok (.aload_n 0, 1) := dk_42 (dk_at dksX0_keep_0 22 rfl rfl)
theorem dX0_keep_23 : decode cX0_keep 23 = .ok (.getfield 77, 3) := dk_180 0 77 (dk_at dksX0_keep_1 0 rfl rfl)
theorem dX0_keep_26 : decode cX0_keep 26 = .ok (.iload_n 1, 1) := dk_27 (dk_at dksX0_keep_1 3 rfl rfl)
theorem dX0_keep_27 : decode cX0_keep 27 = .ok (.iload_n 2, 1) := dk_28 (dk_at dksX0_keep_1 4 rfl rfl)
theorem dX0_keep_28 : decode cX0_keep 28 = .ok (.ifCond .ge 7, 3) := dk_156 0 7 (dk_at dksX0_keep_1 5 rfl rfl)
theorem dX0_keep_31 : decode cX0_keep 31 = .ok (.aconst_null, 1) := dk_1 (dk_at dksX0_keep_1 8 rfl rfl)
theorem dX0_keep_32 : decode cX0_keep 32 = .ok (.goto 9, 3) := dk_167 0 9 (dk_at dksX0_keep_1 9 rfl rfl)
theorem dX0_keep_35 : decode cX0_keep 35 = .ok (.aload_n 0, 1) := dk_42 (dk_at dksX0_keep_1 12 rfl rfl)
theorem dX0_keep_36 : decode cX0_keep 36 = .ok (.getfield 71, 3) := dk_180 0 71 (dk_at dksX0_keep_1 13 rfl rfl)
theorem dX0_keep_39 : decode cX0_keep 39 = .ok (.iload_n 2, 1) := dk_28 (dk_at dksX0_keep_1 16 rfl rfl)
theorem dX0_keep_40 : decode cX0_keep 40 = .ok (.aaload, 1) := dk_50 (dk_at dksX0_keep_1 17 rfl rfl)
theorem dX0_keep_41 : decode cX0_keep 41 = .ok (.aastore, 1) := dk_83 (dk_at dksX0_keep_1 18 rfl rfl)
theorem dX0_keep_42 : decode cX0_keep 42 = .ok (.iconst 1, 1) := dk_4 (dk_at dksX0_keep_1 19 rfl rfl)
theorem dX0_keep_43 : decode cX0_keep 43 = .ok (.ireturn, 1) := dk_172 (dk_at dksX0_keep_1 20 rfl rfl)
abbrev cX0_row : ByteArray := prog_1_method_80_code
def yX0_row : MethodName := ⟨RX0, "row", "(III)I"⟩
def dkwX0_row_1 : List UInt8 := [42, 180, 0, 77, 27, 28, 29, 184, 1, 219, 83, 167, 0, 8, 58, 4, 16, 242, 172, 4, 172]
abbrev dktX0_row_1 : List UInt8 := dkwX0_row_1 ++ []
def dkwX0_row_0 : List UInt8 := [27, 184, 0, 99, 153, 0, 18, 28, 3, 7, 184, 0, 81, 153, 0, 9, 29, 16, 60, 164, 0, 5, 2, 172]
abbrev dktX0_row_0 : List UInt8 := dkwX0_row_0 ++ dktX0_row_1
theorem dksX0_row_0 : cX0_row.data.toList.drop 0 = dktX0_row_0 := by decide +kernel
theorem dksX0_row_1 : cX0_row.data.toList.drop 24 = dktX0_row_1 := dk_seg dksX0_row_0 24 rfl rfl
theorem dX0_row_0 : decode cX0_row 0 = .ok (.iload_n 1, 1) := dk_27 (dk_at dksX0_row_0 0 rfl rfl)
theorem dX0_row_1 : decode cX0_row 1 = .ok (.invokestatic 99, 3) := dk_184 0 99 (dk_at dksX0_row_0 1 rfl rfl)
theorem dX0_row_4 : decode cX0_row 4 = .ok (.ifCond .eq 18, 3) := dk_153 0 18 (dk_at dksX0_row_0 4 rfl rfl)
theorem dX0_row_7 : decode cX0_row 7 = .ok (.iload_n 2, 1) := dk_28 (dk_at dksX0_row_0 7 rfl rfl)
theorem dX0_row_8 : decode cX0_row 8 = .ok (.iconst 0, 1) := dk_3 (dk_at dksX0_row_0 8 rfl rfl)
theorem dX0_row_9 : decode cX0_row 9 = .ok (.iconst 4, 1) := dk_7 (dk_at dksX0_row_0 9 rfl rfl)
theorem dX0_row_10 : decode cX0_row 10 = .ok (.invokestatic 81, 3) := dk_184 0 81 (dk_at dksX0_row_0 10 rfl rfl)
theorem dX0_row_13 : decode cX0_row 13 = .ok (.ifCond .eq 9, 3) := dk_153 0 9 (dk_at dksX0_row_0 13 rfl rfl)
theorem dX0_row_16 : decode cX0_row 16 = .ok (.iload_n 3, 1) := dk_29 (dk_at dksX0_row_0 16 rfl rfl)
theorem dX0_row_17 : decode cX0_row 17 = .ok (.bipush 60, 2) := dk_16 60 (dk_at dksX0_row_0 17 rfl rfl)
theorem dX0_row_19 : decode cX0_row 19 = .ok (.if_icmp .le 5, 3) := dk_164 0 5 (dk_at dksX0_row_0 19 rfl rfl)
theorem dX0_row_22 : decode cX0_row 22 = .ok (.iconst (-1), 1) := dk_2 (dk_at dksX0_row_0 22 rfl rfl)
theorem dX0_row_23 : decode cX0_row 23 = .ok (.ireturn, 1) := dk_172 (dk_at dksX0_row_0 23 rfl rfl)
theorem dX0_row_24 : decode cX0_row 24 = .ok (.aload_n 0, 1) := dk_42 (dk_at dksX0_row_1 0 rfl rfl)
theorem dX0_row_25 : decode cX0_row 25 = .ok (.getfield 77, 3) := dk_180 0 77 (dk_at dksX0_row_1 1 rfl rfl)
theorem dX0_row_28 : decode cX0_row 28 = .ok (.iload_n 1, 1) := dk_27 (dk_at dksX0_row_1 4 rfl rfl)
theorem dX0_row_29 : decode cX0_row 29 = .ok (.iload_n 2, 1) := dk_28 (dk_at dksX0_row_1 5 rfl rfl)
theorem dX0_row_30 : decode cX0_row 30 = .ok (.iload_n 3, 1) := dk_29 (dk_at dksX0_row_1 6 rfl rfl)
theorem dX0_row_31 : decode cX0_row 31 = .ok (.invokestatic 475, 3) := dk_184 1 219 (dk_at dksX0_row_1 7 rfl rfl)
theorem dX0_row_34 : decode cX0_row 34 = .ok (.aastore, 1) := dk_83 (dk_at dksX0_row_1 10 rfl rfl)
theorem dX0_row_35 : decode cX0_row 35 = .ok (.goto 8, 3) := dk_167 0 8 (dk_at dksX0_row_1 11 rfl rfl)
theorem dX0_row_38 : decode cX0_row 38 = .ok (.astore 4, 2) := dk_58 4 (dk_at dksX0_row_1 14 rfl rfl)
theorem dX0_row_40 : decode cX0_row 40 = .ok (.bipush (-14), 2) := dk_16 242 (dk_at dksX0_row_1 16 rfl rfl)
theorem dX0_row_42 : decode cX0_row 42 = .ok (.ireturn, 1) := dk_172 (dk_at dksX0_row_1 18 rfl rfl)
theorem dX0_row_43 : decode cX0_row 43 = .ok (.iconst 1, 1) := dk_4 (dk_at dksX0_row_1 19 rfl rfl)
theorem dX0_row_44 : decode cX0_row 44 = .ok (.ireturn, 1) := dk_172 (dk_at dksX0_row_1 20 rfl rfl)
abbrev cX0_newRow : ByteArray := prog_1_method_79_code
def yX0_newRow : MethodName := ⟨RX0, "newRow", "(II)LShieldLine$Row;"⟩
def dkwX0_newRow_3 : List UInt8 := [183, 1, 212, 176, 187, 1, 213, 89, 27, 183, 1, 215, 176, 187, 1, 216, 89, 27, 183, 1, 218, 176]
abbrev dktX0_newRow_3 : List UInt8 := dkwX0_newRow_3 ++ []
def dkwX0_newRow_2 : List UInt8 := [187, 0, 102, 89, 27, 183, 1, 206, 176, 187, 1, 207, 89, 27, 183, 1, 209, 176, 187, 1, 210, 89, 27]
abbrev dktX0_newRow_2 : List UInt8 := dkwX0_newRow_2 ++ dktX0_newRow_3
def dkwX0_newRow_1 : List UInt8 := [170, 0, 0, 0, 0, 0, 67, 0, 0, 0, 0, 0, 0, 0, 3, 0, 0, 0, 31, 0, 0, 0, 40, 0, 0, 0, 49, 0, 0, 0, 58]
abbrev dktX0_newRow_1 : List UInt8 := dkwX0_newRow_1 ++ dktX0_newRow_2
def dkwX0_newRow_0 : List UInt8 := [26]
abbrev dktX0_newRow_0 : List UInt8 := dkwX0_newRow_0 ++ dktX0_newRow_1
theorem dksX0_newRow_0 : cX0_newRow.data.toList.drop 0 = dktX0_newRow_0 := by decide +kernel
theorem dksX0_newRow_1 : cX0_newRow.data.toList.drop 1 = dktX0_newRow_1 := dk_seg dksX0_newRow_0 1 rfl rfl
theorem dksX0_newRow_2 : cX0_newRow.data.toList.drop 32 = dktX0_newRow_2 := dk_seg dksX0_newRow_1 31 rfl rfl
theorem dksX0_newRow_3 : cX0_newRow.data.toList.drop 55 = dktX0_newRow_3 := dk_seg dksX0_newRow_2 23 rfl rfl
theorem dX0_newRow_0 : decode cX0_newRow 0 = .ok (.iload_n 0, 1) := dk_26 (dk_at dksX0_newRow_0 0 rfl rfl)
theorem dX0_newRow_1 : decode cX0_newRow 1 = .ok (.tableswitch 67 0 3 #[31, 40, 49, 58], 31) := by decide +kernel
theorem dX0_newRow_32 : decode cX0_newRow 32 = .ok (.new 102, 3) := dk_187 0 102 (dk_at dksX0_newRow_2 0 rfl rfl)
theorem dX0_newRow_35 : decode cX0_newRow 35 = .ok (.dup, 1) := dk_89 (dk_at dksX0_newRow_2 3 rfl rfl)
theorem dX0_newRow_36 : decode cX0_newRow 36 = .ok (.iload_n 1, 1) := dk_27 (dk_at dksX0_newRow_2 4 rfl rfl)
theorem dX0_newRow_37 : decode cX0_newRow 37 = .ok (.invokespecial 462, 3) := dk_183 1 206 (dk_at dksX0_newRow_2 5 rfl rfl)
theorem dX0_newRow_40 : decode cX0_newRow 40 = .ok (.areturn, 1) := dk_176 (dk_at dksX0_newRow_2 8 rfl rfl)
theorem dX0_newRow_41 : decode cX0_newRow 41 = .ok (.new 463, 3) := dk_187 1 207 (dk_at dksX0_newRow_2 9 rfl rfl)
theorem dX0_newRow_44 : decode cX0_newRow 44 = .ok (.dup, 1) := dk_89 (dk_at dksX0_newRow_2 12 rfl rfl)
theorem dX0_newRow_45 : decode cX0_newRow 45 = .ok (.iload_n 1, 1) := dk_27 (dk_at dksX0_newRow_2 13 rfl rfl)
theorem dX0_newRow_46 : decode cX0_newRow 46 = .ok (.invokespecial 465, 3) := dk_183 1 209 (dk_at dksX0_newRow_2 14 rfl rfl)
theorem dX0_newRow_49 : decode cX0_newRow 49 = .ok (.areturn, 1) := dk_176 (dk_at dksX0_newRow_2 17 rfl rfl)
theorem dX0_newRow_50 : decode cX0_newRow 50 = .ok (.new 466, 3) := dk_187 1 210 (dk_at dksX0_newRow_2 18 rfl rfl)
theorem dX0_newRow_53 : decode cX0_newRow 53 = .ok (.dup, 1) := dk_89 (dk_at dksX0_newRow_2 21 rfl rfl)
theorem dX0_newRow_54 : decode cX0_newRow 54 = .ok (.iload_n 1, 1) := dk_27 (dk_at dksX0_newRow_2 22 rfl rfl)
theorem dX0_newRow_55 : decode cX0_newRow 55 = .ok (.invokespecial 468, 3) := dk_183 1 212 (dk_at dksX0_newRow_3 0 rfl rfl)
theorem dX0_newRow_58 : decode cX0_newRow 58 = .ok (.areturn, 1) := dk_176 (dk_at dksX0_newRow_3 3 rfl rfl)
theorem dX0_newRow_59 : decode cX0_newRow 59 = .ok (.new 469, 3) := dk_187 1 213 (dk_at dksX0_newRow_3 4 rfl rfl)
theorem dX0_newRow_62 : decode cX0_newRow 62 = .ok (.dup, 1) := dk_89 (dk_at dksX0_newRow_3 7 rfl rfl)
theorem dX0_newRow_63 : decode cX0_newRow 63 = .ok (.iload_n 1, 1) := dk_27 (dk_at dksX0_newRow_3 8 rfl rfl)
theorem dX0_newRow_64 : decode cX0_newRow 64 = .ok (.invokespecial 471, 3) := dk_183 1 215 (dk_at dksX0_newRow_3 9 rfl rfl)
theorem dX0_newRow_67 : decode cX0_newRow 67 = .ok (.areturn, 1) := dk_176 (dk_at dksX0_newRow_3 12 rfl rfl)
theorem dX0_newRow_68 : decode cX0_newRow 68 = .ok (.new 472, 3) := dk_187 1 216 (dk_at dksX0_newRow_3 13 rfl rfl)
theorem dX0_newRow_71 : decode cX0_newRow 71 = .ok (.dup, 1) := dk_89 (dk_at dksX0_newRow_3 16 rfl rfl)
theorem dX0_newRow_72 : decode cX0_newRow 72 = .ok (.iload_n 1, 1) := dk_27 (dk_at dksX0_newRow_3 17 rfl rfl)
theorem dX0_newRow_73 : decode cX0_newRow 73 = .ok (.invokespecial 474, 3) := dk_183 1 218 (dk_at dksX0_newRow_3 18 rfl rfl)
theorem dX0_newRow_76 : decode cX0_newRow 76 = .ok (.areturn, 1) := dk_176 (dk_at dksX0_newRow_3 21 rfl rfl)
abbrev cX0_put : ByteArray := prog_1_method_81_code
def yX0_put : MethodName := ⟨RX0, "put", "(IIJ)I"⟩
def dkwX0_put_1 : List UInt8 := [153, 0, 7, 4, 167, 0, 4, 2, 172, 58, 5, 16, 245, 172, 58, 5, 16, 244, 172, 58, 5, 16, 243, 172]
abbrev dktX0_put_1 : List UInt8 := dkwX0_put_1 ++ []
def dkwX0_put_0 : List UInt8 := [27, 184, 0, 99, 154, 0, 5, 2, 172, 42, 180, 0, 77, 27, 50, 192, 1, 225, 28, 33, 182, 1, 227]
abbrev dktX0_put_0 : List UInt8 := dkwX0_put_0 ++ dktX0_put_1
theorem dksX0_put_0 : cX0_put.data.toList.drop 0 = dktX0_put_0 := by decide +kernel
theorem dksX0_put_1 : cX0_put.data.toList.drop 23 = dktX0_put_1 := dk_seg dksX0_put_0 23 rfl rfl
theorem dX0_put_0 : decode cX0_put 0 = .ok (.iload_n 1, 1) := dk_27 (dk_at dksX0_put_0 0 rfl rfl)
theorem dX0_put_1 : decode cX0_put 1 = .ok (.invokestatic 99, 3) := dk_184 0 99 (dk_at dksX0_put_0 1 rfl rfl)
theorem dX0_put_4 : decode cX0_put 4 = .ok (.ifCond .ne 5, 3) := dk_154 0 5 (dk_at dksX0_put_0 4 rfl rfl)
theorem dX0_put_7 : decode cX0_put 7 = .ok (.iconst (-1), 1) := dk_2 (dk_at dksX0_put_0 7 rfl rfl)
theorem dX0_put_8 : decode cX0_put 8 = .ok (.ireturn, 1) := dk_172 (dk_at dksX0_put_0 8 rfl rfl)
theorem dX0_put_9 : decode cX0_put 9 = .ok (.aload_n 0, 1) := dk_42 (dk_at dksX0_put_0 9 rfl rfl)
theorem dX0_put_10 : decode cX0_put 10 = .ok (.getfield 77, 3) := dk_180 0 77 (dk_at dksX0_put_0 10 rfl rfl)
theorem dX0_put_13 : decode cX0_put 13 = .ok (.iload_n 1, 1) := dk_27 (dk_at dksX0_put_0 13 rfl rfl)
theorem dX0_put_14 : decode cX0_put 14 = .ok (.aaload, 1) := dk_50 (dk_at dksX0_put_0 14 rfl rfl)
theorem dX0_put_15 : decode cX0_put 15 = .ok (.checkcast 481, 3) := dk_192 1 225 (dk_at dksX0_put_0 15 rfl rfl)
theorem dX0_put_18 : decode cX0_put 18 = .ok (.iload_n 2, 1) := dk_28 (dk_at dksX0_put_0 18 rfl rfl)
theorem dX0_put_19 : decode cX0_put 19 = .ok (.lload_n 3, 1) := dk_33 (dk_at dksX0_put_0 19 rfl rfl)
theorem dX0_put_20 : decode cX0_put 20 = .ok (.invokevirtual 483, 3) := dk_182 1 227 (dk_at dksX0_put_0 20 rfl rfl)
theorem dX0_put_23 : decode cX0_put 23 = .ok (.ifCond .eq 7, 3) := dk_153 0 7 (dk_at dksX0_put_1 0 rfl rfl)
theorem dX0_put_26 : decode cX0_put 26 = .ok (.iconst 1, 1) := dk_4 (dk_at dksX0_put_1 3 rfl rfl)
theorem dX0_put_27 : decode cX0_put 27 = .ok (.goto 4, 3) := dk_167 0 4 (dk_at dksX0_put_1 4 rfl rfl)
theorem dX0_put_30 : decode cX0_put 30 = .ok (.iconst (-1), 1) := dk_2 (dk_at dksX0_put_1 7 rfl rfl)
theorem dX0_put_31 : decode cX0_put 31 = .ok (.ireturn, 1) := dk_172 (dk_at dksX0_put_1 8 rfl rfl)
theorem dX0_put_32 : decode cX0_put 32 = .ok (.astore 5, 2) := dk_58 5 (dk_at dksX0_put_1 9 rfl rfl)
theorem dX0_put_34 : decode cX0_put 34 = .ok (.bipush (-11), 2) := dk_16 245 (dk_at dksX0_put_1 11 rfl rfl)
theorem dX0_put_36 : decode cX0_put 36 = .ok (.ireturn, 1) := dk_172 (dk_at dksX0_put_1 13 rfl rfl)
theorem dX0_put_37 : decode cX0_put 37 = .ok (.astore 5, 2) := dk_58 5 (dk_at dksX0_put_1 14 rfl rfl)
theorem dX0_put_39 : decode cX0_put 39 = .ok (.bipush (-12), 2) := dk_16 244 (dk_at dksX0_put_1 16 rfl rfl)
theorem dX0_put_41 : decode cX0_put 41 = .ok (.ireturn, 1) := dk_172 (dk_at dksX0_put_1 18 rfl rfl)
theorem dX0_put_42 : decode cX0_put 42 = .ok (.astore 5, 2) := dk_58 5 (dk_at dksX0_put_1 19 rfl rfl)
theorem dX0_put_44 : decode cX0_put 44 = .ok (.bipush (-13), 2) := dk_16 243 (dk_at dksX0_put_1 21 rfl rfl)
theorem dX0_put_46 : decode cX0_put 46 = .ok (.ireturn, 1) := dk_172 (dk_at dksX0_put_1 23 rfl rfl)
abbrev cX0_element : ByteArray := prog_1_method_82_code
def yX0_element : MethodName := ⟨RX0, "element", "(II)J"⟩
def dkwX0_element_1 : List UInt8 := [173, 78, 20, 1, 84, 173, 78, 20, 1, 84, 173, 78, 20, 1, 84, 173]
abbrev dktX0_element_1 : List UInt8 := dkwX0_element_1 ++ []
def dkwX0_element_0 : List UInt8 := [27, 184, 0, 99, 154, 0, 7, 20, 1, 84, 173, 42, 180, 0, 77, 27, 50, 192, 1, 225, 28, 182, 1, 231]
abbrev dktX0_element_0 : List UInt8 := dkwX0_element_0 ++ dktX0_element_1
theorem dksX0_element_0 : cX0_element.data.toList.drop 0 = dktX0_element_0 := by decide +kernel
theorem dksX0_element_1 : cX0_element.data.toList.drop 24 = dktX0_element_1 := dk_seg dksX0_element_0 24 rfl rfl
theorem dX0_element_0 : decode cX0_element 0 = .ok (.iload_n 1, 1) := dk_27 (dk_at dksX0_element_0 0 rfl rfl)
theorem dX0_element_1 : decode cX0_element 1 = .ok (.invokestatic 99, 3) := dk_184 0 99 (dk_at dksX0_element_0 1 rfl rfl)
theorem dX0_element_4 : decode cX0_element 4 = .ok (.ifCond .ne 7, 3) := dk_154 0 7 (dk_at dksX0_element_0 4 rfl rfl)
theorem dX0_element_7 : decode cX0_element 7 = .ok (.ldc2_w 340, 3) := dk_20 1 84 (dk_at dksX0_element_0 7 rfl rfl)
theorem dX0_element_10 : decode cX0_element 10 = .ok (.lreturn, 1) := dk_173 (dk_at dksX0_element_0 10 rfl rfl)
theorem dX0_element_11 : decode cX0_element 11 = .ok (.aload_n 0, 1) := dk_42 (dk_at dksX0_element_0 11 rfl rfl)
theorem dX0_element_12 : decode cX0_element 12 = .ok (.getfield 77, 3) := dk_180 0 77 (dk_at dksX0_element_0 12 rfl rfl)
theorem dX0_element_15 : decode cX0_element 15 = .ok (.iload_n 1, 1) := dk_27 (dk_at dksX0_element_0 15 rfl rfl)
theorem dX0_element_16 : decode cX0_element 16 = .ok (.aaload, 1) := dk_50 (dk_at dksX0_element_0 16 rfl rfl)
theorem dX0_element_17 : decode cX0_element 17 = .ok (.checkcast 481, 3) := dk_192 1 225 (dk_at dksX0_element_0 17 rfl rfl)
theorem dX0_element_20 : decode cX0_element 20 = .ok (.iload_n 2, 1) := dk_28 (dk_at dksX0_element_0 20 rfl rfl)
theorem dX0_element_21 : decode cX0_element 21 = .ok (.invokevirtual 487, 3) := dk_182 1 231 (dk_at dksX0_element_0 21 rfl rfl)
theorem dX0_element_24 : decode cX0_element 24 = .ok (.lreturn, 1) := dk_173 (dk_at dksX0_element_1 0 rfl rfl)
theorem dX0_element_25 : decode cX0_element 25 = .ok (.astore_n 3, 1) := dk_78 (dk_at dksX0_element_1 1 rfl rfl)
theorem dX0_element_26 : decode cX0_element 26 = .ok (.ldc2_w 340, 3) := dk_20 1 84 (dk_at dksX0_element_1 2 rfl rfl)
theorem dX0_element_29 : decode cX0_element 29 = .ok (.lreturn, 1) := dk_173 (dk_at dksX0_element_1 5 rfl rfl)
theorem dX0_element_30 : decode cX0_element 30 = .ok (.astore_n 3, 1) := dk_78 (dk_at dksX0_element_1 6 rfl rfl)
theorem dX0_element_31 : decode cX0_element 31 = .ok (.ldc2_w 340, 3) := dk_20 1 84 (dk_at dksX0_element_1 7 rfl rfl)
theorem dX0_element_34 : decode cX0_element 34 = .ok (.lreturn, 1) := dk_173 (dk_at dksX0_element_1 10 rfl rfl)
theorem dX0_element_35 : decode cX0_element 35 = .ok (.astore_n 3, 1) := dk_78 (dk_at dksX0_element_1 11 rfl rfl)
theorem dX0_element_36 : decode cX0_element 36 = .ok (.ldc2_w 340, 3) := dk_20 1 84 (dk_at dksX0_element_1 12 rfl rfl)
theorem dX0_element_39 : decode cX0_element 39 = .ok (.lreturn, 1) := dk_173 (dk_at dksX0_element_1 15 rfl rfl)
abbrev cX0_shift : ByteArray := prog_1_method_83_code
def yX0_shift : MethodName := ⟨RX0, "shift", "(IIIII)I"⟩
def dkwX0_shift_3 : List UInt8 := [172, 58, 6, 16, 243, 172, 21, 5, 172]
abbrev dktX0_shift_3 : List UInt8 := dkwX0_shift_3 ++ []
def dkwX0_shift_2 : List UInt8 := [28, 42, 180, 0, 77, 29, 50, 192, 1, 225, 21, 4, 21, 5, 182, 1, 232, 167, 0, 13, 58, 6, 16, 244]
abbrev dktX0_shift_2 : List UInt8 := dkwX0_shift_2 ++ dktX0_shift_3
def dkwX0_shift_1 : List UInt8 := [198, 0, 12, 42, 180, 0, 77, 29, 50, 199, 0, 6, 16, 245, 172, 42, 180, 0, 77, 27, 50, 192, 1, 225]
abbrev dktX0_shift_1 : List UInt8 := dkwX0_shift_1 ++ dktX0_shift_2
def dkwX0_shift_0 : List UInt8 := [27, 184, 0, 99, 153, 0, 10, 29, 184, 0, 99, 154, 0, 5, 2, 172, 42, 180, 0, 77, 27, 50]
abbrev dktX0_shift_0 : List UInt8 := dkwX0_shift_0 ++ dktX0_shift_1
theorem dksX0_shift_0 : cX0_shift.data.toList.drop 0 = dktX0_shift_0 := by decide +kernel
theorem dksX0_shift_1 : cX0_shift.data.toList.drop 22 = dktX0_shift_1 := dk_seg dksX0_shift_0 22 rfl rfl
theorem dksX0_shift_2 : cX0_shift.data.toList.drop 46 = dktX0_shift_2 := dk_seg dksX0_shift_1 24 rfl rfl
theorem dksX0_shift_3 : cX0_shift.data.toList.drop 70 = dktX0_shift_3 := dk_seg dksX0_shift_2 24 rfl rfl
theorem dX0_shift_0 : decode cX0_shift 0 = .ok (.iload_n 1, 1) := dk_27 (dk_at dksX0_shift_0 0 rfl rfl)
theorem dX0_shift_1 : decode cX0_shift 1 = .ok (.invokestatic 99, 3) := dk_184 0 99 (dk_at dksX0_shift_0 1 rfl rfl)
theorem dX0_shift_4 : decode cX0_shift 4 = .ok (.ifCond .eq 10, 3) := dk_153 0 10 (dk_at dksX0_shift_0 4 rfl rfl)
theorem dX0_shift_7 : decode cX0_shift 7 = .ok (.iload_n 3, 1) := dk_29 (dk_at dksX0_shift_0 7 rfl rfl)
theorem dX0_shift_8 : decode cX0_shift 8 = .ok (.invokestatic 99, 3) := dk_184 0 99 (dk_at dksX0_shift_0 8 rfl rfl)
theorem dX0_shift_11 : decode cX0_shift 11 = .ok (.ifCond .ne 5, 3) := dk_154 0 5 (dk_at dksX0_shift_0 11 rfl rfl)
theorem dX0_shift_14 : decode cX0_shift 14 = .ok (.iconst (-1), 1) := dk_2 (dk_at dksX0_shift_0 14 rfl rfl)
theorem dX0_shift_15 : decode cX0_shift 15 = .ok (.ireturn, 1) := dk_172 (dk_at dksX0_shift_0 15 rfl rfl)
theorem dX0_shift_16 : decode cX0_shift 16 = .ok (.aload_n 0, 1) := dk_42 (dk_at dksX0_shift_0 16 rfl rfl)
theorem dX0_shift_17 : decode cX0_shift 17 = .ok (.getfield 77, 3) := dk_180 0 77 (dk_at dksX0_shift_0 17 rfl rfl)
theorem dX0_shift_20 : decode cX0_shift 20 = .ok (.iload_n 1, 1) := dk_27 (dk_at dksX0_shift_0 20 rfl rfl)
theorem dX0_shift_21 : decode cX0_shift 21 = .ok (.aaload, 1) := dk_50 (dk_at dksX0_shift_0 21 rfl rfl)
theorem dX0_shift_22 : decode cX0_shift 22 = .ok (.ifnull 12, 3) := dk_198 0 12 (dk_at dksX0_shift_1 0 rfl rfl)
theorem dX0_shift_25 : decode cX0_shift 25 = .ok (.aload_n 0, 1) := dk_42 (dk_at dksX0_shift_1 3 rfl rfl)
theorem dX0_shift_26 : decode cX0_shift 26 = .ok (.getfield 77, 3) := dk_180 0 77 (dk_at dksX0_shift_1 4 rfl rfl)
theorem dX0_shift_29 : decode cX0_shift 29 = .ok (.iload_n 3, 1) := dk_29 (dk_at dksX0_shift_1 7 rfl rfl)
theorem dX0_shift_30 : decode cX0_shift 30 = .ok (.aaload, 1) := dk_50 (dk_at dksX0_shift_1 8 rfl rfl)
theorem dX0_shift_31 : decode cX0_shift 31 = .ok (.ifnonnull 6, 3) := dk_199 0 6 (dk_at dksX0_shift_1 9 rfl rfl)
theorem dX0_shift_34 : decode cX0_shift 34 = .ok (.bipush (-11), 2) := dk_16 245 (dk_at dksX0_shift_1 12 rfl rfl)
theorem dX0_shift_36 : decode cX0_shift 36 = .ok (.ireturn, 1) := dk_172 (dk_at dksX0_shift_1 14 rfl rfl)
theorem dX0_shift_37 : decode cX0_shift 37 = .ok (.aload_n 0, 1) := dk_42 (dk_at dksX0_shift_1 15 rfl rfl)
theorem dX0_shift_38 : decode cX0_shift 38 = .ok (.getfield 77, 3) := dk_180 0 77 (dk_at dksX0_shift_1 16 rfl rfl)
theorem dX0_shift_41 : decode cX0_shift 41 = .ok (.iload_n 1, 1) := dk_27 (dk_at dksX0_shift_1 19 rfl rfl)
theorem dX0_shift_42 : decode cX0_shift 42 = .ok (.aaload, 1) := dk_50 (dk_at dksX0_shift_1 20 rfl rfl)
theorem dX0_shift_43 : decode cX0_shift 43 = .ok (.checkcast 481, 3) := dk_192 1 225 (dk_at dksX0_shift_1 21 rfl rfl)
theorem dX0_shift_46 : decode cX0_shift 46 = .ok (.iload_n 2, 1) := dk_28 (dk_at dksX0_shift_2 0 rfl rfl)
theorem dX0_shift_47 : decode cX0_shift 47 = .ok (.aload_n 0, 1) := dk_42 (dk_at dksX0_shift_2 1 rfl rfl)
theorem dX0_shift_48 : decode cX0_shift 48 = .ok (.getfield 77, 3) := dk_180 0 77 (dk_at dksX0_shift_2 2 rfl rfl)
theorem dX0_shift_51 : decode cX0_shift 51 = .ok (.iload_n 3, 1) := dk_29 (dk_at dksX0_shift_2 5 rfl rfl)
theorem dX0_shift_52 : decode cX0_shift 52 = .ok (.aaload, 1) := dk_50 (dk_at dksX0_shift_2 6 rfl rfl)
theorem dX0_shift_53 : decode cX0_shift 53 = .ok (.checkcast 481, 3) := dk_192 1 225 (dk_at dksX0_shift_2 7 rfl rfl)
theorem dX0_shift_56 : decode cX0_shift 56 = .ok (.iload 4, 2) := dk_21 4 (dk_at dksX0_shift_2 10 rfl rfl)
theorem dX0_shift_58 : decode cX0_shift 58 = .ok (.iload 5, 2) := dk_21 5 (dk_at dksX0_shift_2 12 rfl rfl)
theorem dX0_shift_60 : decode cX0_shift 60 = .ok (.invokevirtual 488, 3) := dk_182 1 232 (dk_at dksX0_shift_2 14 rfl rfl)
theorem dX0_shift_63 : decode cX0_shift 63 = .ok (.goto 13, 3) := dk_167 0 13 (dk_at dksX0_shift_2 17 rfl rfl)
theorem dX0_shift_66 : decode cX0_shift 66 = .ok (.astore 6, 2) := dk_58 6 (dk_at dksX0_shift_2 20 rfl rfl)
theorem dX0_shift_68 : decode cX0_shift 68 = .ok (.bipush (-12), 2) := dk_16 244 (dk_at dksX0_shift_2 22 rfl rfl)
theorem dX0_shift_70 : decode cX0_shift 70 = .ok (.ireturn, 1) := dk_172 (dk_at dksX0_shift_3 0 rfl rfl)
theorem dX0_shift_71 : decode cX0_shift 71 = .ok (.astore 6, 2) := dk_58 6 (dk_at dksX0_shift_3 1 rfl rfl)
theorem dX0_shift_73 : decode cX0_shift 73 = .ok (.bipush (-13), 2) := dk_16 243 (dk_at dksX0_shift_3 3 rfl rfl)
theorem dX0_shift_75 : decode cX0_shift 75 = .ok (.ireturn, 1) := dk_172 (dk_at dksX0_shift_3 5 rfl rfl)
theorem dX0_shift_76 : decode cX0_shift 76 = .ok (.iload 5, 2) := dk_21 5 (dk_at dksX0_shift_3 6 rfl rfl)
theorem dX0_shift_78 : decode cX0_shift 78 = .ok (.ireturn, 1) := dk_172 (dk_at dksX0_shift_3 8 rfl rfl)
abbrev cX0_taken : ByteArray := prog_1_method_84_code
def yX0_taken : MethodName := ⟨RX0, "taken", "(II)I"⟩
def dkwX0_taken_2 : List UInt8 := [16, 245, 172, 78, 16, 244, 172]
abbrev dktX0_taken_2 : List UInt8 := dkwX0_taken_2 ++ []
def dkwX0_taken_1 : List UInt8 := [50, 192, 0, 69, 78, 45, 28, 182, 1, 236, 153, 0, 10, 45, 182, 1, 239, 167, 0, 5, 16, 244, 172, 78]
abbrev dktX0_taken_1 : List UInt8 := dkwX0_taken_1 ++ dktX0_taken_2
def dkwX0_taken_0 : List UInt8 := [27, 184, 0, 99, 153, 0, 13, 28, 3, 16, 7, 184, 0, 81, 154, 0, 5, 2, 172, 42, 180, 0, 77, 27]
abbrev dktX0_taken_0 : List UInt8 := dkwX0_taken_0 ++ dktX0_taken_1
theorem dksX0_taken_0 : cX0_taken.data.toList.drop 0 = dktX0_taken_0 := by decide +kernel
theorem dksX0_taken_1 : cX0_taken.data.toList.drop 24 = dktX0_taken_1 := dk_seg dksX0_taken_0 24 rfl rfl
theorem dksX0_taken_2 : cX0_taken.data.toList.drop 48 = dktX0_taken_2 := dk_seg dksX0_taken_1 24 rfl rfl
theorem dX0_taken_0 : decode cX0_taken 0 = .ok (.iload_n 1, 1) := dk_27 (dk_at dksX0_taken_0 0 rfl rfl)
theorem dX0_taken_1 : decode cX0_taken 1 = .ok (.invokestatic 99, 3) := dk_184 0 99 (dk_at dksX0_taken_0 1 rfl rfl)
theorem dX0_taken_4 : decode cX0_taken 4 = .ok (.ifCond .eq 13, 3) := dk_153 0 13 (dk_at dksX0_taken_0 4 rfl rfl)
theorem dX0_taken_7 : decode cX0_taken 7 = .ok (.iload_n 2, 1) := dk_28 (dk_at dksX0_taken_0 7 rfl rfl)
theorem dX0_taken_8 : decode cX0_taken 8 = .ok (.iconst 0, 1) := dk_3 (dk_at dksX0_taken_0 8 rfl rfl)
theorem dX0_taken_9 : decode cX0_taken 9 = .ok (.bipush 7, 2) := dk_16 7 (dk_at dksX0_taken_0 9 rfl rfl)
theorem dX0_taken_11 : decode cX0_taken 11 = .ok (.invokestatic 81, 3) := dk_184 0 81 (dk_at dksX0_taken_0 11 rfl rfl)
theorem dX0_taken_14 : decode cX0_taken 14 = .ok (.ifCond .ne 5, 3) := dk_154 0 5 (dk_at dksX0_taken_0 14 rfl rfl)
theorem dX0_taken_17 : decode cX0_taken 17 = .ok (.iconst (-1), 1) := dk_2 (dk_at dksX0_taken_0 17 rfl rfl)
theorem dX0_taken_18 : decode cX0_taken 18 = .ok (.ireturn, 1) := dk_172 (dk_at dksX0_taken_0 18 rfl rfl)
theorem dX0_taken_19 : decode cX0_taken 19 = .ok (.aload_n 0, 1) := dk_42 (dk_at dksX0_taken_0 19 rfl rfl)
theorem dX0_taken_20 : decode cX0_taken 20 = .ok (.getfield 77, 3) := dk_180 0 77 (dk_at dksX0_taken_0 20 rfl rfl)
theorem dX0_taken_23 : decode cX0_taken 23 = .ok (.iload_n 1, 1) := dk_27 (dk_at dksX0_taken_0 23 rfl rfl)
theorem dX0_taken_24 : decode cX0_taken 24 = .ok (.aaload, 1) := dk_50 (dk_at dksX0_taken_1 0 rfl rfl)
theorem dX0_taken_25 : decode cX0_taken 25 = .ok (.checkcast 69, 3) := dk_192 0 69 (dk_at dksX0_taken_1 1 rfl rfl)
theorem dX0_taken_28 : decode cX0_taken 28 = .ok (.astore_n 3, 1) := dk_78 (dk_at dksX0_taken_1 4 rfl rfl)
theorem dX0_taken_29 : decode cX0_taken 29 = .ok (.aload_n 3, 1) := dk_45 (dk_at dksX0_taken_1 5 rfl rfl)
theorem dX0_taken_30 : decode cX0_taken 30 = .ok (.iload_n 2, 1) := dk_28 (dk_at dksX0_taken_1 6 rfl rfl)
theorem dX0_taken_31 : decode cX0_taken 31 = .ok (.invokevirtual 492, 3) := dk_182 1 236 (dk_at dksX0_taken_1 7 rfl rfl)
theorem dX0_taken_34 : decode cX0_taken 34 = .ok (.ifCond .eq 10, 3) := dk_153 0 10 (dk_at dksX0_taken_1 10 rfl rfl)
theorem dX0_taken_37 : decode cX0_taken 37 = .ok (.aload_n 3, 1) := dk_45 (dk_at dksX0_taken_1 13 rfl rfl)
theorem dX0_taken_38 : decode cX0_taken 38 = .ok (.invokevirtual 495, 3) := dk_182 1 239 (dk_at dksX0_taken_1 14 rfl rfl)
theorem dX0_taken_41 : decode cX0_taken 41 = .ok (.goto 5, 3) := dk_167 0 5 (dk_at dksX0_taken_1 17 rfl rfl)
theorem dX0_taken_44 : decode cX0_taken 44 = .ok (.bipush (-12), 2) := dk_16 244 (dk_at dksX0_taken_1 20 rfl rfl)
theorem dX0_taken_46 : decode cX0_taken 46 = .ok (.ireturn, 1) := dk_172 (dk_at dksX0_taken_1 22 rfl rfl)
theorem dX0_taken_47 : decode cX0_taken 47 = .ok (.astore_n 3, 1) := dk_78 (dk_at dksX0_taken_1 23 rfl rfl)
theorem dX0_taken_48 : decode cX0_taken 48 = .ok (.bipush (-11), 2) := dk_16 245 (dk_at dksX0_taken_2 0 rfl rfl)
theorem dX0_taken_50 : decode cX0_taken 50 = .ok (.ireturn, 1) := dk_172 (dk_at dksX0_taken_2 2 rfl rfl)
theorem dX0_taken_51 : decode cX0_taken 51 = .ok (.astore_n 3, 1) := dk_78 (dk_at dksX0_taken_2 3 rfl rfl)
theorem dX0_taken_52 : decode cX0_taken 52 = .ok (.bipush (-12), 2) := dk_16 244 (dk_at dksX0_taken_2 4 rfl rfl)
theorem dX0_taken_54 : decode cX0_taken 54 = .ok (.ireturn, 1) := dk_172 (dk_at dksX0_taken_2 6 rfl rfl)
abbrev cX0_count : ByteArray := prog_1_method_85_code
def yX0_count : MethodName := ⟨RX0, "count", "(I)I"⟩
def dkwX0_count_3 : List UInt8 := [172, 42, 180, 1, 153, 172, 2, 172]
abbrev dktX0_count_3 : List UInt8 := dkwX0_count_3 ++ []
def dkwX0_count_2 : List UInt8 := [42, 180, 0, 85, 172, 42, 182, 1, 242, 172, 42, 180, 0, 178, 172, 42, 180, 0, 135, 172, 42, 180, 1, 156]
abbrev dktX0_count_2 : List UInt8 := dkwX0_count_2 ++ dktX0_count_3
def dkwX0_count_1 : List UInt8 := [170, 0, 0, 0, 0, 0, 69, 0, 0, 0, 0, 0, 0, 0, 5, 0, 0, 0, 39, 0, 0, 0, 44, 0, 0, 0, 49, 0, 0, 0, 54, 0, 0, 0, 59, 0, 0, 0, 64]
abbrev dktX0_count_1 : List UInt8 := dkwX0_count_1 ++ dktX0_count_2
def dkwX0_count_0 : List UInt8 := [27]
abbrev dktX0_count_0 : List UInt8 := dkwX0_count_0 ++ dktX0_count_1
theorem dksX0_count_0 : cX0_count.data.toList.drop 0 = dktX0_count_0 := by decide +kernel
theorem dksX0_count_1 : cX0_count.data.toList.drop 1 = dktX0_count_1 := dk_seg dksX0_count_0 1 rfl rfl
theorem dksX0_count_2 : cX0_count.data.toList.drop 40 = dktX0_count_2 := dk_seg dksX0_count_1 39 rfl rfl
theorem dksX0_count_3 : cX0_count.data.toList.drop 64 = dktX0_count_3 := dk_seg dksX0_count_2 24 rfl rfl
theorem dX0_count_0 : decode cX0_count 0 = .ok (.iload_n 1, 1) := dk_27 (dk_at dksX0_count_0 0 rfl rfl)
theorem dX0_count_1 : decode cX0_count 1 = .ok (.tableswitch 69 0 5 #[39, 44, 49, 54, 59, 64], 39) := by decide +kernel
theorem dX0_count_40 : decode cX0_count 40 = .ok (.aload_n 0, 1) := dk_42 (dk_at dksX0_count_2 0 rfl rfl)
theorem dX0_count_41 : decode cX0_count 41 = .ok (.getfield 85, 3) := dk_180 0 85 (dk_at dksX0_count_2 1 rfl rfl)
theorem dX0_count_44 : decode cX0_count 44 = .ok (.ireturn, 1) := dk_172 (dk_at dksX0_count_2 4 rfl rfl)
theorem dX0_count_45 : decode cX0_count 45 = .ok (.aload_n 0, 1) := dk_42 (dk_at dksX0_count_2 5 rfl rfl)
theorem dX0_count_46 : decode cX0_count 46 = .ok (.invokevirtual 498, 3) := dk_182 1 242 (dk_at dksX0_count_2 6 rfl rfl)
theorem dX0_count_49 : decode cX0_count 49 = .ok (.ireturn, 1) := dk_172 (dk_at dksX0_count_2 9 rfl rfl)
theorem dX0_count_50 : decode cX0_count 50 = .ok (.aload_n 0, 1) := dk_42 (dk_at dksX0_count_2 10 rfl rfl)
theorem dX0_count_51 : decode cX0_count 51 = .ok (.getfield 178, 3) := dk_180 0 178 (dk_at dksX0_count_2 11 rfl rfl)
theorem dX0_count_54 : decode cX0_count 54 = .ok (.ireturn, 1) := dk_172 (dk_at dksX0_count_2 14 rfl rfl)
theorem dX0_count_55 : decode cX0_count 55 = .ok (.aload_n 0, 1) := dk_42 (dk_at dksX0_count_2 15 rfl rfl)
theorem dX0_count_56 : decode cX0_count 56 = .ok (.getfield 135, 3) := dk_180 0 135 (dk_at dksX0_count_2 16 rfl rfl)
theorem dX0_count_59 : decode cX0_count 59 = .ok (.ireturn, 1) := dk_172 (dk_at dksX0_count_2 19 rfl rfl)
theorem dX0_count_60 : decode cX0_count 60 = .ok (.aload_n 0, 1) := dk_42 (dk_at dksX0_count_2 20 rfl rfl)
theorem dX0_count_61 : decode cX0_count 61 = .ok (.getfield 412, 3) := dk_180 1 156 (dk_at dksX0_count_2 21 rfl rfl)
theorem dX0_count_64 : decode cX0_count 64 = .ok (.ireturn, 1) := dk_172 (dk_at dksX0_count_3 0 rfl rfl)
theorem dX0_count_65 : decode cX0_count 65 = .ok (.aload_n 0, 1) := dk_42 (dk_at dksX0_count_3 1 rfl rfl)
theorem dX0_count_66 : decode cX0_count 66 = .ok (.getfield 409, 3) := dk_180 1 153 (dk_at dksX0_count_3 2 rfl rfl)
theorem dX0_count_69 : decode cX0_count 69 = .ok (.ireturn, 1) := dk_172 (dk_at dksX0_count_3 5 rfl rfl)
theorem dX0_count_70 : decode cX0_count 70 = .ok (.iconst (-1), 1) := dk_2 (dk_at dksX0_count_3 6 rfl rfl)
theorem dX0_count_71 : decode cX0_count 71 = .ok (.ireturn, 1) := dk_172 (dk_at dksX0_count_3 7 rfl rfl)
abbrev cX0_lackNow : ByteArray := prog_1_method_70_code
def yX0_lackNow : MethodName := ⟨RX0, "lackNow", "()I"⟩
def dkwX0_lackNow_0 : List UInt8 := [42, 182, 0, 252, 42, 182, 1, 50, 172]
abbrev dktX0_lackNow_0 : List UInt8 := dkwX0_lackNow_0 ++ []
theorem dksX0_lackNow_0 : cX0_lackNow.data.toList.drop 0 = dktX0_lackNow_0 := by decide +kernel
theorem dX0_lackNow_0 : decode cX0_lackNow 0 = .ok (.aload_n 0, 1) := dk_42 (dk_at dksX0_lackNow_0 0 rfl rfl)
theorem dX0_lackNow_1 : decode cX0_lackNow 1 = .ok (.invokevirtual 252, 3) := dk_182 0 252 (dk_at dksX0_lackNow_0 1 rfl rfl)
theorem dX0_lackNow_4 : decode cX0_lackNow 4 = .ok (.aload_n 0, 1) := dk_42 (dk_at dksX0_lackNow_0 4 rfl rfl)
theorem dX0_lackNow_5 : decode cX0_lackNow 5 = .ok (.invokevirtual 306, 3) := dk_182 1 50 (dk_at dksX0_lackNow_0 5 rfl rfl)
theorem dX0_lackNow_8 : decode cX0_lackNow 8 = .ok (.ireturn, 1) := dk_172 (dk_at dksX0_lackNow_0 8 rfl rfl)
theorem q90 : (Jvm.Cond.initialized "ShieldLine") ∈ lw_all := lw_g (lw_at lw_m1 1 rfl) rfl
theorem q135 : (Jvm.Cond.instantiable "ShieldLine" (45 : Nat)) ∈ lw_all := lw_g (lw_at lw_m1 46 rfl) rfl
theorem q137 : (Jvm.Cond.instanceMethod ({ cls := "ShieldLine", name := "<init>", desc := "()V" } : Jvm.MethodName)) ∈ lw_all := lw_g (lw_at lw_m1 48 rfl) rfl
theorem q138 : (Jvm.Cond.code ({ cls := "ShieldLine", name := "<init>", desc := "()V" } : Jvm.MethodName) prog_1_method_1_code (1 : Nat) (Option.none : Option Jvm.ClassFile.FieldType)) ∈ lw_all := lw_g (lw_at lw_m1 49 rfl) rfl
theorem q139 : (Jvm.Cond.methodLink "ShieldLine" (3 : Nat) ({ cls := "java/lang/Object", name := "<init>", desc := "()V" } : Jvm.MethodName)) ∈ lw_all := lw_g (lw_at lw_m1 50 rfl) rfl
theorem q142 : (Jvm.Cond.classLink "ShieldLine" (11 : Nat) "ShieldLine$Person") ∈ lw_all := lw_g (lw_at lw_m1 53 rfl) rfl
theorem q144 : (Jvm.Cond.classLink "ShieldLine" (21 : Nat) "ShieldLine$Change") ∈ lw_all := lw_g (lw_at lw_m1 55 rfl) rfl
theorem q146 : (Jvm.Cond.classLink "ShieldLine" (31 : Nat) "ShieldLine$Facts") ∈ lw_all := lw_g (lw_at lw_m1 57 rfl) rfl
theorem q148 : (Jvm.Cond.methodLinkNest "ShieldLine" (33 : Nat) ({ cls := "ShieldLine$Facts", name := "<init>", desc := "()V" } : Jvm.MethodName) "ShieldLine") ∈ lw_tbl := lw_at lw_m1 59 rfl
theorem q154 : (Jvm.Cond.fieldLinkNest "ShieldLine" (239 : Nat) "ShieldLine$Facts" "named" "[I" "ShieldLine") ∈ lw_tbl := lw_at lw_m1 65 rfl
theorem q160 : (Jvm.Cond.classLink "ShieldLine" (69 : Nat) "ShieldLine$Shield") ∈ lw_all := lw_g (lw_at lw_m1 71 rfl) rfl
theorem q162 : (Jvm.Cond.classLink "ShieldLine" (75 : Nat) "ShieldLine$Held") ∈ lw_all := lw_g (lw_at lw_m1 73 rfl) rfl
theorem q164 : (Jvm.Cond.fieldLink "ShieldLine" (13 : Nat) "ShieldLine" "people" "[LShieldLine$Person;") ∈ lw_all := lw_g (lw_at lw_m1 75 rfl) rfl
theorem q165 : (Jvm.Cond.fieldLink "ShieldLine" (85 : Nat) "ShieldLine" "many" "I") ∈ lw_all := lw_g (lw_at lw_m1 76 rfl) rfl
theorem q166 : (Jvm.Cond.fieldLink "ShieldLine" (17 : Nat) "ShieldLine" "wind" "I") ∈ lw_all := lw_g (lw_at lw_m1 77 rfl) rfl
theorem q167 : (Jvm.Cond.fieldLink "ShieldLine" (129 : Nat) "ShieldLine" "dayNow" "I") ∈ lw_all := lw_g (lw_at lw_m1 78 rfl) rfl
theorem q168 : (Jvm.Cond.fieldLink "ShieldLine" (23 : Nat) "ShieldLine" "changes" "[LShieldLine$Change;") ∈ lw_all := lw_g (lw_at lw_m1 79 rfl) rfl
theorem q169 : (Jvm.Cond.fieldLink "ShieldLine" (135 : Nat) "ShieldLine" "doneMany" "I") ∈ lw_all := lw_g (lw_at lw_m1 80 rfl) rfl
theorem q170 : (Jvm.Cond.fieldLink "ShieldLine" (132 : Nat) "ShieldLine" "undoneMany" "I") ∈ lw_all := lw_g (lw_at lw_m1 81 rfl) rfl
theorem q171 : (Jvm.Cond.fieldLink "ShieldLine" (27 : Nat) "ShieldLine" "tape" "[B") ∈ lw_all := lw_g (lw_at lw_m1 82 rfl) rfl
theorem q174 : (Jvm.Cond.fieldLink "ShieldLine" (178 : Nat) "ShieldLine" "taped" "I") ∈ lw_all := lw_g (lw_at lw_m1 85 rfl) rfl
theorem q175 : (Jvm.Cond.fieldLink "ShieldLine" (193 : Nat) "ShieldLine" "law" "LShieldLine$Line;") ∈ lw_all := lw_g (lw_at lw_m1 86 rfl) rfl
theorem q176 : (Jvm.Cond.fieldLink "ShieldLine" (34 : Nat) "ShieldLine" "facts" "LShieldLine$Facts;") ∈ lw_all := lw_g (lw_at lw_m1 87 rfl) rfl
theorem q177 : (Jvm.Cond.fieldLink "ShieldLine" (38 : Nat) "ShieldLine" "store1" "[I") ∈ lw_all := lw_g (lw_at lw_m1 88 rfl) rfl
theorem q178 : (Jvm.Cond.fieldLink "ShieldLine" (42 : Nat) "ShieldLine" "whom1" "[I") ∈ lw_all := lw_g (lw_at lw_m1 89 rfl) rfl
theorem q179 : (Jvm.Cond.fieldLink "ShieldLine" (45 : Nat) "ShieldLine" "came1" "[I") ∈ lw_all := lw_g (lw_at lw_m1 90 rfl) rfl
theorem q180 : (Jvm.Cond.fieldLink "ShieldLine" (48 : Nat) "ShieldLine" "carers1" "[I") ∈ lw_all := lw_g (lw_at lw_m1 91 rfl) rfl
theorem q181 : (Jvm.Cond.fieldLink "ShieldLine" (215 : Nat) "ShieldLine" "day1" "I") ∈ lw_all := lw_g (lw_at lw_m1 92 rfl) rfl
theorem q182 : (Jvm.Cond.fieldLink "ShieldLine" (218 : Nat) "ShieldLine" "there1" "I") ∈ lw_all := lw_g (lw_at lw_m1 93 rfl) rfl
theorem q183 : (Jvm.Cond.fieldLink "ShieldLine" (221 : Nat) "ShieldLine" "allCame" "I") ∈ lw_all := lw_g (lw_at lw_m1 94 rfl) rfl
theorem q184 : (Jvm.Cond.fieldLink "ShieldLine" (51 : Nat) "ShieldLine" "tried" "[I") ∈ lw_all := lw_g (lw_at lw_m1 95 rfl) rfl
theorem q185 : (Jvm.Cond.fieldLink "ShieldLine" (54 : Nat) "ShieldLine" "bestTried" "[I") ∈ lw_all := lw_g (lw_at lw_m1 96 rfl) rfl
theorem q186 : (Jvm.Cond.fieldLink "ShieldLine" (309 : Nat) "ShieldLine" "bestCount" "I") ∈ lw_all := lw_g (lw_at lw_m1 97 rfl) rfl
theorem q187 : (Jvm.Cond.fieldLink "ShieldLine" (312 : Nat) "ShieldLine" "bestStore" "I") ∈ lw_all := lw_g (lw_at lw_m1 98 rfl) rfl
theorem q188 : (Jvm.Cond.fieldLink "ShieldLine" (57 : Nat) "ShieldLine" "told" "[I") ∈ lw_all := lw_g (lw_at lw_m1 99 rfl) rfl
theorem q189 : (Jvm.Cond.fieldLink "ShieldLine" (321 : Nat) "ShieldLine" "toldMany" "I") ∈ lw_all := lw_g (lw_at lw_m1 100 rfl) rfl
theorem q190 : (Jvm.Cond.fieldLink "ShieldLine" (351 : Nat) "ShieldLine" "turnDays" "I") ∈ lw_all := lw_g (lw_at lw_m1 101 rfl) rfl
theorem q191 : (Jvm.Cond.fieldLink "ShieldLine" (369 : Nat) "ShieldLine" "ledDays" "I") ∈ lw_all := lw_g (lw_at lw_m1 102 rfl) rfl
theorem q192 : (Jvm.Cond.fieldLink "ShieldLine" (372 : Nat) "ShieldLine" "ledCame" "I") ∈ lw_all := lw_g (lw_at lw_m1 103 rfl) rfl
theorem q193 : (Jvm.Cond.fieldLink "ShieldLine" (378 : Nat) "ShieldLine" "ledCares" "I") ∈ lw_all := lw_g (lw_at lw_m1 104 rfl) rfl
theorem q194 : (Jvm.Cond.fieldLink "ShieldLine" (381 : Nat) "ShieldLine" "ledGiven" "I") ∈ lw_all := lw_g (lw_at lw_m1 105 rfl) rfl
theorem q195 : (Jvm.Cond.fieldLink "ShieldLine" (375 : Nat) "ShieldLine" "ledLacked" "I") ∈ lw_all := lw_g (lw_at lw_m1 106 rfl) rfl
theorem q196 : (Jvm.Cond.fieldLink "ShieldLine" (384 : Nat) "ShieldLine" "hasImage" "Z") ∈ lw_all := lw_g (lw_at lw_m1 107 rfl) rfl
theorem q197 : (Jvm.Cond.fieldLink "ShieldLine" (60 : Nat) "ShieldLine" "keptStore" "[I") ∈ lw_all := lw_g (lw_at lw_m1 108 rfl) rfl
theorem q198 : (Jvm.Cond.fieldLink "ShieldLine" (63 : Nat) "ShieldLine" "keptWhom" "[I") ∈ lw_all := lw_g (lw_at lw_m1 109 rfl) rfl
theorem q199 : (Jvm.Cond.fieldLink "ShieldLine" (388 : Nat) "ShieldLine" "keptMany" "I") ∈ lw_all := lw_g (lw_at lw_m1 110 rfl) rfl
theorem q200 : (Jvm.Cond.fieldLink "ShieldLine" (391 : Nat) "ShieldLine" "keptDay" "I") ∈ lw_all := lw_g (lw_at lw_m1 111 rfl) rfl
theorem q201 : (Jvm.Cond.fieldLink "ShieldLine" (394 : Nat) "ShieldLine" "keptDays" "I") ∈ lw_all := lw_g (lw_at lw_m1 112 rfl) rfl
theorem q202 : (Jvm.Cond.fieldLink "ShieldLine" (397 : Nat) "ShieldLine" "keptCame" "I") ∈ lw_all := lw_g (lw_at lw_m1 113 rfl) rfl
theorem q203 : (Jvm.Cond.fieldLink "ShieldLine" (400 : Nat) "ShieldLine" "keptCares" "I") ∈ lw_all := lw_g (lw_at lw_m1 114 rfl) rfl
theorem q204 : (Jvm.Cond.fieldLink "ShieldLine" (403 : Nat) "ShieldLine" "keptGiven" "I") ∈ lw_all := lw_g (lw_at lw_m1 115 rfl) rfl
theorem q205 : (Jvm.Cond.fieldLink "ShieldLine" (406 : Nat) "ShieldLine" "keptLacked" "I") ∈ lw_all := lw_g (lw_at lw_m1 116 rfl) rfl
theorem q206 : (Jvm.Cond.fieldLink "ShieldLine" (409 : Nat) "ShieldLine" "traces" "I") ∈ lw_all := lw_g (lw_at lw_m1 117 rfl) rfl
theorem q207 : (Jvm.Cond.fieldLink "ShieldLine" (66 : Nat) "ShieldLine" "traced" "[B") ∈ lw_all := lw_g (lw_at lw_m1 118 rfl) rfl
theorem q208 : (Jvm.Cond.fieldLink "ShieldLine" (71 : Nat) "ShieldLine" "bodies" "[LShieldLine$Shield;") ∈ lw_all := lw_g (lw_at lw_m1 119 rfl) rfl
theorem q209 : (Jvm.Cond.fieldLink "ShieldLine" (412 : Nat) "ShieldLine" "bodyMany" "I") ∈ lw_all := lw_g (lw_at lw_m1 120 rfl) rfl
theorem q210 : (Jvm.Cond.fieldLink "ShieldLine" (77 : Nat) "ShieldLine" "shelves" "[LShieldLine$Held;") ∈ lw_all := lw_g (lw_at lw_m1 121 rfl) rfl
theorem q211 : (Jvm.Cond.laysFinal "ShieldLine" "ShieldLine" "people" "[LShieldLine$Person;") ∈ lw_all := lw_g (lw_at lw_m1 122 rfl) rfl
theorem q212 : (Jvm.Cond.soleField "ShieldLine" "people") ∈ lw_all := lw_g (lw_at lw_m1 123 rfl) rfl
theorem q213 : (Jvm.Cond.lays "ShieldLine" "ShieldLine" "many" "I") ∈ lw_all := lw_g (lw_at lw_m1 124 rfl) rfl
theorem q214 : (Jvm.Cond.soleField "ShieldLine" "many") ∈ lw_all := lw_g (lw_at lw_m1 125 rfl) rfl
theorem q215 : (Jvm.Cond.lays "ShieldLine" "ShieldLine" "wind" "I") ∈ lw_all := lw_g (lw_at lw_m1 126 rfl) rfl
theorem q216 : (Jvm.Cond.soleField "ShieldLine" "wind") ∈ lw_all := lw_g (lw_at lw_m1 127 rfl) rfl
theorem q217 : (Jvm.Cond.lays "ShieldLine" "ShieldLine" "dayNow" "I") ∈ lw_all := lw_g (lw_at lw_m1 128 rfl) rfl
theorem q218 : (Jvm.Cond.soleField "ShieldLine" "dayNow") ∈ lw_all := lw_g (lw_at lw_m1 129 rfl) rfl
theorem q219 : (Jvm.Cond.laysFinal "ShieldLine" "ShieldLine" "changes" "[LShieldLine$Change;") ∈ lw_all := lw_g (lw_at lw_m1 130 rfl) rfl
theorem q220 : (Jvm.Cond.soleField "ShieldLine" "changes") ∈ lw_all := lw_g (lw_at lw_m1 131 rfl) rfl
theorem q221 : (Jvm.Cond.lays "ShieldLine" "ShieldLine" "doneMany" "I") ∈ lw_all := lw_g (lw_at lw_m1 132 rfl) rfl
theorem q222 : (Jvm.Cond.soleField "ShieldLine" "doneMany") ∈ lw_all := lw_g (lw_at lw_m1 133 rfl) rfl
theorem q223 : (Jvm.Cond.lays "ShieldLine" "ShieldLine" "undoneMany" "I") ∈ lw_all := lw_g (lw_at lw_m1 134 rfl) rfl
theorem q224 : (Jvm.Cond.soleField "ShieldLine" "undoneMany") ∈ lw_all := lw_g (lw_at lw_m1 135 rfl) rfl
theorem q225 : (Jvm.Cond.laysFinal "ShieldLine" "ShieldLine" "tape" "[B") ∈ lw_all := lw_g (lw_at lw_m1 136 rfl) rfl
theorem q226 : (Jvm.Cond.soleField "ShieldLine" "tape") ∈ lw_all := lw_g (lw_at lw_m1 137 rfl) rfl
theorem q227 : (Jvm.Cond.lays "ShieldLine" "ShieldLine" "taped" "I") ∈ lw_all := lw_g (lw_at lw_m1 138 rfl) rfl
theorem q228 : (Jvm.Cond.soleField "ShieldLine" "taped") ∈ lw_all := lw_g (lw_at lw_m1 139 rfl) rfl
theorem q229 : (Jvm.Cond.lays "ShieldLine" "ShieldLine" "law" "LShieldLine$Line;") ∈ lw_all := lw_g (lw_at lw_m1 140 rfl) rfl
theorem q230 : (Jvm.Cond.soleField "ShieldLine" "law") ∈ lw_all := lw_g (lw_at lw_m1 141 rfl) rfl
theorem q231 : (Jvm.Cond.laysFinal "ShieldLine" "ShieldLine" "facts" "LShieldLine$Facts;") ∈ lw_all := lw_g (lw_at lw_m1 142 rfl) rfl
theorem q232 : (Jvm.Cond.soleField "ShieldLine" "facts") ∈ lw_all := lw_g (lw_at lw_m1 143 rfl) rfl
theorem q233 : (Jvm.Cond.laysFinal "ShieldLine" "ShieldLine" "store1" "[I") ∈ lw_all := lw_g (lw_at lw_m1 144 rfl) rfl
theorem q234 : (Jvm.Cond.soleField "ShieldLine" "store1") ∈ lw_all := lw_g (lw_at lw_m1 145 rfl) rfl
theorem q235 : (Jvm.Cond.laysFinal "ShieldLine" "ShieldLine" "whom1" "[I") ∈ lw_all := lw_g (lw_at lw_m1 146 rfl) rfl
theorem q236 : (Jvm.Cond.soleField "ShieldLine" "whom1") ∈ lw_all := lw_g (lw_at lw_m1 147 rfl) rfl
theorem q237 : (Jvm.Cond.laysFinal "ShieldLine" "ShieldLine" "came1" "[I") ∈ lw_all := lw_g (lw_at lw_m1 148 rfl) rfl
theorem q238 : (Jvm.Cond.soleField "ShieldLine" "came1") ∈ lw_all := lw_g (lw_at lw_m1 149 rfl) rfl
theorem q239 : (Jvm.Cond.laysFinal "ShieldLine" "ShieldLine" "carers1" "[I") ∈ lw_all := lw_g (lw_at lw_m1 150 rfl) rfl
theorem q240 : (Jvm.Cond.soleField "ShieldLine" "carers1") ∈ lw_all := lw_g (lw_at lw_m1 151 rfl) rfl
theorem q241 : (Jvm.Cond.lays "ShieldLine" "ShieldLine" "day1" "I") ∈ lw_all := lw_g (lw_at lw_m1 152 rfl) rfl
theorem q242 : (Jvm.Cond.soleField "ShieldLine" "day1") ∈ lw_all := lw_g (lw_at lw_m1 153 rfl) rfl
theorem q243 : (Jvm.Cond.lays "ShieldLine" "ShieldLine" "there1" "I") ∈ lw_all := lw_g (lw_at lw_m1 154 rfl) rfl
theorem q244 : (Jvm.Cond.soleField "ShieldLine" "there1") ∈ lw_all := lw_g (lw_at lw_m1 155 rfl) rfl
theorem q245 : (Jvm.Cond.lays "ShieldLine" "ShieldLine" "allCame" "I") ∈ lw_all := lw_g (lw_at lw_m1 156 rfl) rfl
theorem q246 : (Jvm.Cond.soleField "ShieldLine" "allCame") ∈ lw_all := lw_g (lw_at lw_m1 157 rfl) rfl
theorem q247 : (Jvm.Cond.laysFinal "ShieldLine" "ShieldLine" "tried" "[I") ∈ lw_all := lw_g (lw_at lw_m1 158 rfl) rfl
theorem q248 : (Jvm.Cond.soleField "ShieldLine" "tried") ∈ lw_all := lw_g (lw_at lw_m1 159 rfl) rfl
theorem q249 : (Jvm.Cond.laysFinal "ShieldLine" "ShieldLine" "bestTried" "[I") ∈ lw_all := lw_g (lw_at lw_m1 160 rfl) rfl
theorem q250 : (Jvm.Cond.soleField "ShieldLine" "bestTried") ∈ lw_all := lw_g (lw_at lw_m1 161 rfl) rfl
theorem q251 : (Jvm.Cond.lays "ShieldLine" "ShieldLine" "bestCount" "I") ∈ lw_all := lw_g (lw_at lw_m1 162 rfl) rfl
theorem q252 : (Jvm.Cond.soleField "ShieldLine" "bestCount") ∈ lw_all := lw_g (lw_at lw_m1 163 rfl) rfl
theorem q253 : (Jvm.Cond.lays "ShieldLine" "ShieldLine" "bestStore" "I") ∈ lw_all := lw_g (lw_at lw_m1 164 rfl) rfl
theorem q254 : (Jvm.Cond.soleField "ShieldLine" "bestStore") ∈ lw_all := lw_g (lw_at lw_m1 165 rfl) rfl
theorem q255 : (Jvm.Cond.laysFinal "ShieldLine" "ShieldLine" "told" "[I") ∈ lw_all := lw_g (lw_at lw_m1 166 rfl) rfl
theorem q256 : (Jvm.Cond.soleField "ShieldLine" "told") ∈ lw_all := lw_g (lw_at lw_m1 167 rfl) rfl
theorem q257 : (Jvm.Cond.lays "ShieldLine" "ShieldLine" "toldMany" "I") ∈ lw_all := lw_g (lw_at lw_m1 168 rfl) rfl
theorem q258 : (Jvm.Cond.soleField "ShieldLine" "toldMany") ∈ lw_all := lw_g (lw_at lw_m1 169 rfl) rfl
theorem q259 : (Jvm.Cond.lays "ShieldLine" "ShieldLine" "turnDays" "I") ∈ lw_all := lw_g (lw_at lw_m1 170 rfl) rfl
theorem q260 : (Jvm.Cond.soleField "ShieldLine" "turnDays") ∈ lw_all := lw_g (lw_at lw_m1 171 rfl) rfl
theorem q261 : (Jvm.Cond.lays "ShieldLine" "ShieldLine" "ledDays" "I") ∈ lw_all := lw_g (lw_at lw_m1 172 rfl) rfl
theorem q262 : (Jvm.Cond.soleField "ShieldLine" "ledDays") ∈ lw_all := lw_g (lw_at lw_m1 173 rfl) rfl
theorem q263 : (Jvm.Cond.lays "ShieldLine" "ShieldLine" "ledCame" "I") ∈ lw_all := lw_g (lw_at lw_m1 174 rfl) rfl
theorem q264 : (Jvm.Cond.soleField "ShieldLine" "ledCame") ∈ lw_all := lw_g (lw_at lw_m1 175 rfl) rfl
theorem q265 : (Jvm.Cond.lays "ShieldLine" "ShieldLine" "ledCares" "I") ∈ lw_all := lw_g (lw_at lw_m1 176 rfl) rfl
theorem q266 : (Jvm.Cond.soleField "ShieldLine" "ledCares") ∈ lw_all := lw_g (lw_at lw_m1 177 rfl) rfl
theorem q267 : (Jvm.Cond.lays "ShieldLine" "ShieldLine" "ledGiven" "I") ∈ lw_all := lw_g (lw_at lw_m1 178 rfl) rfl
theorem q268 : (Jvm.Cond.soleField "ShieldLine" "ledGiven") ∈ lw_all := lw_g (lw_at lw_m1 179 rfl) rfl
theorem q269 : (Jvm.Cond.lays "ShieldLine" "ShieldLine" "ledLacked" "I") ∈ lw_all := lw_g (lw_at lw_m1 180 rfl) rfl
theorem q270 : (Jvm.Cond.soleField "ShieldLine" "ledLacked") ∈ lw_all := lw_g (lw_at lw_m1 181 rfl) rfl
theorem q271 : (Jvm.Cond.lays "ShieldLine" "ShieldLine" "hasImage" "Z") ∈ lw_all := lw_g (lw_at lw_m1 182 rfl) rfl
theorem q272 : (Jvm.Cond.soleField "ShieldLine" "hasImage") ∈ lw_all := lw_g (lw_at lw_m1 183 rfl) rfl
theorem q273 : (Jvm.Cond.laysFinal "ShieldLine" "ShieldLine" "keptStore" "[I") ∈ lw_all := lw_g (lw_at lw_m1 184 rfl) rfl
theorem q274 : (Jvm.Cond.soleField "ShieldLine" "keptStore") ∈ lw_all := lw_g (lw_at lw_m1 185 rfl) rfl
theorem q275 : (Jvm.Cond.laysFinal "ShieldLine" "ShieldLine" "keptWhom" "[I") ∈ lw_all := lw_g (lw_at lw_m1 186 rfl) rfl
theorem q276 : (Jvm.Cond.soleField "ShieldLine" "keptWhom") ∈ lw_all := lw_g (lw_at lw_m1 187 rfl) rfl
theorem q277 : (Jvm.Cond.lays "ShieldLine" "ShieldLine" "keptMany" "I") ∈ lw_all := lw_g (lw_at lw_m1 188 rfl) rfl
theorem q278 : (Jvm.Cond.soleField "ShieldLine" "keptMany") ∈ lw_all := lw_g (lw_at lw_m1 189 rfl) rfl
theorem q279 : (Jvm.Cond.lays "ShieldLine" "ShieldLine" "keptDay" "I") ∈ lw_all := lw_g (lw_at lw_m1 190 rfl) rfl
theorem q280 : (Jvm.Cond.soleField "ShieldLine" "keptDay") ∈ lw_all := lw_g (lw_at lw_m1 191 rfl) rfl
theorem q281 : (Jvm.Cond.lays "ShieldLine" "ShieldLine" "keptDays" "I") ∈ lw_all := lw_g (lw_at lw_m1 192 rfl) rfl
theorem q282 : (Jvm.Cond.soleField "ShieldLine" "keptDays") ∈ lw_all := lw_g (lw_at lw_m1 193 rfl) rfl
theorem q283 : (Jvm.Cond.lays "ShieldLine" "ShieldLine" "keptCame" "I") ∈ lw_all := lw_g (lw_at lw_m1 194 rfl) rfl
theorem q284 : (Jvm.Cond.soleField "ShieldLine" "keptCame") ∈ lw_all := lw_g (lw_at lw_m1 195 rfl) rfl
theorem q285 : (Jvm.Cond.lays "ShieldLine" "ShieldLine" "keptCares" "I") ∈ lw_all := lw_g (lw_at lw_m1 196 rfl) rfl
theorem q286 : (Jvm.Cond.soleField "ShieldLine" "keptCares") ∈ lw_all := lw_g (lw_at lw_m1 197 rfl) rfl
theorem q287 : (Jvm.Cond.lays "ShieldLine" "ShieldLine" "keptGiven" "I") ∈ lw_all := lw_g (lw_at lw_m1 198 rfl) rfl
theorem q288 : (Jvm.Cond.soleField "ShieldLine" "keptGiven") ∈ lw_all := lw_g (lw_at lw_m1 199 rfl) rfl
theorem q289 : (Jvm.Cond.lays "ShieldLine" "ShieldLine" "keptLacked" "I") ∈ lw_all := lw_g (lw_at lw_m1 200 rfl) rfl
theorem q290 : (Jvm.Cond.soleField "ShieldLine" "keptLacked") ∈ lw_all := lw_g (lw_at lw_m1 201 rfl) rfl
theorem q291 : (Jvm.Cond.lays "ShieldLine" "ShieldLine" "traces" "I") ∈ lw_all := lw_g (lw_at lw_m1 202 rfl) rfl
theorem q292 : (Jvm.Cond.soleField "ShieldLine" "traces") ∈ lw_all := lw_g (lw_at lw_m1 203 rfl) rfl
theorem q293 : (Jvm.Cond.laysFinal "ShieldLine" "ShieldLine" "traced" "[B") ∈ lw_all := lw_g (lw_at lw_m1 204 rfl) rfl
theorem q294 : (Jvm.Cond.soleField "ShieldLine" "traced") ∈ lw_all := lw_g (lw_at lw_m1 205 rfl) rfl
theorem q295 : (Jvm.Cond.laysFinal "ShieldLine" "ShieldLine" "bodies" "[LShieldLine$Shield;") ∈ lw_all := lw_g (lw_at lw_m1 206 rfl) rfl
theorem q296 : (Jvm.Cond.soleField "ShieldLine" "bodies") ∈ lw_all := lw_g (lw_at lw_m1 207 rfl) rfl
theorem q297 : (Jvm.Cond.lays "ShieldLine" "ShieldLine" "bodyMany" "I") ∈ lw_all := lw_g (lw_at lw_m1 208 rfl) rfl
theorem q298 : (Jvm.Cond.soleField "ShieldLine" "bodyMany") ∈ lw_all := lw_g (lw_at lw_m1 209 rfl) rfl
theorem q299 : (Jvm.Cond.laysFinal "ShieldLine" "ShieldLine" "shelves" "[LShieldLine$Held;") ∈ lw_all := lw_g (lw_at lw_m1 210 rfl) rfl
theorem q300 : (Jvm.Cond.soleField "ShieldLine" "shelves") ∈ lw_all := lw_g (lw_at lw_m1 211 rfl) rfl
theorem q301 : (Jvm.Cond.superclass "ShieldLine" "java/lang/Object") ∈ lw_all := lw_g (lw_at lw_m1 212 rfl) rfl
theorem q303 : (Jvm.Cond.instanceMethod ({ cls := "ShieldLine", name := "person", desc := "(I)I" } : Jvm.MethodName)) ∈ lw_all := lw_g (lw_at lw_m1 214 rfl) rfl
theorem q304 : (Jvm.Cond.selects "ShieldLine" ({ cls := "ShieldLine", name := "person", desc := "(I)I" } : Jvm.MethodName) ({ cls := "ShieldLine", name := "person", desc := "(I)I" } : Jvm.MethodName)) ∈ lw_all := lw_g (lw_at lw_m1 215 rfl) rfl
theorem q305 : (Jvm.Cond.code ({ cls := "ShieldLine", name := "person", desc := "(I)I" } : Jvm.MethodName) prog_1_method_7_code (2 : Nat) (Option.some Jvm.ClassFile.FieldType.int)) ∈ lw_all := lw_g (lw_at lw_m1 216 rfl) rfl
theorem q306 : (Jvm.Cond.methodLink "ShieldLine" (91 : Nat) ({ cls := "ShieldLine", name := "isPlace", desc := "(I)Z" } : Jvm.MethodName)) ∈ lw_all := lw_g (lw_at lw_m1 217 rfl) rfl
theorem q307 : (Jvm.Cond.static ({ cls := "ShieldLine", name := "isPlace", desc := "(I)Z" } : Jvm.MethodName)) ∈ lw_all := lw_g (lw_at lw_m1 218 rfl) rfl
theorem q308 : (Jvm.Cond.code ({ cls := "ShieldLine", name := "isPlace", desc := "(I)Z" } : Jvm.MethodName) prog_1_method_4_code (1 : Nat) (Option.some Jvm.ClassFile.FieldType.boolean)) ∈ lw_all := lw_g (lw_at lw_m1 219 rfl) rfl
theorem q309 : (Jvm.Cond.methodLink "ShieldLine" (81 : Nat) ({ cls := "ShieldLine", name := "in", desc := "(III)Z" } : Jvm.MethodName)) ∈ lw_all := lw_g (lw_at lw_m1 220 rfl) rfl
theorem q310 : (Jvm.Cond.static ({ cls := "ShieldLine", name := "in", desc := "(III)Z" } : Jvm.MethodName)) ∈ lw_all := lw_g (lw_at lw_m1 221 rfl) rfl
theorem q311 : (Jvm.Cond.code ({ cls := "ShieldLine", name := "in", desc := "(III)Z" } : Jvm.MethodName) prog_1_method_2_code (3 : Nat) (Option.some Jvm.ClassFile.FieldType.boolean)) ∈ lw_all := lw_g (lw_at lw_m1 222 rfl) rfl
theorem q312 : (Jvm.Cond.methodLink "ShieldLine" (95 : Nat) ({ cls := "ShieldLine", name := "addPerson", desc := "(I)LShieldLine$Person;" } : Jvm.MethodName)) ∈ lw_all := lw_g (lw_at lw_m1 223 rfl) rfl
theorem q313 : (Jvm.Cond.privateMethod ({ cls := "ShieldLine", name := "addPerson", desc := "(I)LShieldLine$Person;" } : Jvm.MethodName)) ∈ lw_tbl := lw_at lw_m1 224 rfl
theorem q314 : (Jvm.Cond.instanceMethod ({ cls := "ShieldLine", name := "addPerson", desc := "(I)LShieldLine$Person;" } : Jvm.MethodName)) ∈ lw_all := lw_g (lw_at lw_m1 225 rfl) rfl
theorem q315 : (Jvm.Cond.code ({ cls := "ShieldLine", name := "addPerson", desc := "(I)LShieldLine$Person;" } : Jvm.MethodName) prog_1_method_6_code (2 : Nat) (Option.some (Jvm.ClassFile.FieldType.object "ShieldLine$Person"))) ∈ lw_all := lw_g (lw_at lw_m1 226 rfl) rfl
theorem q317 : (Jvm.Cond.methodLink "ShieldLine" (88 : Nat) ({ cls := "ShieldLine$Person", name := "<init>", desc := "(I)V" } : Jvm.MethodName)) ∈ lw_all := lw_g (lw_at lw_m1 228 rfl) rfl
theorem q322 : (Jvm.Cond.fieldLinkNest "ShieldLine" (120 : Nat) "ShieldLine$Person" "place" "I" "ShieldLine") ∈ lw_tbl := lw_at lw_m1 233 rfl
theorem q324 : (Jvm.Cond.fieldLinkNest "ShieldLine" (108 : Nat) "ShieldLine$Person" "gift" "I" "ShieldLine") ∈ lw_tbl := lw_at lw_m1 235 rfl
theorem q326 : (Jvm.Cond.fieldLinkNest "ShieldLine" (111 : Nat) "ShieldLine$Person" "needs" "I" "ShieldLine") ∈ lw_tbl := lw_at lw_m1 237 rfl
theorem q328 : (Jvm.Cond.fieldLinkNest "ShieldLine" (123 : Nat) "ShieldLine$Person" "store" "I" "ShieldLine") ∈ lw_tbl := lw_at lw_m1 239 rfl
theorem q330 : (Jvm.Cond.fieldLinkNest "ShieldLine" (126 : Nat) "ShieldLine$Person" "whom" "I" "ShieldLine") ∈ lw_tbl := lw_at lw_m2 1 rfl
theorem q343 : (Jvm.Cond.instanceMethod ({ cls := "ShieldLine", name := "people", desc := "(III)I" } : Jvm.MethodName)) ∈ lw_all := lw_g (lw_at lw_m2 14 rfl) rfl
theorem q344 : (Jvm.Cond.selects "ShieldLine" ({ cls := "ShieldLine", name := "people", desc := "(III)I" } : Jvm.MethodName) ({ cls := "ShieldLine", name := "people", desc := "(III)I" } : Jvm.MethodName)) ∈ lw_all := lw_g (lw_at lw_m2 15 rfl) rfl
theorem q345 : (Jvm.Cond.codeWith ({ cls := "ShieldLine", name := "people", desc := "(III)I" } : Jvm.MethodName) prog_1_method_8_code (11 : Nat) (Option.some Jvm.ClassFile.FieldType.int) [((22 : Nat), (129 : Nat), (164 : Nat), (114 : Nat)), ((130 : Nat), (161 : Nat), (164 : Nat), (114 : Nat)), ((22 : Nat), (129 : Nat), (169 : Nat), (116 : Nat)), ((130 : Nat), (161 : Nat), (169 : Nat), (116 : Nat)), ((22 : Nat), (129 : Nat), (174 : Nat), (118 : Nat)), ((130 : Nat), (161 : Nat), (174 : Nat), (118 : Nat))]) ∈ lw_all := lw_g (lw_at lw_m2 16 rfl) rfl
theorem q346 : (Jvm.Cond.classLink "ShieldLine" (114 : Nat) "java/lang/ClassCastException") ∈ lw_all := lw_g (lw_at lw_m2 17 rfl) rfl
theorem q430 : (Jvm.Cond.classLink "ShieldLine" (116 : Nat) "java/lang/NullPointerException") ∈ lw_all := lw_g (lw_at lw_m2 101 rfl) rfl
theorem q455 : (Jvm.Cond.classLink "ShieldLine" (118 : Nat) "java/lang/IndexOutOfBoundsException") ∈ lw_all := lw_g (lw_at lw_m2 126 rfl) rfl
theorem q474 : (Jvm.Cond.methodLink "ShieldLine" (99 : Nat) ({ cls := "ShieldLine", name := "isShelf", desc := "(I)Z" } : Jvm.MethodName)) ∈ lw_all := lw_g (lw_at lw_m2 145 rfl) rfl
theorem q475 : (Jvm.Cond.static ({ cls := "ShieldLine", name := "isShelf", desc := "(I)Z" } : Jvm.MethodName)) ∈ lw_all := lw_g (lw_at lw_m2 146 rfl) rfl
theorem q476 : (Jvm.Cond.code ({ cls := "ShieldLine", name := "isShelf", desc := "(I)Z" } : Jvm.MethodName) prog_1_method_75_code (1 : Nat) (Option.some Jvm.ClassFile.FieldType.boolean)) ∈ lw_all := lw_g (lw_at lw_m2 147 rfl) rfl
theorem q477 : (Jvm.Cond.classLink "ShieldLine" (102 : Nat) "ShieldLine$ByteRow") ∈ lw_all := lw_g (lw_at lw_m2 148 rfl) rfl
theorem q478 : (Jvm.Cond.methodLink "ShieldLine" (104 : Nat) ({ cls := "ShieldLine$ByteRow", name := "at", desc := "(I)J" } : Jvm.MethodName)) ∈ lw_all := lw_g (lw_at lw_m2 149 rfl) rfl
theorem q483 : (Jvm.Cond.instanceMethod ({ cls := "ShieldLine", name := "undo", desc := "()I" } : Jvm.MethodName)) ∈ lw_all := lw_g (lw_at lw_m2 154 rfl) rfl
theorem q484 : (Jvm.Cond.selects "ShieldLine" ({ cls := "ShieldLine", name := "undo", desc := "()I" } : Jvm.MethodName) ({ cls := "ShieldLine", name := "undo", desc := "()I" } : Jvm.MethodName)) ∈ lw_all := lw_g (lw_at lw_m2 155 rfl) rfl
theorem q485 : (Jvm.Cond.code ({ cls := "ShieldLine", name := "undo", desc := "()I" } : Jvm.MethodName) prog_1_method_11_code (1 : Nat) (Option.some Jvm.ClassFile.FieldType.int)) ∈ lw_all := lw_g (lw_at lw_m2 156 rfl) rfl
theorem q486 : (Jvm.Cond.methodLink "ShieldLine" (141 : Nat) ({ cls := "ShieldLine", name := "setTo", desc := "(III)V" } : Jvm.MethodName)) ∈ lw_all := lw_g (lw_at lw_m2 157 rfl) rfl
theorem q487 : (Jvm.Cond.privateMethod ({ cls := "ShieldLine", name := "setTo", desc := "(III)V" } : Jvm.MethodName)) ∈ lw_tbl := lw_at lw_m2 158 rfl
theorem q488 : (Jvm.Cond.instanceMethod ({ cls := "ShieldLine", name := "setTo", desc := "(III)V" } : Jvm.MethodName)) ∈ lw_all := lw_g (lw_at lw_m2 159 rfl) rfl
theorem q489 : (Jvm.Cond.code ({ cls := "ShieldLine", name := "setTo", desc := "(III)V" } : Jvm.MethodName) prog_1_method_9_code (4 : Nat) (Option.none : Option Jvm.ClassFile.FieldType)) ∈ lw_all := lw_g (lw_at lw_m2 160 rfl) rfl
theorem q491 : (Jvm.Cond.instanceMethod ({ cls := "ShieldLine", name := "redo", desc := "()I" } : Jvm.MethodName)) ∈ lw_all := lw_g (lw_at lw_m2 162 rfl) rfl
theorem q492 : (Jvm.Cond.selects "ShieldLine" ({ cls := "ShieldLine", name := "redo", desc := "()I" } : Jvm.MethodName) ({ cls := "ShieldLine", name := "redo", desc := "()I" } : Jvm.MethodName)) ∈ lw_all := lw_g (lw_at lw_m2 163 rfl) rfl
theorem q493 : (Jvm.Cond.code ({ cls := "ShieldLine", name := "redo", desc := "()I" } : Jvm.MethodName) prog_1_method_12_code (1 : Nat) (Option.some Jvm.ClassFile.FieldType.int)) ∈ lw_all := lw_g (lw_at lw_m2 164 rfl) rfl
theorem q495 : (Jvm.Cond.instanceMethod ({ cls := "ShieldLine", name := "mend", desc := "(III)I" } : Jvm.MethodName)) ∈ lw_all := lw_g (lw_at lw_m2 166 rfl) rfl
theorem q496 : (Jvm.Cond.selects "ShieldLine" ({ cls := "ShieldLine", name := "mend", desc := "(III)I" } : Jvm.MethodName) ({ cls := "ShieldLine", name := "mend", desc := "(III)I" } : Jvm.MethodName)) ∈ lw_all := lw_g (lw_at lw_m2 167 rfl) rfl
theorem q497 : (Jvm.Cond.code ({ cls := "ShieldLine", name := "mend", desc := "(III)I" } : Jvm.MethodName) prog_1_method_17_code (4 : Nat) (Option.some Jvm.ClassFile.FieldType.int)) ∈ lw_all := lw_g (lw_at lw_m2 168 rfl) rfl
theorem q498 : (Jvm.Cond.methodLink "ShieldLine" (163 : Nat) ({ cls := "ShieldLine", name := "isOf", desc := "(II)Z" } : Jvm.MethodName)) ∈ lw_all := lw_g (lw_at lw_m2 169 rfl) rfl
theorem q499 : (Jvm.Cond.privateMethod ({ cls := "ShieldLine", name := "isOf", desc := "(II)Z" } : Jvm.MethodName)) ∈ lw_tbl := lw_at lw_m2 170 rfl
theorem q500 : (Jvm.Cond.instanceMethod ({ cls := "ShieldLine", name := "isOf", desc := "(II)Z" } : Jvm.MethodName)) ∈ lw_all := lw_g (lw_at lw_m2 171 rfl) rfl
theorem q501 : (Jvm.Cond.code ({ cls := "ShieldLine", name := "isOf", desc := "(II)Z" } : Jvm.MethodName) prog_1_method_13_code (3 : Nat) (Option.some Jvm.ClassFile.FieldType.boolean)) ∈ lw_all := lw_g (lw_at lw_m2 172 rfl) rfl
theorem q502 : (Jvm.Cond.methodLink "ShieldLine" (156 : Nat) ({ cls := "ShieldLine", name := "isPerson", desc := "(I)Z" } : Jvm.MethodName)) ∈ lw_all := lw_g (lw_at lw_m2 173 rfl) rfl
theorem q503 : (Jvm.Cond.privateMethod ({ cls := "ShieldLine", name := "isPerson", desc := "(I)Z" } : Jvm.MethodName)) ∈ lw_tbl := lw_at lw_m2 174 rfl
theorem q504 : (Jvm.Cond.instanceMethod ({ cls := "ShieldLine", name := "isPerson", desc := "(I)Z" } : Jvm.MethodName)) ∈ lw_all := lw_g (lw_at lw_m2 175 rfl) rfl
theorem q505 : (Jvm.Cond.code ({ cls := "ShieldLine", name := "isPerson", desc := "(I)Z" } : Jvm.MethodName) prog_1_method_5_code (2 : Nat) (Option.some Jvm.ClassFile.FieldType.boolean)) ∈ lw_all := lw_g (lw_at lw_m2 176 rfl) rfl
theorem q506 : (Jvm.Cond.methodLink "ShieldLine" (166 : Nat) ({ cls := "ShieldLine", name := "mayBe", desc := "(III)Z" } : Jvm.MethodName)) ∈ lw_all := lw_g (lw_at lw_m2 177 rfl) rfl
theorem q507 : (Jvm.Cond.privateMethod ({ cls := "ShieldLine", name := "mayBe", desc := "(III)Z" } : Jvm.MethodName)) ∈ lw_tbl := lw_at lw_m2 178 rfl
theorem q508 : (Jvm.Cond.instanceMethod ({ cls := "ShieldLine", name := "mayBe", desc := "(III)Z" } : Jvm.MethodName)) ∈ lw_all := lw_g (lw_at lw_m2 179 rfl) rfl
theorem q509 : (Jvm.Cond.code ({ cls := "ShieldLine", name := "mayBe", desc := "(III)Z" } : Jvm.MethodName) prog_1_method_16_code (4 : Nat) (Option.some Jvm.ClassFile.FieldType.boolean)) ∈ lw_all := lw_g (lw_at lw_m2 180 rfl) rfl
theorem q510 : (Jvm.Cond.methodLink "ShieldLine" (159 : Nat) ({ cls := "ShieldLine", name := "mayCare", desc := "(II)Z" } : Jvm.MethodName)) ∈ lw_all := lw_g (lw_at lw_m2 181 rfl) rfl
theorem q511 : (Jvm.Cond.privateMethod ({ cls := "ShieldLine", name := "mayCare", desc := "(II)Z" } : Jvm.MethodName)) ∈ lw_tbl := lw_at lw_m2 182 rfl
theorem q512 : (Jvm.Cond.instanceMethod ({ cls := "ShieldLine", name := "mayCare", desc := "(II)Z" } : Jvm.MethodName)) ∈ lw_all := lw_g (lw_at lw_m2 183 rfl) rfl
theorem q513 : (Jvm.Cond.code ({ cls := "ShieldLine", name := "mayCare", desc := "(II)Z" } : Jvm.MethodName) prog_1_method_15_code (3 : Nat) (Option.some Jvm.ClassFile.FieldType.boolean)) ∈ lw_all := lw_g (lw_at lw_m2 184 rfl) rfl
theorem q514 : (Jvm.Cond.methodLink "ShieldLine" (169 : Nat) ({ cls := "ShieldLine", name := "valueOf", desc := "(II)I" } : Jvm.MethodName)) ∈ lw_all := lw_g (lw_at lw_m2 185 rfl) rfl
theorem q515 : (Jvm.Cond.privateMethod ({ cls := "ShieldLine", name := "valueOf", desc := "(II)I" } : Jvm.MethodName)) ∈ lw_tbl := lw_at lw_m2 186 rfl
theorem q516 : (Jvm.Cond.instanceMethod ({ cls := "ShieldLine", name := "valueOf", desc := "(II)I" } : Jvm.MethodName)) ∈ lw_all := lw_g (lw_at lw_m2 187 rfl) rfl
theorem q517 : (Jvm.Cond.code ({ cls := "ShieldLine", name := "valueOf", desc := "(II)I" } : Jvm.MethodName) prog_1_method_14_code (3 : Nat) (Option.some Jvm.ClassFile.FieldType.int)) ∈ lw_all := lw_g (lw_at lw_m2 188 rfl) rfl
theorem q518 : (Jvm.Cond.methodLink "ShieldLine" (173 : Nat) ({ cls := "ShieldLine", name := "become", desc := "(IIII)I" } : Jvm.MethodName)) ∈ lw_all := lw_g (lw_at lw_m2 189 rfl) rfl
theorem q519 : (Jvm.Cond.privateMethod ({ cls := "ShieldLine", name := "become", desc := "(IIII)I" } : Jvm.MethodName)) ∈ lw_tbl := lw_at lw_m2 190 rfl
theorem q520 : (Jvm.Cond.instanceMethod ({ cls := "ShieldLine", name := "become", desc := "(IIII)I" } : Jvm.MethodName)) ∈ lw_all := lw_g (lw_at lw_m2 191 rfl) rfl
theorem q521 : (Jvm.Cond.code ({ cls := "ShieldLine", name := "become", desc := "(IIII)I" } : Jvm.MethodName) prog_1_method_10_code (6 : Nat) (Option.some Jvm.ClassFile.FieldType.int)) ∈ lw_all := lw_g (lw_at lw_m2 192 rfl) rfl
theorem q523 : (Jvm.Cond.methodLink "ShieldLine" (138 : Nat) ({ cls := "ShieldLine$Change", name := "<init>", desc := "(IIII)V" } : Jvm.MethodName)) ∈ lw_all := lw_g (lw_at lw_m2 194 rfl) rfl
theorem q528 : (Jvm.Cond.fieldLinkNest "ShieldLine" (145 : Nat) "ShieldLine$Change" "of" "I" "ShieldLine") ∈ lw_tbl := lw_at lw_m2 199 rfl
theorem q530 : (Jvm.Cond.fieldLinkNest "ShieldLine" (148 : Nat) "ShieldLine$Change" "at" "I" "ShieldLine") ∈ lw_tbl := lw_at lw_m2 201 rfl
theorem q532 : (Jvm.Cond.fieldLinkNest "ShieldLine" (150 : Nat) "ShieldLine$Change" "before" "I" "ShieldLine") ∈ lw_tbl := lw_at lw_m2 203 rfl
theorem q534 : (Jvm.Cond.fieldLinkNest "ShieldLine" (153 : Nat) "ShieldLine$Change" "behind" "I" "ShieldLine") ∈ lw_tbl := lw_at lw_m2 205 rfl
theorem q544 : (Jvm.Cond.constant "ShieldLine" (177 : Nat) (-2000000000 : Int32)) ∈ lw_all := lw_g (lw_at lw_m2 215 rfl) rfl
theorem q546 : (Jvm.Cond.instanceMethod ({ cls := "ShieldLine", name := "of", desc := "(II)I" } : Jvm.MethodName)) ∈ lw_all := lw_g (lw_at lw_m2 217 rfl) rfl
theorem q547 : (Jvm.Cond.selects "ShieldLine" ({ cls := "ShieldLine", name := "of", desc := "(II)I" } : Jvm.MethodName) ({ cls := "ShieldLine", name := "of", desc := "(II)I" } : Jvm.MethodName)) ∈ lw_all := lw_g (lw_at lw_m2 218 rfl) rfl
theorem q548 : (Jvm.Cond.code ({ cls := "ShieldLine", name := "of", desc := "(II)I" } : Jvm.MethodName) prog_1_method_18_code (3 : Nat) (Option.some Jvm.ClassFile.FieldType.int)) ∈ lw_all := lw_g (lw_at lw_m2 219 rfl) rfl
theorem q550 : (Jvm.Cond.instanceMethod ({ cls := "ShieldLine", name := "feed", desc := "(I)I" } : Jvm.MethodName)) ∈ lw_all := lw_g (lw_at lw_m2 221 rfl) rfl
theorem q551 : (Jvm.Cond.selects "ShieldLine" ({ cls := "ShieldLine", name := "feed", desc := "(I)I" } : Jvm.MethodName) ({ cls := "ShieldLine", name := "feed", desc := "(I)I" } : Jvm.MethodName)) ∈ lw_all := lw_g (lw_at lw_m2 222 rfl) rfl
theorem q552 : (Jvm.Cond.code ({ cls := "ShieldLine", name := "feed", desc := "(I)I" } : Jvm.MethodName) prog_1_method_19_code (2 : Nat) (Option.some Jvm.ClassFile.FieldType.int)) ∈ lw_all := lw_g (lw_at lw_m2 223 rfl) rfl
theorem q554 : (Jvm.Cond.instanceMethod ({ cls := "ShieldLine", name := "law", desc := "()I" } : Jvm.MethodName)) ∈ lw_all := lw_g (lw_at lw_m2 225 rfl) rfl
theorem q555 : (Jvm.Cond.selects "ShieldLine" ({ cls := "ShieldLine", name := "law", desc := "()I" } : Jvm.MethodName) ({ cls := "ShieldLine", name := "law", desc := "()I" } : Jvm.MethodName)) ∈ lw_all := lw_g (lw_at lw_m2 226 rfl) rfl
theorem q556 : (Jvm.Cond.code ({ cls := "ShieldLine", name := "law", desc := "()I" } : Jvm.MethodName) prog_1_method_20_code (3 : Nat) (Option.some Jvm.ClassFile.FieldType.int)) ∈ lw_all := lw_g (lw_at lw_m2 227 rfl) rfl
theorem q557 : (Jvm.Cond.classLink "ShieldLine" (181 : Nat) "ShieldLine$Reader") ∈ lw_all := lw_g (lw_at lw_m2 228 rfl) rfl
theorem q559 : (Jvm.Cond.methodLinkNest "ShieldLine" (183 : Nat) ({ cls := "ShieldLine$Reader", name := "<init>", desc := "(LShieldLine;)V" } : Jvm.MethodName) "ShieldLine") ∈ lw_tbl := lw_at lw_m2 230 rfl
theorem q565 : (Jvm.Cond.fieldLinkNest "ShieldLine" (190 : Nat) "ShieldLine$Reader" "fault" "I" "ShieldLine") ∈ lw_tbl := lw_at lw_m2 236 rfl
theorem q577 : (Jvm.Cond.methodLink "ShieldLine" (186 : Nat) ({ cls := "ShieldLine$Reader", name := "lines", desc := "()LShieldLine$Line;" } : Jvm.MethodName)) ∈ lw_all := lw_g (lw_at lw_m3 8 rfl) rfl
theorem q592 : (Jvm.Cond.fieldLinkNest "ShieldLine" (197 : Nat) "ShieldLine$Line" "test" "LShieldLine$Node;" "ShieldLine") ∈ lw_tbl := lw_at lw_m3 23 rfl
theorem q594 : (Jvm.Cond.fieldLinkNest "ShieldLine" (209 : Nat) "ShieldLine$Line" "gives" "LShieldLine$Node;" "ShieldLine") ∈ lw_tbl := lw_at lw_m3 25 rfl
theorem q596 : (Jvm.Cond.fieldLinkNest "ShieldLine" (212 : Nat) "ShieldLine$Line" "next" "LShieldLine$Line;" "ShieldLine") ∈ lw_tbl := lw_at lw_m3 27 rfl
theorem q799 : (Jvm.Cond.instanceMethod ({ cls := "ShieldLine", name := "comes", desc := "(I)I" } : Jvm.MethodName)) ∈ lw_all := lw_g (lw_at lw_m3 230 rfl) rfl
theorem q800 : (Jvm.Cond.selects "ShieldLine" ({ cls := "ShieldLine", name := "comes", desc := "(I)I" } : Jvm.MethodName) ({ cls := "ShieldLine", name := "comes", desc := "(I)I" } : Jvm.MethodName)) ∈ lw_all := lw_g (lw_at lw_m3 231 rfl) rfl
theorem q801 : (Jvm.Cond.code ({ cls := "ShieldLine", name := "comes", desc := "(I)I" } : Jvm.MethodName) prog_1_method_26_code (2 : Nat) (Option.some Jvm.ClassFile.FieldType.int)) ∈ lw_all := lw_g (lw_at lw_m3 232 rfl) rfl
theorem q802 : (Jvm.Cond.methodLink "ShieldLine" (252 : Nat) ({ cls := "ShieldLine", name := "layNow", desc := "()V" } : Jvm.MethodName)) ∈ lw_all := lw_g (lw_at lw_m3 233 rfl) rfl
theorem q803 : (Jvm.Cond.privateMethod ({ cls := "ShieldLine", name := "layNow", desc := "()V" } : Jvm.MethodName)) ∈ lw_tbl := lw_at lw_m3 234 rfl
theorem q804 : (Jvm.Cond.instanceMethod ({ cls := "ShieldLine", name := "layNow", desc := "()V" } : Jvm.MethodName)) ∈ lw_all := lw_g (lw_at lw_m3 235 rfl) rfl
theorem q805 : (Jvm.Cond.code ({ cls := "ShieldLine", name := "layNow", desc := "()V" } : Jvm.MethodName) prog_1_method_22_code (2 : Nat) (Option.none : Option Jvm.ClassFile.FieldType)) ∈ lw_all := lw_g (lw_at lw_m3 236 rfl) rfl
theorem q806 : (Jvm.Cond.methodLink "ShieldLine" (255 : Nat) ({ cls := "ShieldLine", name := "countCarers", desc := "()V" } : Jvm.MethodName)) ∈ lw_all := lw_g (lw_at lw_m3 237 rfl) rfl
theorem q807 : (Jvm.Cond.privateMethod ({ cls := "ShieldLine", name := "countCarers", desc := "()V" } : Jvm.MethodName)) ∈ lw_tbl := lw_at lw_m3 238 rfl
theorem q808 : (Jvm.Cond.instanceMethod ({ cls := "ShieldLine", name := "countCarers", desc := "()V" } : Jvm.MethodName)) ∈ lw_all := lw_g (lw_at lw_m3 239 rfl) rfl
theorem q809 : (Jvm.Cond.code ({ cls := "ShieldLine", name := "countCarers", desc := "()V" } : Jvm.MethodName) prog_1_method_24_code (2 : Nat) (Option.none : Option Jvm.ClassFile.FieldType)) ∈ lw_all := lw_g (lw_at lw_m4 0 rfl) rfl
theorem q810 : (Jvm.Cond.methodLink "ShieldLine" (230 : Nat) ({ cls := "ShieldLine", name := "has", desc := "(II)Z" } : Jvm.MethodName)) ∈ lw_all := lw_g (lw_at lw_m4 1 rfl) rfl
theorem q811 : (Jvm.Cond.static ({ cls := "ShieldLine", name := "has", desc := "(II)Z" } : Jvm.MethodName)) ∈ lw_all := lw_g (lw_at lw_m4 2 rfl) rfl
theorem q812 : (Jvm.Cond.code ({ cls := "ShieldLine", name := "has", desc := "(II)Z" } : Jvm.MethodName) prog_1_method_3_code (2 : Nat) (Option.some Jvm.ClassFile.FieldType.boolean)) ∈ lw_all := lw_g (lw_at lw_m4 3 rfl) rfl
theorem q813 : (Jvm.Cond.methodLink "ShieldLine" (258 : Nat) ({ cls := "ShieldLine", name := "comesFrom", desc := "(I)I" } : Jvm.MethodName)) ∈ lw_all := lw_g (lw_at lw_m4 4 rfl) rfl
theorem q814 : (Jvm.Cond.privateMethod ({ cls := "ShieldLine", name := "comesFrom", desc := "(I)I" } : Jvm.MethodName)) ∈ lw_tbl := lw_at lw_m4 5 rfl
theorem q815 : (Jvm.Cond.instanceMethod ({ cls := "ShieldLine", name := "comesFrom", desc := "(I)I" } : Jvm.MethodName)) ∈ lw_all := lw_g (lw_at lw_m4 6 rfl) rfl
theorem q816 : (Jvm.Cond.code ({ cls := "ShieldLine", name := "comesFrom", desc := "(I)I" } : Jvm.MethodName) prog_1_method_25_code (5 : Nat) (Option.some Jvm.ClassFile.FieldType.int)) ∈ lw_all := lw_g (lw_at lw_m4 7 rfl) rfl
theorem q817 : (Jvm.Cond.methodLink "ShieldLine" (233 : Nat) ({ cls := "ShieldLine", name := "farOf", desc := "(II)I" } : Jvm.MethodName)) ∈ lw_all := lw_g (lw_at lw_m4 8 rfl) rfl
theorem q818 : (Jvm.Cond.static ({ cls := "ShieldLine", name := "farOf", desc := "(II)I" } : Jvm.MethodName)) ∈ lw_all := lw_g (lw_at lw_m4 9 rfl) rfl
theorem q819 : (Jvm.Cond.code ({ cls := "ShieldLine", name := "farOf", desc := "(II)I" } : Jvm.MethodName) prog_1_method_23_code (2 : Nat) (Option.some Jvm.ClassFile.FieldType.int)) ∈ lw_all := lw_g (lw_at lw_m4 10 rfl) rfl
theorem q820 : (Jvm.Cond.methodLink "ShieldLine" (224 : Nat) ({ cls := "java/lang/Math", name := "abs", desc := "(I)I" } : Jvm.MethodName)) ∈ lw_all := lw_g (lw_at lw_m4 11 rfl) rfl
theorem q823 : (Jvm.Cond.methodLink "ShieldLine" (236 : Nat) ({ cls := "ShieldLine$Facts", name := "clear", desc := "()V" } : Jvm.MethodName)) ∈ lw_all := lw_g (lw_at lw_m4 14 rfl) rfl
theorem q827 : (Jvm.Cond.methodLink "ShieldLine" (242 : Nat) ({ cls := "ShieldLine", name := "lawGives", desc := "()I" } : Jvm.MethodName)) ∈ lw_all := lw_g (lw_at lw_m4 18 rfl) rfl
theorem q828 : (Jvm.Cond.privateMethod ({ cls := "ShieldLine", name := "lawGives", desc := "()I" } : Jvm.MethodName)) ∈ lw_tbl := lw_at lw_m4 19 rfl
theorem q829 : (Jvm.Cond.instanceMethod ({ cls := "ShieldLine", name := "lawGives", desc := "()I" } : Jvm.MethodName)) ∈ lw_all := lw_g (lw_at lw_m4 20 rfl) rfl
theorem q830 : (Jvm.Cond.code ({ cls := "ShieldLine", name := "lawGives", desc := "()I" } : Jvm.MethodName) prog_1_method_21_code (2 : Nat) (Option.some Jvm.ClassFile.FieldType.int)) ∈ lw_all := lw_g (lw_at lw_m4 21 rfl) rfl
theorem q831 : (Jvm.Cond.methodLink "ShieldLine" (203 : Nat) ({ cls := "ShieldLine$Node", name := "value", desc := "(LShieldLine$Facts;)I" } : Jvm.MethodName)) ∈ lw_all := lw_g (lw_at lw_m4 22 rfl) rfl
theorem q855 : (Jvm.Cond.methodLink "ShieldLine" (246 : Nat) ({ cls := "java/lang/Math", name := "min", desc := "(II)I" } : Jvm.MethodName)) ∈ lw_all := lw_g (lw_at lw_m4 46 rfl) rfl
theorem q856 : (Jvm.Cond.methodLink "ShieldLine" (249 : Nat) ({ cls := "java/lang/Math", name := "max", desc := "(II)I" } : Jvm.MethodName)) ∈ lw_all := lw_g (lw_at lw_m4 47 rfl) rfl
theorem q858 : (Jvm.Cond.instanceMethod ({ cls := "ShieldLine", name := "later", desc := "(II)I" } : Jvm.MethodName)) ∈ lw_all := lw_g (lw_at lw_m4 49 rfl) rfl
theorem q859 : (Jvm.Cond.selects "ShieldLine" ({ cls := "ShieldLine", name := "later", desc := "(II)I" } : Jvm.MethodName) ({ cls := "ShieldLine", name := "later", desc := "(II)I" } : Jvm.MethodName)) ∈ lw_all := lw_g (lw_at lw_m4 50 rfl) rfl
theorem q860 : (Jvm.Cond.code ({ cls := "ShieldLine", name := "later", desc := "(II)I" } : Jvm.MethodName) prog_1_method_34_code (3 : Nat) (Option.some Jvm.ClassFile.FieldType.int)) ∈ lw_all := lw_g (lw_at lw_m4 51 rfl) rfl
theorem q861 : (Jvm.Cond.methodLink "ShieldLine" (275 : Nat) ({ cls := "ShieldLine", name := "areDays", desc := "(I)Z" } : Jvm.MethodName)) ∈ lw_all := lw_g (lw_at lw_m4 52 rfl) rfl
theorem q862 : (Jvm.Cond.static ({ cls := "ShieldLine", name := "areDays", desc := "(I)Z" } : Jvm.MethodName)) ∈ lw_all := lw_g (lw_at lw_m4 53 rfl) rfl
theorem q863 : (Jvm.Cond.code ({ cls := "ShieldLine", name := "areDays", desc := "(I)Z" } : Jvm.MethodName) prog_1_method_33_code (1 : Nat) (Option.some Jvm.ClassFile.FieldType.boolean)) ∈ lw_all := lw_g (lw_at lw_m4 54 rfl) rfl
theorem q864 : (Jvm.Cond.methodLink "ShieldLine" (278 : Nat) ({ cls := "ShieldLine", name := "goDays", desc := "(I)V" } : Jvm.MethodName)) ∈ lw_all := lw_g (lw_at lw_m4 55 rfl) rfl
theorem q865 : (Jvm.Cond.privateMethod ({ cls := "ShieldLine", name := "goDays", desc := "(I)V" } : Jvm.MethodName)) ∈ lw_tbl := lw_at lw_m4 56 rfl
theorem q866 : (Jvm.Cond.instanceMethod ({ cls := "ShieldLine", name := "goDays", desc := "(I)V" } : Jvm.MethodName)) ∈ lw_all := lw_g (lw_at lw_m4 57 rfl) rfl
theorem q867 : (Jvm.Cond.code ({ cls := "ShieldLine", name := "goDays", desc := "(I)V" } : Jvm.MethodName) prog_1_method_29_code (3 : Nat) (Option.none : Option Jvm.ClassFile.FieldType)) ∈ lw_all := lw_g (lw_at lw_m4 58 rfl) rfl
theorem q868 : (Jvm.Cond.methodLink "ShieldLine" (264 : Nat) ({ cls := "ShieldLine", name := "goDay", desc := "()V" } : Jvm.MethodName)) ∈ lw_all := lw_g (lw_at lw_m4 59 rfl) rfl
theorem q869 : (Jvm.Cond.privateMethod ({ cls := "ShieldLine", name := "goDay", desc := "()V" } : Jvm.MethodName)) ∈ lw_tbl := lw_at lw_m4 60 rfl
theorem q870 : (Jvm.Cond.instanceMethod ({ cls := "ShieldLine", name := "goDay", desc := "()V" } : Jvm.MethodName)) ∈ lw_all := lw_g (lw_at lw_m4 61 rfl) rfl
theorem q871 : (Jvm.Cond.code ({ cls := "ShieldLine", name := "goDay", desc := "()V" } : Jvm.MethodName) prog_1_method_28_code (3 : Nat) (Option.none : Option Jvm.ClassFile.FieldType)) ∈ lw_all := lw_g (lw_at lw_m4 62 rfl) rfl
theorem q872 : (Jvm.Cond.methodLink "ShieldLine" (261 : Nat) ({ cls := "ShieldLine", name := "held", desc := "(I)I" } : Jvm.MethodName)) ∈ lw_all := lw_g (lw_at lw_m4 63 rfl) rfl
theorem q873 : (Jvm.Cond.static ({ cls := "ShieldLine", name := "held", desc := "(I)I" } : Jvm.MethodName)) ∈ lw_all := lw_g (lw_at lw_m4 64 rfl) rfl
theorem q874 : (Jvm.Cond.code ({ cls := "ShieldLine", name := "held", desc := "(I)I" } : Jvm.MethodName) prog_1_method_27_code (1 : Nat) (Option.some Jvm.ClassFile.FieldType.int)) ∈ lw_all := lw_g (lw_at lw_m4 65 rfl) rfl
theorem q875 : (Jvm.Cond.methodLink "ShieldLine" (281 : Nat) ({ cls := "ShieldLine", name := "allStore", desc := "()I" } : Jvm.MethodName)) ∈ lw_all := lw_g (lw_at lw_m4 66 rfl) rfl
theorem q876 : (Jvm.Cond.privateMethod ({ cls := "ShieldLine", name := "allStore", desc := "()I" } : Jvm.MethodName)) ∈ lw_tbl := lw_at lw_m4 67 rfl
theorem q877 : (Jvm.Cond.instanceMethod ({ cls := "ShieldLine", name := "allStore", desc := "()I" } : Jvm.MethodName)) ∈ lw_all := lw_g (lw_at lw_m4 68 rfl) rfl
theorem q878 : (Jvm.Cond.code ({ cls := "ShieldLine", name := "allStore", desc := "()I" } : Jvm.MethodName) prog_1_method_32_code (3 : Nat) (Option.some Jvm.ClassFile.FieldType.int)) ∈ lw_all := lw_g (lw_at lw_m4 69 rfl) rfl
theorem q880 : (Jvm.Cond.instanceMethod ({ cls := "ShieldLine", name := "lacking", desc := "(I)I" } : Jvm.MethodName)) ∈ lw_all := lw_g (lw_at lw_m4 71 rfl) rfl
theorem q881 : (Jvm.Cond.selects "ShieldLine" ({ cls := "ShieldLine", name := "lacking", desc := "(I)I" } : Jvm.MethodName) ({ cls := "ShieldLine", name := "lacking", desc := "(I)I" } : Jvm.MethodName)) ∈ lw_all := lw_g (lw_at lw_m4 72 rfl) rfl
theorem q882 : (Jvm.Cond.code ({ cls := "ShieldLine", name := "lacking", desc := "(I)I" } : Jvm.MethodName) prog_1_method_35_code (2 : Nat) (Option.some Jvm.ClassFile.FieldType.int)) ∈ lw_all := lw_g (lw_at lw_m4 73 rfl) rfl
theorem q883 : (Jvm.Cond.methodLink "ShieldLine" (267 : Nat) ({ cls := "ShieldLine", name := "lackBits", desc := "()I" } : Jvm.MethodName)) ∈ lw_all := lw_g (lw_at lw_m4 74 rfl) rfl
theorem q884 : (Jvm.Cond.privateMethod ({ cls := "ShieldLine", name := "lackBits", desc := "()I" } : Jvm.MethodName)) ∈ lw_tbl := lw_at lw_m4 75 rfl
theorem q885 : (Jvm.Cond.instanceMethod ({ cls := "ShieldLine", name := "lackBits", desc := "()I" } : Jvm.MethodName)) ∈ lw_all := lw_g (lw_at lw_m4 76 rfl) rfl
theorem q886 : (Jvm.Cond.code ({ cls := "ShieldLine", name := "lackBits", desc := "()I" } : Jvm.MethodName) prog_1_method_30_code (3 : Nat) (Option.some Jvm.ClassFile.FieldType.int)) ∈ lw_all := lw_g (lw_at lw_m4 77 rfl) rfl
theorem q888 : (Jvm.Cond.instanceMethod ({ cls := "ShieldLine", name := "first", desc := "(I)I" } : Jvm.MethodName)) ∈ lw_all := lw_g (lw_at lw_m4 79 rfl) rfl
theorem q889 : (Jvm.Cond.selects "ShieldLine" ({ cls := "ShieldLine", name := "first", desc := "(I)I" } : Jvm.MethodName) ({ cls := "ShieldLine", name := "first", desc := "(I)I" } : Jvm.MethodName)) ∈ lw_all := lw_g (lw_at lw_m4 80 rfl) rfl
theorem q890 : (Jvm.Cond.code ({ cls := "ShieldLine", name := "first", desc := "(I)I" } : Jvm.MethodName) prog_1_method_36_code (4 : Nat) (Option.some Jvm.ClassFile.FieldType.int)) ∈ lw_all := lw_g (lw_at lw_m4 81 rfl) rfl
theorem q891 : (Jvm.Cond.methodLink "ShieldLine" (284 : Nat) ({ cls := "java/lang/Integer", name := "numberOfTrailingZeros", desc := "(I)I" } : Jvm.MethodName)) ∈ lw_all := lw_g (lw_at lw_m4 82 rfl) rfl
theorem q896 : (Jvm.Cond.instanceMethod ({ cls := "ShieldLine", name := "care", desc := "(II)I" } : Jvm.MethodName)) ∈ lw_all := lw_g (lw_at lw_m4 87 rfl) rfl
theorem q897 : (Jvm.Cond.selects "ShieldLine" ({ cls := "ShieldLine", name := "care", desc := "(II)I" } : Jvm.MethodName) ({ cls := "ShieldLine", name := "care", desc := "(II)I" } : Jvm.MethodName)) ∈ lw_all := lw_g (lw_at lw_m4 88 rfl) rfl
theorem q898 : (Jvm.Cond.code ({ cls := "ShieldLine", name := "care", desc := "(II)I" } : Jvm.MethodName) prog_1_method_39_code (3 : Nat) (Option.some Jvm.ClassFile.FieldType.int)) ∈ lw_all := lw_g (lw_at lw_m4 89 rfl) rfl
theorem q899 : (Jvm.Cond.methodLink "ShieldLine" (287 : Nat) ({ cls := "ShieldLine", name := "endOf", desc := "(I)I" } : Jvm.MethodName)) ∈ lw_all := lw_g (lw_at lw_m4 90 rfl) rfl
theorem q900 : (Jvm.Cond.privateMethod ({ cls := "ShieldLine", name := "endOf", desc := "(I)I" } : Jvm.MethodName)) ∈ lw_tbl := lw_at lw_m4 91 rfl
theorem q901 : (Jvm.Cond.instanceMethod ({ cls := "ShieldLine", name := "endOf", desc := "(I)I" } : Jvm.MethodName)) ∈ lw_all := lw_g (lw_at lw_m4 92 rfl) rfl
theorem q902 : (Jvm.Cond.code ({ cls := "ShieldLine", name := "endOf", desc := "(I)I" } : Jvm.MethodName) prog_1_method_37_code (4 : Nat) (Option.some Jvm.ClassFile.FieldType.int)) ∈ lw_all := lw_g (lw_at lw_m4 93 rfl) rfl
theorem q903 : (Jvm.Cond.methodLink "ShieldLine" (290 : Nat) ({ cls := "ShieldLine", name := "ringOf", desc := "(I)I" } : Jvm.MethodName)) ∈ lw_all := lw_g (lw_at lw_m4 94 rfl) rfl
theorem q904 : (Jvm.Cond.privateMethod ({ cls := "ShieldLine", name := "ringOf", desc := "(I)I" } : Jvm.MethodName)) ∈ lw_tbl := lw_at lw_m4 95 rfl
theorem q905 : (Jvm.Cond.instanceMethod ({ cls := "ShieldLine", name := "ringOf", desc := "(I)I" } : Jvm.MethodName)) ∈ lw_all := lw_g (lw_at lw_m4 96 rfl) rfl
theorem q906 : (Jvm.Cond.code ({ cls := "ShieldLine", name := "ringOf", desc := "(I)I" } : Jvm.MethodName) prog_1_method_38_code (4 : Nat) (Option.some Jvm.ClassFile.FieldType.int)) ∈ lw_all := lw_g (lw_at lw_m4 97 rfl) rfl
theorem q908 : (Jvm.Cond.instanceMethod ({ cls := "ShieldLine", name := "cared", desc := "(I)I" } : Jvm.MethodName)) ∈ lw_all := lw_g (lw_at lw_m4 99 rfl) rfl
theorem q909 : (Jvm.Cond.selects "ShieldLine" ({ cls := "ShieldLine", name := "cared", desc := "(I)I" } : Jvm.MethodName) ({ cls := "ShieldLine", name := "cared", desc := "(I)I" } : Jvm.MethodName)) ∈ lw_all := lw_g (lw_at lw_m4 100 rfl) rfl
theorem q910 : (Jvm.Cond.code ({ cls := "ShieldLine", name := "cared", desc := "(I)I" } : Jvm.MethodName) prog_1_method_40_code (4 : Nat) (Option.some Jvm.ClassFile.FieldType.int)) ∈ lw_all := lw_g (lw_at lw_m4 101 rfl) rfl
theorem q912 : (Jvm.Cond.instanceMethod ({ cls := "ShieldLine", name := "round", desc := "(II)I" } : Jvm.MethodName)) ∈ lw_all := lw_g (lw_at lw_m4 103 rfl) rfl
theorem q913 : (Jvm.Cond.selects "ShieldLine" ({ cls := "ShieldLine", name := "round", desc := "(II)I" } : Jvm.MethodName) ({ cls := "ShieldLine", name := "round", desc := "(II)I" } : Jvm.MethodName)) ∈ lw_all := lw_g (lw_at lw_m4 104 rfl) rfl
theorem q914 : (Jvm.Cond.code ({ cls := "ShieldLine", name := "round", desc := "(II)I" } : Jvm.MethodName) prog_1_method_43_code (3 : Nat) (Option.some Jvm.ClassFile.FieldType.int)) ∈ lw_all := lw_g (lw_at lw_m4 105 rfl) rfl
theorem q915 : (Jvm.Cond.methodLink "ShieldLine" (293 : Nat) ({ cls := "ShieldLine", name := "goRound", desc := "(III)V" } : Jvm.MethodName)) ∈ lw_all := lw_g (lw_at lw_m4 106 rfl) rfl
theorem q916 : (Jvm.Cond.privateMethod ({ cls := "ShieldLine", name := "goRound", desc := "(III)V" } : Jvm.MethodName)) ∈ lw_tbl := lw_at lw_m4 107 rfl
theorem q917 : (Jvm.Cond.instanceMethod ({ cls := "ShieldLine", name := "goRound", desc := "(III)V" } : Jvm.MethodName)) ∈ lw_all := lw_g (lw_at lw_m4 108 rfl) rfl
theorem q918 : (Jvm.Cond.code ({ cls := "ShieldLine", name := "goRound", desc := "(III)V" } : Jvm.MethodName) prog_1_method_42_code (5 : Nat) (Option.none : Option Jvm.ClassFile.FieldType)) ∈ lw_all := lw_g (lw_at lw_m4 109 rfl) rfl
theorem q919 : (Jvm.Cond.methodLink "ShieldLine" (296 : Nat) ({ cls := "ShieldLine", name := "isOneRing", desc := "()Z" } : Jvm.MethodName)) ∈ lw_all := lw_g (lw_at lw_m4 110 rfl) rfl
theorem q920 : (Jvm.Cond.privateMethod ({ cls := "ShieldLine", name := "isOneRing", desc := "()Z" } : Jvm.MethodName)) ∈ lw_tbl := lw_at lw_m4 111 rfl
theorem q921 : (Jvm.Cond.instanceMethod ({ cls := "ShieldLine", name := "isOneRing", desc := "()Z" } : Jvm.MethodName)) ∈ lw_all := lw_g (lw_at lw_m4 112 rfl) rfl
theorem q922 : (Jvm.Cond.code ({ cls := "ShieldLine", name := "isOneRing", desc := "()Z" } : Jvm.MethodName) prog_1_method_41_code (3 : Nat) (Option.some Jvm.ClassFile.FieldType.boolean)) ∈ lw_all := lw_g (lw_at lw_m4 113 rfl) rfl
theorem q923 : (Jvm.Cond.methodLink "ShieldLine" (300 : Nat) ({ cls := "java/lang/System", name := "arraycopy", desc := "(Ljava/lang/Object;ILjava/lang/Object;II)V" } : Jvm.MethodName)) ∈ lw_all := lw_g (lw_at lw_m4 114 rfl) rfl
theorem q926 : (Jvm.Cond.methodLink "ShieldLine" (306 : Nat) ({ cls := "ShieldLine", name := "lackMany", desc := "()I" } : Jvm.MethodName)) ∈ lw_all := lw_g (lw_at lw_m4 117 rfl) rfl
theorem q927 : (Jvm.Cond.privateMethod ({ cls := "ShieldLine", name := "lackMany", desc := "()I" } : Jvm.MethodName)) ∈ lw_tbl := lw_at lw_m4 118 rfl
theorem q928 : (Jvm.Cond.instanceMethod ({ cls := "ShieldLine", name := "lackMany", desc := "()I" } : Jvm.MethodName)) ∈ lw_all := lw_g (lw_at lw_m4 119 rfl) rfl
theorem q929 : (Jvm.Cond.code ({ cls := "ShieldLine", name := "lackMany", desc := "()I" } : Jvm.MethodName) prog_1_method_31_code (1 : Nat) (Option.some Jvm.ClassFile.FieldType.int)) ∈ lw_all := lw_g (lw_at lw_m4 120 rfl) rfl
theorem q930 : (Jvm.Cond.methodLink "ShieldLine" (270 : Nat) ({ cls := "java/lang/Integer", name := "bitCount", desc := "(I)I" } : Jvm.MethodName)) ∈ lw_all := lw_g (lw_at lw_m4 121 rfl) rfl
theorem q937 : (Jvm.Cond.instanceMethod ({ cls := "ShieldLine", name := "mended", desc := "(I)I" } : Jvm.MethodName)) ∈ lw_all := lw_g (lw_at lw_m4 128 rfl) rfl
theorem q938 : (Jvm.Cond.selects "ShieldLine" ({ cls := "ShieldLine", name := "mended", desc := "(I)I" } : Jvm.MethodName) ({ cls := "ShieldLine", name := "mended", desc := "(I)I" } : Jvm.MethodName)) ∈ lw_all := lw_g (lw_at lw_m4 129 rfl) rfl
theorem q939 : (Jvm.Cond.code ({ cls := "ShieldLine", name := "mended", desc := "(I)I" } : Jvm.MethodName) prog_1_method_45_code (2 : Nat) (Option.some Jvm.ClassFile.FieldType.int)) ∈ lw_all := lw_g (lw_at lw_m4 130 rfl) rfl
theorem q940 : (Jvm.Cond.methodLink "ShieldLine" (315 : Nat) ({ cls := "ShieldLine", name := "goMended", desc := "(III)V" } : Jvm.MethodName)) ∈ lw_all := lw_g (lw_at lw_m4 131 rfl) rfl
theorem q941 : (Jvm.Cond.privateMethod ({ cls := "ShieldLine", name := "goMended", desc := "(III)V" } : Jvm.MethodName)) ∈ lw_tbl := lw_at lw_m4 132 rfl
theorem q942 : (Jvm.Cond.instanceMethod ({ cls := "ShieldLine", name := "goMended", desc := "(III)V" } : Jvm.MethodName)) ∈ lw_all := lw_g (lw_at lw_m4 133 rfl) rfl
theorem q943 : (Jvm.Cond.code ({ cls := "ShieldLine", name := "goMended", desc := "(III)V" } : Jvm.MethodName) prog_1_method_44_code (5 : Nat) (Option.none : Option Jvm.ClassFile.FieldType)) ∈ lw_all := lw_g (lw_at lw_m4 134 rfl) rfl
theorem q945 : (Jvm.Cond.instanceMethod ({ cls := "ShieldLine", name := "gone", desc := "(II)I" } : Jvm.MethodName)) ∈ lw_all := lw_g (lw_at lw_m4 136 rfl) rfl
theorem q946 : (Jvm.Cond.selects "ShieldLine" ({ cls := "ShieldLine", name := "gone", desc := "(II)I" } : Jvm.MethodName) ({ cls := "ShieldLine", name := "gone", desc := "(II)I" } : Jvm.MethodName)) ∈ lw_all := lw_g (lw_at lw_m4 137 rfl) rfl
theorem q947 : (Jvm.Cond.code ({ cls := "ShieldLine", name := "gone", desc := "(II)I" } : Jvm.MethodName) prog_1_method_47_code (7 : Nat) (Option.some Jvm.ClassFile.FieldType.int)) ∈ lw_all := lw_g (lw_at lw_m4 138 rfl) rfl
theorem q948 : (Jvm.Cond.methodLink "ShieldLine" (318 : Nat) ({ cls := "ShieldLine", name := "lackingWithout", desc := "(II)I" } : Jvm.MethodName)) ∈ lw_all := lw_g (lw_at lw_m4 139 rfl) rfl
theorem q949 : (Jvm.Cond.privateMethod ({ cls := "ShieldLine", name := "lackingWithout", desc := "(II)I" } : Jvm.MethodName)) ∈ lw_tbl := lw_at lw_m4 140 rfl
theorem q950 : (Jvm.Cond.instanceMethod ({ cls := "ShieldLine", name := "lackingWithout", desc := "(II)I" } : Jvm.MethodName)) ∈ lw_all := lw_g (lw_at lw_m4 141 rfl) rfl
theorem q951 : (Jvm.Cond.code ({ cls := "ShieldLine", name := "lackingWithout", desc := "(II)I" } : Jvm.MethodName) prog_1_method_46_code (4 : Nat) (Option.some Jvm.ClassFile.FieldType.int)) ∈ lw_all := lw_g (lw_at lw_m4 142 rfl) rfl
theorem q953 : (Jvm.Cond.instanceMethod ({ cls := "ShieldLine", name := "judge", desc := "(II)I" } : Jvm.MethodName)) ∈ lw_all := lw_g (lw_at lw_m4 144 rfl) rfl
theorem q954 : (Jvm.Cond.selects "ShieldLine" ({ cls := "ShieldLine", name := "judge", desc := "(II)I" } : Jvm.MethodName) ({ cls := "ShieldLine", name := "judge", desc := "(II)I" } : Jvm.MethodName)) ∈ lw_all := lw_g (lw_at lw_m4 145 rfl) rfl
theorem q955 : (Jvm.Cond.code ({ cls := "ShieldLine", name := "judge", desc := "(II)I" } : Jvm.MethodName) prog_1_method_50_code (4 : Nat) (Option.some Jvm.ClassFile.FieldType.int)) ∈ lw_all := lw_g (lw_at lw_m4 146 rfl) rfl
theorem q956 : (Jvm.Cond.methodLink "ShieldLine" (327 : Nat) ({ cls := "ShieldLine", name := "layRow", desc := "(I)I" } : Jvm.MethodName)) ∈ lw_all := lw_g (lw_at lw_m4 147 rfl) rfl
theorem q957 : (Jvm.Cond.privateMethod ({ cls := "ShieldLine", name := "layRow", desc := "(I)I" } : Jvm.MethodName)) ∈ lw_tbl := lw_at lw_m4 148 rfl
theorem q958 : (Jvm.Cond.instanceMethod ({ cls := "ShieldLine", name := "layRow", desc := "(I)I" } : Jvm.MethodName)) ∈ lw_all := lw_g (lw_at lw_m4 149 rfl) rfl
theorem q959 : (Jvm.Cond.codeWith ({ cls := "ShieldLine", name := "layRow", desc := "(I)I" } : Jvm.MethodName) prog_1_method_48_code (4 : Nat) (Option.some Jvm.ClassFile.FieldType.int) [((5 : Nat), (53 : Nat), (56 : Nat), (114 : Nat)), ((5 : Nat), (53 : Nat), (60 : Nat), (116 : Nat))]) ∈ lw_all := lw_g (lw_at lw_m4 150 rfl) rfl
theorem q960 : (Jvm.Cond.methodLink "ShieldLine" (324 : Nat) ({ cls := "ShieldLine$ByteRow", name := "size", desc := "()I" } : Jvm.MethodName)) ∈ lw_all := lw_g (lw_at lw_m4 151 rfl) rfl
theorem q964 : (Jvm.Cond.methodLink "ShieldLine" (330 : Nat) ({ cls := "ShieldLine", name := "wrongDay", desc := "(I)I" } : Jvm.MethodName)) ∈ lw_all := lw_g (lw_at lw_m4 155 rfl) rfl
theorem q965 : (Jvm.Cond.privateMethod ({ cls := "ShieldLine", name := "wrongDay", desc := "(I)I" } : Jvm.MethodName)) ∈ lw_tbl := lw_at lw_m4 156 rfl
theorem q966 : (Jvm.Cond.instanceMethod ({ cls := "ShieldLine", name := "wrongDay", desc := "(I)I" } : Jvm.MethodName)) ∈ lw_all := lw_g (lw_at lw_m4 157 rfl) rfl
theorem q967 : (Jvm.Cond.code ({ cls := "ShieldLine", name := "wrongDay", desc := "(I)I" } : Jvm.MethodName) prog_1_method_49_code (3 : Nat) (Option.some Jvm.ClassFile.FieldType.int)) ∈ lw_all := lw_g (lw_at lw_m4 158 rfl) rfl
theorem q969 : (Jvm.Cond.instanceMethod ({ cls := "ShieldLine", name := "fits", desc := "(III)I" } : Jvm.MethodName)) ∈ lw_all := lw_g (lw_at lw_m4 160 rfl) rfl
theorem q970 : (Jvm.Cond.selects "ShieldLine" ({ cls := "ShieldLine", name := "fits", desc := "(III)I" } : Jvm.MethodName) ({ cls := "ShieldLine", name := "fits", desc := "(III)I" } : Jvm.MethodName)) ∈ lw_all := lw_g (lw_at lw_m4 161 rfl) rfl
theorem q971 : (Jvm.Cond.code ({ cls := "ShieldLine", name := "fits", desc := "(III)I" } : Jvm.MethodName) prog_1_method_53_code (6 : Nat) (Option.some Jvm.ClassFile.FieldType.int)) ∈ lw_all := lw_g (lw_at lw_m4 162 rfl) rfl
theorem q972 : (Jvm.Cond.methodLink "ShieldLine" (333 : Nat) ({ cls := "ShieldLine", name := "whomBits", desc := "(II)I" } : Jvm.MethodName)) ∈ lw_all := lw_g (lw_at lw_m4 163 rfl) rfl
theorem q973 : (Jvm.Cond.privateMethod ({ cls := "ShieldLine", name := "whomBits", desc := "(II)I" } : Jvm.MethodName)) ∈ lw_tbl := lw_at lw_m4 164 rfl
theorem q974 : (Jvm.Cond.instanceMethod ({ cls := "ShieldLine", name := "whomBits", desc := "(II)I" } : Jvm.MethodName)) ∈ lw_all := lw_g (lw_at lw_m4 165 rfl) rfl
theorem q975 : (Jvm.Cond.code ({ cls := "ShieldLine", name := "whomBits", desc := "(II)I" } : Jvm.MethodName) prog_1_method_52_code (6 : Nat) (Option.some Jvm.ClassFile.FieldType.int)) ∈ lw_all := lw_g (lw_at lw_m4 166 rfl) rfl
theorem q976 : (Jvm.Cond.methodLink "ShieldLine" (336 : Nat) ({ cls := "ShieldLine", name := "giftBits", desc := "(ILShieldLine$Person;)I" } : Jvm.MethodName)) ∈ lw_all := lw_g (lw_at lw_m4 167 rfl) rfl
theorem q977 : (Jvm.Cond.privateMethod ({ cls := "ShieldLine", name := "giftBits", desc := "(ILShieldLine$Person;)I" } : Jvm.MethodName)) ∈ lw_tbl := lw_at lw_m4 168 rfl
theorem q978 : (Jvm.Cond.instanceMethod ({ cls := "ShieldLine", name := "giftBits", desc := "(ILShieldLine$Person;)I" } : Jvm.MethodName)) ∈ lw_all := lw_g (lw_at lw_m4 169 rfl) rfl
theorem q979 : (Jvm.Cond.code ({ cls := "ShieldLine", name := "giftBits", desc := "(ILShieldLine$Person;)I" } : Jvm.MethodName) prog_1_method_51_code (6 : Nat) (Option.some Jvm.ClassFile.FieldType.int)) ∈ lw_all := lw_g (lw_at lw_m4 170 rfl) rfl
theorem q981 : (Jvm.Cond.instanceMethod ({ cls := "ShieldLine", name := "can", desc := "(II)J" } : Jvm.MethodName)) ∈ lw_all := lw_g (lw_at lw_m4 172 rfl) rfl
theorem q982 : (Jvm.Cond.selects "ShieldLine" ({ cls := "ShieldLine", name := "can", desc := "(II)J" } : Jvm.MethodName) ({ cls := "ShieldLine", name := "can", desc := "(II)J" } : Jvm.MethodName)) ∈ lw_all := lw_g (lw_at lw_m4 173 rfl) rfl
theorem q983 : (Jvm.Cond.code ({ cls := "ShieldLine", name := "can", desc := "(II)J" } : Jvm.MethodName) prog_1_method_55_code (8 : Nat) (Option.some Jvm.ClassFile.FieldType.long)) ∈ lw_all := lw_g (lw_at lw_m4 174 rfl) rfl
theorem q984 : (Jvm.Cond.constantLong "ShieldLine" (340 : Nat) (-9223372036854775808 : Int64)) ∈ lw_all := lw_g (lw_at lw_m4 175 rfl) rfl
theorem q985 : (Jvm.Cond.constantLong "ShieldLine" (342 : Nat) (3 : Int64)) ∈ lw_all := lw_g (lw_at lw_m4 176 rfl) rfl
theorem q986 : (Jvm.Cond.methodLink "ShieldLine" (344 : Nat) ({ cls := "ShieldLine", name := "part", desc := "(JJI)J" } : Jvm.MethodName)) ∈ lw_all := lw_g (lw_at lw_m4 177 rfl) rfl
theorem q987 : (Jvm.Cond.static ({ cls := "ShieldLine", name := "part", desc := "(JJI)J" } : Jvm.MethodName)) ∈ lw_all := lw_g (lw_at lw_m4 178 rfl) rfl
theorem q988 : (Jvm.Cond.code ({ cls := "ShieldLine", name := "part", desc := "(JJI)J" } : Jvm.MethodName) prog_1_method_54_code (11 : Nat) (Option.some Jvm.ClassFile.FieldType.long)) ∈ lw_all := lw_g (lw_at lw_m4 179 rfl) rfl
theorem q990 : (Jvm.Cond.instanceMethod ({ cls := "ShieldLine", name := "paid", desc := "(II)I" } : Jvm.MethodName)) ∈ lw_all := lw_g (lw_at lw_m4 181 rfl) rfl
theorem q991 : (Jvm.Cond.selects "ShieldLine" ({ cls := "ShieldLine", name := "paid", desc := "(II)I" } : Jvm.MethodName) ({ cls := "ShieldLine", name := "paid", desc := "(II)I" } : Jvm.MethodName)) ∈ lw_all := lw_g (lw_at lw_m4 182 rfl) rfl
theorem q992 : (Jvm.Cond.code ({ cls := "ShieldLine", name := "paid", desc := "(II)I" } : Jvm.MethodName) prog_1_method_57_code (5 : Nat) (Option.some Jvm.ClassFile.FieldType.int)) ∈ lw_all := lw_g (lw_at lw_m4 183 rfl) rfl
theorem q993 : (Jvm.Cond.methodLink "ShieldLine" (348 : Nat) ({ cls := "ShieldLine", name := "caresAlone", desc := "(I)Z" } : Jvm.MethodName)) ∈ lw_all := lw_g (lw_at lw_m4 184 rfl) rfl
theorem q994 : (Jvm.Cond.privateMethod ({ cls := "ShieldLine", name := "caresAlone", desc := "(I)Z" } : Jvm.MethodName)) ∈ lw_tbl := lw_at lw_m4 185 rfl
theorem q995 : (Jvm.Cond.instanceMethod ({ cls := "ShieldLine", name := "caresAlone", desc := "(I)Z" } : Jvm.MethodName)) ∈ lw_all := lw_g (lw_at lw_m4 186 rfl) rfl
theorem q996 : (Jvm.Cond.code ({ cls := "ShieldLine", name := "caresAlone", desc := "(I)Z" } : Jvm.MethodName) prog_1_method_56_code (2 : Nat) (Option.some Jvm.ClassFile.FieldType.boolean)) ∈ lw_all := lw_g (lw_at lw_m4 187 rfl) rfl
theorem q998 : (Jvm.Cond.instanceMethod ({ cls := "ShieldLine", name := "byTurns", desc := "(II)I" } : Jvm.MethodName)) ∈ lw_all := lw_g (lw_at lw_m4 189 rfl) rfl
theorem q999 : (Jvm.Cond.selects "ShieldLine" ({ cls := "ShieldLine", name := "byTurns", desc := "(II)I" } : Jvm.MethodName) ({ cls := "ShieldLine", name := "byTurns", desc := "(II)I" } : Jvm.MethodName)) ∈ lw_all := lw_g (lw_at lw_m4 190 rfl) rfl
theorem q1000 : (Jvm.Cond.code ({ cls := "ShieldLine", name := "byTurns", desc := "(II)I" } : Jvm.MethodName) prog_1_method_62_code (6 : Nat) (Option.some Jvm.ClassFile.FieldType.int)) ∈ lw_all := lw_g (lw_at lw_m4 191 rfl) rfl
theorem q1001 : (Jvm.Cond.methodLink "ShieldLine" (354 : Nat) ({ cls := "ShieldLine", name := "bestOf", desc := "(IZ)I" } : Jvm.MethodName)) ∈ lw_all := lw_g (lw_at lw_m4 192 rfl) rfl
theorem q1002 : (Jvm.Cond.privateMethod ({ cls := "ShieldLine", name := "bestOf", desc := "(IZ)I" } : Jvm.MethodName)) ∈ lw_tbl := lw_at lw_m4 193 rfl
theorem q1003 : (Jvm.Cond.instanceMethod ({ cls := "ShieldLine", name := "bestOf", desc := "(IZ)I" } : Jvm.MethodName)) ∈ lw_all := lw_g (lw_at lw_m4 194 rfl) rfl
theorem q1004 : (Jvm.Cond.code ({ cls := "ShieldLine", name := "bestOf", desc := "(IZ)I" } : Jvm.MethodName) prog_1_method_61_code (6 : Nat) (Option.some Jvm.ClassFile.FieldType.int)) ∈ lw_all := lw_g (lw_at lw_m4 195 rfl) rfl
theorem q1005 : (Jvm.Cond.methodLink "ShieldLine" (361 : Nat) ({ cls := "ShieldLine", name := "endsBy", desc := "()I" } : Jvm.MethodName)) ∈ lw_all := lw_g (lw_at lw_m4 196 rfl) rfl
theorem q1006 : (Jvm.Cond.privateMethod ({ cls := "ShieldLine", name := "endsBy", desc := "()I" } : Jvm.MethodName)) ∈ lw_tbl := lw_at lw_m4 197 rfl
theorem q1007 : (Jvm.Cond.instanceMethod ({ cls := "ShieldLine", name := "endsBy", desc := "()I" } : Jvm.MethodName)) ∈ lw_all := lw_g (lw_at lw_m4 198 rfl) rfl
theorem q1008 : (Jvm.Cond.code ({ cls := "ShieldLine", name := "endsBy", desc := "()I" } : Jvm.MethodName) prog_1_method_59_code (1 : Nat) (Option.some Jvm.ClassFile.FieldType.int)) ∈ lw_all := lw_g (lw_at lw_m4 199 rfl) rfl
theorem q1009 : (Jvm.Cond.methodLink "ShieldLine" (364 : Nat) ({ cls := "ShieldLine", name := "byDeed", desc := "(IIZ)I" } : Jvm.MethodName)) ∈ lw_all := lw_g (lw_at lw_m4 200 rfl) rfl
theorem q1010 : (Jvm.Cond.privateMethod ({ cls := "ShieldLine", name := "byDeed", desc := "(IIZ)I" } : Jvm.MethodName)) ∈ lw_tbl := lw_at lw_m4 201 rfl
theorem q1011 : (Jvm.Cond.instanceMethod ({ cls := "ShieldLine", name := "byDeed", desc := "(IIZ)I" } : Jvm.MethodName)) ∈ lw_all := lw_g (lw_at lw_m4 202 rfl) rfl
theorem q1012 : (Jvm.Cond.code ({ cls := "ShieldLine", name := "byDeed", desc := "(IIZ)I" } : Jvm.MethodName) prog_1_method_60_code (6 : Nat) (Option.some Jvm.ClassFile.FieldType.int)) ∈ lw_all := lw_g (lw_at lw_m4 203 rfl) rfl
theorem q1013 : (Jvm.Cond.methodLink "ShieldLine" (358 : Nat) ({ cls := "ShieldLine", name := "nextWhom", desc := "(I)I" } : Jvm.MethodName)) ∈ lw_all := lw_g (lw_at lw_m4 204 rfl) rfl
theorem q1014 : (Jvm.Cond.privateMethod ({ cls := "ShieldLine", name := "nextWhom", desc := "(I)I" } : Jvm.MethodName)) ∈ lw_tbl := lw_at lw_m4 205 rfl
theorem q1015 : (Jvm.Cond.instanceMethod ({ cls := "ShieldLine", name := "nextWhom", desc := "(I)I" } : Jvm.MethodName)) ∈ lw_all := lw_g (lw_at lw_m4 206 rfl) rfl
theorem q1016 : (Jvm.Cond.code ({ cls := "ShieldLine", name := "nextWhom", desc := "(I)I" } : Jvm.MethodName) prog_1_method_58_code (3 : Nat) (Option.some Jvm.ClassFile.FieldType.int)) ∈ lw_all := lw_g (lw_at lw_m4 207 rfl) rfl
theorem q1018 : (Jvm.Cond.instanceMethod ({ cls := "ShieldLine", name := "drawn", desc := "(III)I" } : Jvm.MethodName)) ∈ lw_all := lw_g (lw_at lw_m4 209 rfl) rfl
theorem q1019 : (Jvm.Cond.selects "ShieldLine" ({ cls := "ShieldLine", name := "drawn", desc := "(III)I" } : Jvm.MethodName) ({ cls := "ShieldLine", name := "drawn", desc := "(III)I" } : Jvm.MethodName)) ∈ lw_all := lw_g (lw_at lw_m4 210 rfl) rfl
theorem q1020 : (Jvm.Cond.code ({ cls := "ShieldLine", name := "drawn", desc := "(III)I" } : Jvm.MethodName) prog_1_method_63_code (9 : Nat) (Option.some Jvm.ClassFile.FieldType.int)) ∈ lw_all := lw_g (lw_at lw_m4 211 rfl) rfl
theorem q1021 : (Jvm.Cond.constant "ShieldLine" (368 : Nat) (1103515245 : Int32)) ∈ lw_all := lw_g (lw_at lw_m4 212 rfl) rfl
theorem q1023 : (Jvm.Cond.instanceMethod ({ cls := "ShieldLine", name := "day", desc := "()I" } : Jvm.MethodName)) ∈ lw_all := lw_g (lw_at lw_m4 214 rfl) rfl
theorem q1024 : (Jvm.Cond.selects "ShieldLine" ({ cls := "ShieldLine", name := "day", desc := "()I" } : Jvm.MethodName) ({ cls := "ShieldLine", name := "day", desc := "()I" } : Jvm.MethodName)) ∈ lw_all := lw_g (lw_at lw_m4 215 rfl) rfl
theorem q1025 : (Jvm.Cond.code ({ cls := "ShieldLine", name := "day", desc := "()I" } : Jvm.MethodName) prog_1_method_64_code (3 : Nat) (Option.some Jvm.ClassFile.FieldType.int)) ∈ lw_all := lw_g (lw_at lw_m4 216 rfl) rfl
theorem q1027 : (Jvm.Cond.instanceMethod ({ cls := "ShieldLine", name := "cares", desc := "(II)I" } : Jvm.MethodName)) ∈ lw_all := lw_g (lw_at lw_m4 218 rfl) rfl
theorem q1028 : (Jvm.Cond.selects "ShieldLine" ({ cls := "ShieldLine", name := "cares", desc := "(II)I" } : Jvm.MethodName) ({ cls := "ShieldLine", name := "cares", desc := "(II)I" } : Jvm.MethodName)) ∈ lw_all := lw_g (lw_at lw_m4 219 rfl) rfl
theorem q1029 : (Jvm.Cond.code ({ cls := "ShieldLine", name := "cares", desc := "(II)I" } : Jvm.MethodName) prog_1_method_65_code (4 : Nat) (Option.some Jvm.ClassFile.FieldType.int)) ∈ lw_all := lw_g (lw_at lw_m4 220 rfl) rfl
theorem q1031 : (Jvm.Cond.instanceMethod ({ cls := "ShieldLine", name := "gives", desc := "(III)I" } : Jvm.MethodName)) ∈ lw_all := lw_g (lw_at lw_m4 222 rfl) rfl
theorem q1032 : (Jvm.Cond.selects "ShieldLine" ({ cls := "ShieldLine", name := "gives", desc := "(III)I" } : Jvm.MethodName) ({ cls := "ShieldLine", name := "gives", desc := "(III)I" } : Jvm.MethodName)) ∈ lw_all := lw_g (lw_at lw_m4 223 rfl) rfl
theorem q1033 : (Jvm.Cond.code ({ cls := "ShieldLine", name := "gives", desc := "(III)I" } : Jvm.MethodName) prog_1_method_66_code (4 : Nat) (Option.some Jvm.ClassFile.FieldType.int)) ∈ lw_all := lw_g (lw_at lw_m4 224 rfl) rfl
theorem q1035 : (Jvm.Cond.instanceMethod ({ cls := "ShieldLine", name := "led", desc := "(I)I" } : Jvm.MethodName)) ∈ lw_all := lw_g (lw_at lw_m4 226 rfl) rfl
theorem q1036 : (Jvm.Cond.selects "ShieldLine" ({ cls := "ShieldLine", name := "led", desc := "(I)I" } : Jvm.MethodName) ({ cls := "ShieldLine", name := "led", desc := "(I)I" } : Jvm.MethodName)) ∈ lw_all := lw_g (lw_at lw_m4 227 rfl) rfl
theorem q1037 : (Jvm.Cond.code ({ cls := "ShieldLine", name := "led", desc := "(I)I" } : Jvm.MethodName) prog_1_method_67_code (2 : Nat) (Option.some Jvm.ClassFile.FieldType.int)) ∈ lw_all := lw_g (lw_at lw_m4 228 rfl) rfl
theorem q1039 : (Jvm.Cond.instanceMethod ({ cls := "ShieldLine", name := "image", desc := "()I" } : Jvm.MethodName)) ∈ lw_all := lw_g (lw_at lw_m4 230 rfl) rfl
theorem q1040 : (Jvm.Cond.selects "ShieldLine" ({ cls := "ShieldLine", name := "image", desc := "()I" } : Jvm.MethodName) ({ cls := "ShieldLine", name := "image", desc := "()I" } : Jvm.MethodName)) ∈ lw_all := lw_g (lw_at lw_m4 231 rfl) rfl
theorem q1041 : (Jvm.Cond.code ({ cls := "ShieldLine", name := "image", desc := "()I" } : Jvm.MethodName) prog_1_method_68_code (2 : Nat) (Option.some Jvm.ClassFile.FieldType.int)) ∈ lw_all := lw_g (lw_at lw_m4 232 rfl) rfl
theorem q1043 : (Jvm.Cond.instanceMethod ({ cls := "ShieldLine", name := "back", desc := "()I" } : Jvm.MethodName)) ∈ lw_all := lw_g (lw_at lw_m4 234 rfl) rfl
theorem q1044 : (Jvm.Cond.selects "ShieldLine" ({ cls := "ShieldLine", name := "back", desc := "()I" } : Jvm.MethodName) ({ cls := "ShieldLine", name := "back", desc := "()I" } : Jvm.MethodName)) ∈ lw_all := lw_g (lw_at lw_m4 235 rfl) rfl
theorem q1045 : (Jvm.Cond.code ({ cls := "ShieldLine", name := "back", desc := "()I" } : Jvm.MethodName) prog_1_method_69_code (2 : Nat) (Option.some Jvm.ClassFile.FieldType.int)) ∈ lw_all := lw_g (lw_at lw_m4 236 rfl) rfl
theorem q1047 : (Jvm.Cond.instanceMethod ({ cls := "ShieldLine", name := "body", desc := "(I)I" } : Jvm.MethodName)) ∈ lw_all := lw_g (lw_at lw_m4 238 rfl) rfl
theorem q1048 : (Jvm.Cond.selects "ShieldLine" ({ cls := "ShieldLine", name := "body", desc := "(I)I" } : Jvm.MethodName) ({ cls := "ShieldLine", name := "body", desc := "(I)I" } : Jvm.MethodName)) ∈ lw_all := lw_g (lw_at lw_m4 239 rfl) rfl
theorem q1049 : (Jvm.Cond.code ({ cls := "ShieldLine", name := "body", desc := "(I)I" } : Jvm.MethodName) prog_1_method_74_code (2 : Nat) (Option.some Jvm.ClassFile.FieldType.int)) ∈ lw_all := lw_g (lw_at lw_m5 0 rfl) rfl
theorem q1050 : (Jvm.Cond.methodLink "ShieldLine" (439 : Nat) ({ cls := "ShieldLine", name := "made", desc := "(I)LShieldLine$Shield;" } : Jvm.MethodName)) ∈ lw_all := lw_g (lw_at lw_m5 1 rfl) rfl
theorem q1051 : (Jvm.Cond.privateMethod ({ cls := "ShieldLine", name := "made", desc := "(I)LShieldLine$Shield;" } : Jvm.MethodName)) ∈ lw_tbl := lw_at lw_m5 2 rfl
theorem q1052 : (Jvm.Cond.instanceMethod ({ cls := "ShieldLine", name := "made", desc := "(I)LShieldLine$Shield;" } : Jvm.MethodName)) ∈ lw_all := lw_g (lw_at lw_m5 3 rfl) rfl
theorem q1053 : (Jvm.Cond.code ({ cls := "ShieldLine", name := "made", desc := "(I)LShieldLine$Shield;" } : Jvm.MethodName) prog_1_method_73_code (2 : Nat) (Option.some (Jvm.ClassFile.FieldType.object "ShieldLine$Shield"))) ∈ lw_all := lw_g (lw_at lw_m5 4 rfl) rfl
theorem q1054 : (Jvm.Cond.classLink "ShieldLine" (415 : Nat) "ShieldLine$Roof") ∈ lw_all := lw_g (lw_at lw_m5 5 rfl) rfl
theorem q1056 : (Jvm.Cond.methodLink "ShieldLine" (417 : Nat) ({ cls := "ShieldLine$Roof", name := "<init>", desc := "(LShieldLine;I)V" } : Jvm.MethodName)) ∈ lw_all := lw_g (lw_at lw_m5 7 rfl) rfl
theorem q1076 : (Jvm.Cond.classLink "ShieldLine" (420 : Nat) "ShieldLine$Lamp") ∈ lw_all := lw_g (lw_at lw_m5 27 rfl) rfl
theorem q1078 : (Jvm.Cond.methodLink "ShieldLine" (422 : Nat) ({ cls := "ShieldLine$Lamp", name := "<init>", desc := "(LShieldLine;I)V" } : Jvm.MethodName)) ∈ lw_all := lw_g (lw_at lw_m5 29 rfl) rfl
theorem q1088 : (Jvm.Cond.classLink "ShieldLine" (423 : Nat) "ShieldLine$Post") ∈ lw_all := lw_g (lw_at lw_m5 39 rfl) rfl
theorem q1090 : (Jvm.Cond.methodLink "ShieldLine" (425 : Nat) ({ cls := "ShieldLine$Post", name := "<init>", desc := "(LShieldLine;I)V" } : Jvm.MethodName)) ∈ lw_all := lw_g (lw_at lw_m5 41 rfl) rfl
theorem q1101 : (Jvm.Cond.classLink "ShieldLine" (426 : Nat) "ShieldLine$Widow") ∈ lw_all := lw_g (lw_at lw_m5 52 rfl) rfl
theorem q1103 : (Jvm.Cond.methodLink "ShieldLine" (428 : Nat) ({ cls := "ShieldLine$Widow", name := "<init>", desc := "(LShieldLine;I)V" } : Jvm.MethodName)) ∈ lw_all := lw_g (lw_at lw_m5 54 rfl) rfl
theorem q1114 : (Jvm.Cond.classLink "ShieldLine" (429 : Nat) "ShieldLine$Can") ∈ lw_all := lw_g (lw_at lw_m5 65 rfl) rfl
theorem q1116 : (Jvm.Cond.methodLink "ShieldLine" (431 : Nat) ({ cls := "ShieldLine$Can", name := "<init>", desc := "(LShieldLine;I)V" } : Jvm.MethodName)) ∈ lw_all := lw_g (lw_at lw_m5 67 rfl) rfl
theorem q1128 : (Jvm.Cond.classLink "ShieldLine" (432 : Nat) "ShieldLine$Kiln") ∈ lw_all := lw_g (lw_at lw_m5 79 rfl) rfl
theorem q1130 : (Jvm.Cond.methodLink "ShieldLine" (434 : Nat) ({ cls := "ShieldLine$Kiln", name := "<init>", desc := "(LShieldLine;I)V" } : Jvm.MethodName)) ∈ lw_all := lw_g (lw_at lw_m5 81 rfl) rfl
theorem q1140 : (Jvm.Cond.classLink "ShieldLine" (435 : Nat) "ShieldLine$Hill") ∈ lw_all := lw_g (lw_at lw_m5 91 rfl) rfl
theorem q1142 : (Jvm.Cond.methodLink "ShieldLine" (437 : Nat) ({ cls := "ShieldLine$Hill", name := "<init>", desc := "(LShieldLine;I)V" } : Jvm.MethodName)) ∈ lw_all := lw_g (lw_at lw_m5 93 rfl) rfl
theorem q1155 : (Jvm.Cond.methodLink "ShieldLine" (438 : Nat) ({ cls := "ShieldLine$Shield", name := "<init>", desc := "(LShieldLine;I)V" } : Jvm.MethodName)) ∈ lw_all := lw_g (lw_at lw_m5 106 rfl) rfl
theorem q1160 : (Jvm.Cond.instanceMethod ({ cls := "ShieldLine", name := "act", desc := "(III)I" } : Jvm.MethodName)) ∈ lw_all := lw_g (lw_at lw_m5 111 rfl) rfl
theorem q1161 : (Jvm.Cond.selects "ShieldLine" ({ cls := "ShieldLine", name := "act", desc := "(III)I" } : Jvm.MethodName) ({ cls := "ShieldLine", name := "act", desc := "(III)I" } : Jvm.MethodName)) ∈ lw_all := lw_g (lw_at lw_m5 112 rfl) rfl
theorem q1162 : (Jvm.Cond.code ({ cls := "ShieldLine", name := "act", desc := "(III)I" } : Jvm.MethodName) prog_1_method_76_code (6 : Nat) (Option.some Jvm.ClassFile.FieldType.int)) ∈ lw_all := lw_g (lw_at lw_m5 113 rfl) rfl
theorem q1163 : (Jvm.Cond.methodLink "ShieldLine" (443 : Nat) ({ cls := "ShieldLine", name := "isBody", desc := "(I)Z" } : Jvm.MethodName)) ∈ lw_all := lw_g (lw_at lw_m5 114 rfl) rfl
theorem q1164 : (Jvm.Cond.privateMethod ({ cls := "ShieldLine", name := "isBody", desc := "(I)Z" } : Jvm.MethodName)) ∈ lw_tbl := lw_at lw_m5 115 rfl
theorem q1165 : (Jvm.Cond.instanceMethod ({ cls := "ShieldLine", name := "isBody", desc := "(I)Z" } : Jvm.MethodName)) ∈ lw_all := lw_g (lw_at lw_m5 116 rfl) rfl
theorem q1166 : (Jvm.Cond.code ({ cls := "ShieldLine", name := "isBody", desc := "(I)Z" } : Jvm.MethodName) prog_1_method_72_code (2 : Nat) (Option.some Jvm.ClassFile.FieldType.boolean)) ∈ lw_all := lw_g (lw_at lw_m5 117 rfl) rfl
theorem q1167 : (Jvm.Cond.interfaceEntry "ShieldLine" (446 : Nat)) ∈ lw_tbl := lw_at lw_m5 118 rfl
theorem q1168 : (Jvm.Cond.methodLink "ShieldLine" (446 : Nat) ({ cls := "ShieldLine$Bears", name := "bears", desc := "(I)I" } : Jvm.MethodName)) ∈ lw_all := lw_g (lw_at lw_m5 119 rfl) rfl
theorem q1178 : (Jvm.Cond.privateMethod ({ cls := "ShieldLine", name := "ran", desc := "(I)V" } : Jvm.MethodName)) ∈ lw_tbl := lw_at lw_m5 129 rfl
theorem q1179 : (Jvm.Cond.instanceMethod ({ cls := "ShieldLine", name := "ran", desc := "(I)V" } : Jvm.MethodName)) ∈ lw_all := lw_g (lw_at lw_m5 130 rfl) rfl
theorem q1180 : (Jvm.Cond.code ({ cls := "ShieldLine", name := "ran", desc := "(I)V" } : Jvm.MethodName) prog_1_method_71_code (2 : Nat) (Option.none : Option Jvm.ClassFile.FieldType)) ∈ lw_all := lw_g (lw_at lw_m5 131 rfl) rfl
theorem q1212 : (Jvm.Cond.interfaceEntry "ShieldLine" (451 : Nat)) ∈ lw_tbl := lw_at lw_m5 163 rfl
theorem q1213 : (Jvm.Cond.methodLink "ShieldLine" (451 : Nat) ({ cls := "ShieldLine$Tells", name := "tells", desc := "(I)I" } : Jvm.MethodName)) ∈ lw_all := lw_g (lw_at lw_m5 164 rfl) rfl
theorem q1304 : (Jvm.Cond.methodLink "ShieldLine" (456 : Nat) ({ cls := "ShieldLine$Shield", name := "caresFor", desc := "(I)I" } : Jvm.MethodName)) ∈ lw_all := lw_g (lw_at lw_m6 15 rfl) rfl
theorem q1305 : (Jvm.Cond.methodLink "ShieldLine" (459 : Nat) ({ cls := "ShieldLine$Shield", name := "lacksIt", desc := "(I)I" } : Jvm.MethodName)) ∈ lw_all := lw_g (lw_at lw_m6 16 rfl) rfl
theorem q1307 : (Jvm.Cond.instanceMethod ({ cls := "ShieldLine", name := "trace", desc := "(I)I" } : Jvm.MethodName)) ∈ lw_all := lw_g (lw_at lw_m6 18 rfl) rfl
theorem q1308 : (Jvm.Cond.selects "ShieldLine" ({ cls := "ShieldLine", name := "trace", desc := "(I)I" } : Jvm.MethodName) ({ cls := "ShieldLine", name := "trace", desc := "(I)I" } : Jvm.MethodName)) ∈ lw_all := lw_g (lw_at lw_m6 19 rfl) rfl
theorem q1309 : (Jvm.Cond.code ({ cls := "ShieldLine", name := "trace", desc := "(I)I" } : Jvm.MethodName) prog_1_method_77_code (2 : Nat) (Option.some Jvm.ClassFile.FieldType.int)) ∈ lw_all := lw_g (lw_at lw_m6 20 rfl) rfl
theorem q1311 : (Jvm.Cond.instanceMethod ({ cls := "ShieldLine", name := "keep", desc := "(II)I" } : Jvm.MethodName)) ∈ lw_all := lw_g (lw_at lw_m6 22 rfl) rfl
theorem q1312 : (Jvm.Cond.selects "ShieldLine" ({ cls := "ShieldLine", name := "keep", desc := "(II)I" } : Jvm.MethodName) ({ cls := "ShieldLine", name := "keep", desc := "(II)I" } : Jvm.MethodName)) ∈ lw_all := lw_g (lw_at lw_m6 23 rfl) rfl
theorem q1313 : (Jvm.Cond.code ({ cls := "ShieldLine", name := "keep", desc := "(II)I" } : Jvm.MethodName) prog_1_method_78_code (3 : Nat) (Option.some Jvm.ClassFile.FieldType.int)) ∈ lw_all := lw_g (lw_at lw_m6 24 rfl) rfl
theorem q1315 : (Jvm.Cond.instanceMethod ({ cls := "ShieldLine", name := "row", desc := "(III)I" } : Jvm.MethodName)) ∈ lw_all := lw_g (lw_at lw_m6 26 rfl) rfl
theorem q1316 : (Jvm.Cond.selects "ShieldLine" ({ cls := "ShieldLine", name := "row", desc := "(III)I" } : Jvm.MethodName) ({ cls := "ShieldLine", name := "row", desc := "(III)I" } : Jvm.MethodName)) ∈ lw_all := lw_g (lw_at lw_m6 27 rfl) rfl
theorem q1317 : (Jvm.Cond.codeWith ({ cls := "ShieldLine", name := "row", desc := "(III)I" } : Jvm.MethodName) prog_1_method_80_code (5 : Nat) (Option.some Jvm.ClassFile.FieldType.int) [((24 : Nat), (35 : Nat), (38 : Nat), (479 : Nat))]) ∈ lw_all := lw_g (lw_at lw_m6 28 rfl) rfl
theorem q1318 : (Jvm.Cond.classLink "ShieldLine" (479 : Nat) "java/lang/NegativeArraySizeException") ∈ lw_all := lw_g (lw_at lw_m6 29 rfl) rfl
theorem q1332 : (Jvm.Cond.methodLink "ShieldLine" (475 : Nat) ({ cls := "ShieldLine", name := "newRow", desc := "(II)LShieldLine$Row;" } : Jvm.MethodName)) ∈ lw_all := lw_g (lw_at lw_m6 43 rfl) rfl
theorem q1333 : (Jvm.Cond.static ({ cls := "ShieldLine", name := "newRow", desc := "(II)LShieldLine$Row;" } : Jvm.MethodName)) ∈ lw_all := lw_g (lw_at lw_m6 44 rfl) rfl
theorem q1334 : (Jvm.Cond.code ({ cls := "ShieldLine", name := "newRow", desc := "(II)LShieldLine$Row;" } : Jvm.MethodName) prog_1_method_79_code (2 : Nat) (Option.some (Jvm.ClassFile.FieldType.object "ShieldLine$Row"))) ∈ lw_all := lw_g (lw_at lw_m6 45 rfl) rfl
theorem q1336 : (Jvm.Cond.methodLink "ShieldLine" (462 : Nat) ({ cls := "ShieldLine$ByteRow", name := "<init>", desc := "(I)V" } : Jvm.MethodName)) ∈ lw_all := lw_g (lw_at lw_m6 47 rfl) rfl
theorem q1347 : (Jvm.Cond.classLink "ShieldLine" (463 : Nat) "ShieldLine$ShortRow") ∈ lw_all := lw_g (lw_at lw_m6 58 rfl) rfl
theorem q1349 : (Jvm.Cond.methodLink "ShieldLine" (465 : Nat) ({ cls := "ShieldLine$ShortRow", name := "<init>", desc := "(I)V" } : Jvm.MethodName)) ∈ lw_all := lw_g (lw_at lw_m6 60 rfl) rfl
theorem q1358 : (Jvm.Cond.classLink "ShieldLine" (466 : Nat) "ShieldLine$IntRow") ∈ lw_all := lw_g (lw_at lw_m6 69 rfl) rfl
theorem q1360 : (Jvm.Cond.methodLink "ShieldLine" (468 : Nat) ({ cls := "ShieldLine$IntRow", name := "<init>", desc := "(I)V" } : Jvm.MethodName)) ∈ lw_all := lw_g (lw_at lw_m6 71 rfl) rfl
theorem q1368 : (Jvm.Cond.classLink "ShieldLine" (469 : Nat) "ShieldLine$LongRow") ∈ lw_all := lw_g (lw_at lw_m6 79 rfl) rfl
theorem q1370 : (Jvm.Cond.methodLink "ShieldLine" (471 : Nat) ({ cls := "ShieldLine$LongRow", name := "<init>", desc := "(I)V" } : Jvm.MethodName)) ∈ lw_all := lw_g (lw_at lw_m6 81 rfl) rfl
theorem q1379 : (Jvm.Cond.classLink "ShieldLine" (472 : Nat) "ShieldLine$BooleanRow") ∈ lw_all := lw_g (lw_at lw_m6 90 rfl) rfl
theorem q1381 : (Jvm.Cond.methodLink "ShieldLine" (474 : Nat) ({ cls := "ShieldLine$BooleanRow", name := "<init>", desc := "(I)V" } : Jvm.MethodName)) ∈ lw_all := lw_g (lw_at lw_m6 92 rfl) rfl
theorem q1391 : (Jvm.Cond.instanceMethod ({ cls := "ShieldLine", name := "put", desc := "(IIJ)I" } : Jvm.MethodName)) ∈ lw_all := lw_g (lw_at lw_m6 102 rfl) rfl
theorem q1392 : (Jvm.Cond.selects "ShieldLine" ({ cls := "ShieldLine", name := "put", desc := "(IIJ)I" } : Jvm.MethodName) ({ cls := "ShieldLine", name := "put", desc := "(IIJ)I" } : Jvm.MethodName)) ∈ lw_all := lw_g (lw_at lw_m6 103 rfl) rfl
theorem q1393 : (Jvm.Cond.codeWith ({ cls := "ShieldLine", name := "put", desc := "(IIJ)I" } : Jvm.MethodName) prog_1_method_81_code (6 : Nat) (Option.some Jvm.ClassFile.FieldType.int) [((9 : Nat), (31 : Nat), (32 : Nat), (116 : Nat)), ((9 : Nat), (31 : Nat), (37 : Nat), (114 : Nat)), ((9 : Nat), (31 : Nat), (42 : Nat), (118 : Nat))]) ∈ lw_all := lw_g (lw_at lw_m6 104 rfl) rfl
theorem q1394 : (Jvm.Cond.classLink "ShieldLine" (481 : Nat) "ShieldLine$Row") ∈ lw_all := lw_g (lw_at lw_m6 105 rfl) rfl
theorem q1395 : (Jvm.Cond.methodLink "ShieldLine" (483 : Nat) ({ cls := "ShieldLine$Row", name := "put", desc := "(IJ)Z" } : Jvm.MethodName)) ∈ lw_all := lw_g (lw_at lw_m6 106 rfl) rfl
theorem q1414 : (Jvm.Cond.instanceMethod ({ cls := "ShieldLine", name := "element", desc := "(II)J" } : Jvm.MethodName)) ∈ lw_all := lw_g (lw_at lw_m6 125 rfl) rfl
theorem q1415 : (Jvm.Cond.selects "ShieldLine" ({ cls := "ShieldLine", name := "element", desc := "(II)J" } : Jvm.MethodName) ({ cls := "ShieldLine", name := "element", desc := "(II)J" } : Jvm.MethodName)) ∈ lw_all := lw_g (lw_at lw_m6 126 rfl) rfl
theorem q1416 : (Jvm.Cond.codeWith ({ cls := "ShieldLine", name := "element", desc := "(II)J" } : Jvm.MethodName) prog_1_method_82_code (4 : Nat) (Option.some Jvm.ClassFile.FieldType.long) [((11 : Nat), (24 : Nat), (25 : Nat), (116 : Nat)), ((11 : Nat), (24 : Nat), (30 : Nat), (114 : Nat)), ((11 : Nat), (24 : Nat), (35 : Nat), (118 : Nat))]) ∈ lw_all := lw_g (lw_at lw_m6 127 rfl) rfl
theorem q1417 : (Jvm.Cond.methodLink "ShieldLine" (487 : Nat) ({ cls := "ShieldLine$Row", name := "at", desc := "(I)J" } : Jvm.MethodName)) ∈ lw_all := lw_g (lw_at lw_m6 128 rfl) rfl
theorem q1434 : (Jvm.Cond.instanceMethod ({ cls := "ShieldLine", name := "shift", desc := "(IIIII)I" } : Jvm.MethodName)) ∈ lw_all := lw_g (lw_at lw_m6 145 rfl) rfl
theorem q1435 : (Jvm.Cond.selects "ShieldLine" ({ cls := "ShieldLine", name := "shift", desc := "(IIIII)I" } : Jvm.MethodName) ({ cls := "ShieldLine", name := "shift", desc := "(IIIII)I" } : Jvm.MethodName)) ∈ lw_all := lw_g (lw_at lw_m6 146 rfl) rfl
theorem q1436 : (Jvm.Cond.codeWith ({ cls := "ShieldLine", name := "shift", desc := "(IIIII)I" } : Jvm.MethodName) prog_1_method_83_code (7 : Nat) (Option.some Jvm.ClassFile.FieldType.int) [((37 : Nat), (63 : Nat), (66 : Nat), (114 : Nat)), ((37 : Nat), (63 : Nat), (71 : Nat), (118 : Nat))]) ∈ lw_all := lw_g (lw_at lw_m6 147 rfl) rfl
theorem q1437 : (Jvm.Cond.methodLink "ShieldLine" (488 : Nat) ({ cls := "ShieldLine$Row", name := "copy", desc := "(ILShieldLine$Row;II)V" } : Jvm.MethodName)) ∈ lw_all := lw_g (lw_at lw_m6 148 rfl) rfl
theorem q1466 : (Jvm.Cond.instanceMethod ({ cls := "ShieldLine", name := "taken", desc := "(II)I" } : Jvm.MethodName)) ∈ lw_all := lw_g (lw_at lw_m6 177 rfl) rfl
theorem q1467 : (Jvm.Cond.selects "ShieldLine" ({ cls := "ShieldLine", name := "taken", desc := "(II)I" } : Jvm.MethodName) ({ cls := "ShieldLine", name := "taken", desc := "(II)I" } : Jvm.MethodName)) ∈ lw_all := lw_g (lw_at lw_m6 178 rfl) rfl
theorem q1468 : (Jvm.Cond.codeWith ({ cls := "ShieldLine", name := "taken", desc := "(II)I" } : Jvm.MethodName) prog_1_method_84_code (4 : Nat) (Option.some Jvm.ClassFile.FieldType.int) [((19 : Nat), (46 : Nat), (47 : Nat), (116 : Nat)), ((19 : Nat), (46 : Nat), (51 : Nat), (114 : Nat))]) ∈ lw_all := lw_g (lw_at lw_m6 179 rfl) rfl
theorem q1469 : (Jvm.Cond.methodLink "ShieldLine" (492 : Nat) ({ cls := "ShieldLine$Shield", name := "isUnder", desc := "(I)Z" } : Jvm.MethodName)) ∈ lw_all := lw_g (lw_at lw_m6 180 rfl) rfl
theorem q1519 : (Jvm.Cond.methodLink "ShieldLine" (495 : Nat) ({ cls := "ShieldLine$Shield", name := "kind", desc := "()I" } : Jvm.MethodName)) ∈ lw_all := lw_g (lw_at lw_m6 230 rfl) rfl
theorem q1521 : (Jvm.Cond.instanceMethod ({ cls := "ShieldLine", name := "count", desc := "(I)I" } : Jvm.MethodName)) ∈ lw_all := lw_g (lw_at lw_m6 232 rfl) rfl
theorem q1522 : (Jvm.Cond.selects "ShieldLine" ({ cls := "ShieldLine", name := "count", desc := "(I)I" } : Jvm.MethodName) ({ cls := "ShieldLine", name := "count", desc := "(I)I" } : Jvm.MethodName)) ∈ lw_all := lw_g (lw_at lw_m6 233 rfl) rfl
theorem q1523 : (Jvm.Cond.code ({ cls := "ShieldLine", name := "count", desc := "(I)I" } : Jvm.MethodName) prog_1_method_85_code (2 : Nat) (Option.some Jvm.ClassFile.FieldType.int)) ∈ lw_all := lw_g (lw_at lw_m6 234 rfl) rfl
theorem q1524 : (Jvm.Cond.methodLink "ShieldLine" (498 : Nat) ({ cls := "ShieldLine", name := "lackNow", desc := "()I" } : Jvm.MethodName)) ∈ lw_all := lw_g (lw_at lw_m6 235 rfl) rfl
theorem q1525 : (Jvm.Cond.privateMethod ({ cls := "ShieldLine", name := "lackNow", desc := "()I" } : Jvm.MethodName)) ∈ lw_tbl := lw_at lw_m6 236 rfl
theorem q1526 : (Jvm.Cond.instanceMethod ({ cls := "ShieldLine", name := "lackNow", desc := "()I" } : Jvm.MethodName)) ∈ lw_all := lw_g (lw_at lw_m6 237 rfl) rfl
theorem q1527 : (Jvm.Cond.code ({ cls := "ShieldLine", name := "lackNow", desc := "()I" } : Jvm.MethodName) prog_1_method_70_code (1 : Nat) (Option.some Jvm.ClassFile.FieldType.int)) ∈ lw_all := lw_g (lw_at lw_m6 238 rfl) rfl
theorem in_X0 : ∀ w ∈ wsX00, w ∈ lw_all := lw_in wsX00 [211, 213, 215, 217, 219, 221, 223, 225, 227, 229, 231, 233, 235, 237, 239, 241, 243, 245, 247, 249, 251, 253, 255, 257, 259, 261, 263, 265, 267, 269, 271, 273, 275, 277, 279, 281, 283, 285, 287, 289, 291, 293, 295, 297, 299] (by decide +kernel) (by decide +kernel)

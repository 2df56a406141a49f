/-! PerilSeatModel -/
set_option maxRecDepth 100000
def RX2 : String := "PerilSeatModel"
def TX2 : u_T := fun k => match k with
  | 0 => ("PerilSeatModel", "seats", "I", false)
  | 1 => ("PerilSeatModel", "name", "[I", true)
  | 2 => ("PerilSeatModel", "knights", "I", false)
  | 3 => ("PerilSeatModel", "knight", "[I", true)
  | 4 => ("PerilSeatModel", "enemies", "[I", true)
  | 5 => ("PerilSeatModel", "perilFrom", "I", false)
  | 6 => ("PerilSeatModel", "perilStep", "I", false)
  | 7 => ("PerilSeatModel", "meant", "I", false)
  | 8 => ("PerilSeatModel", "st", "[I", true)
  | 9 => ("PerilSeatModel", "acts", "I", false)
  | 10 => ("PerilSeatModel", "was", "[I", true)
  | 11 => ("PerilSeatModel", "kept", "[I", true)
  | 12 => ("PerilSeatModel", "isKept", "[Z", true)
  | 13 => ("PerilSeatModel", "seens", "I", false)
  | 14 => ("PerilSeatModel", "seen", "[I", true)
  | 15 => ("PerilSeatModel", "text", "[I", true)
  | 16 => ("PerilSeatModel", "texted", "I", false)
  | 17 => ("PerilSeatModel", "at", "I", false)
  | 18 => ("PerilSeatModel", "place", "I", false)
  | 19 => ("PerilSeatModel", "token", "I", false)
  | 20 => ("PerilSeatModel", "value", "I", false)
  | 21 => ("PerilSeatModel", "isWell", "Z", false)
  | 22 => ("PerilSeatModel", "clauses", "I", false)
  | 23 => ("PerilSeatModel", "saidSeats", "I", false)
  | 24 => ("PerilSeatModel", "saidName", "[I", true)
  | 25 => ("PerilSeatModel", "saidKnights", "I", false)
  | 26 => ("PerilSeatModel", "saidKnight", "[I", true)
  | 27 => ("PerilSeatModel", "saidEnemies", "[I", true)
  | 28 => ("PerilSeatModel", "saidFrom", "I", false)
  | 29 => ("PerilSeatModel", "saidStep", "I", false)
  | 30 => ("PerilSeatModel", "saidMeant", "I", false)
  | 31 => ("PerilSeatModel", "heard", "[I", true)
  | 32 => ("PerilSeatModel", "sits", "[I", true)
  | 33 => ("PerilSeatModel", "lentSeat", "I", false)
  | 34 => ("PerilSeatModel", "found", "I", false)
  | 35 => ("PerilSeatModel", "first", "[I", true)
  | 36 => ("PerilSeatModel", "fewest", "I", false)
  | _ => ("PerilSeatModel", "mostKnow", "I", false)
def tyX2 : Nat → FieldType := fun k => match k with
  | 0 => .int
  | 1 => .array .int
  | 2 => .int
  | 3 => .array .int
  | 4 => .array .int
  | 5 => .int
  | 6 => .int
  | 7 => .int
  | 8 => .array .int
  | 9 => .int
  | 10 => .array .int
  | 11 => .array .int
  | 12 => .array .boolean
  | 13 => .int
  | 14 => .array .int
  | 15 => .array .int
  | 16 => .int
  | 17 => .int
  | 18 => .int
  | 19 => .int
  | 20 => .int
  | 21 => .boolean
  | 22 => .int
  | 23 => .int
  | 24 => .array .int
  | 25 => .int
  | 26 => .array .int
  | 27 => .array .int
  | 28 => .int
  | 29 => .int
  | 30 => .int
  | 31 => .array .int
  | 32 => .array .int
  | 33 => .int
  | 34 => .int
  | 35 => .array .int
  | 36 => .int
  | _ => .int
abbrev wsX20 : List Cond := u_ws RX2 TX2 38
set_option maxRecDepth 100000 in
theorem nmX2 : ∀ a, a < 38 → ∀ b, b < 38 → a ≠ b → (TX2 a).2.1 ≠ (TX2 b).2.1 := by decide +kernel
set_option maxRecDepth 100000 in
theorem tyX2_ok : ∀ k, k < 38 → parseFieldDescriptor (TX2 k).2.2.1 = some (tyX2 k) := by decide +kernel
abbrev cX2_init : ByteArray := prog_17_method_1_code
def yX2_init : MethodName := ⟨RX2, "<init>", "()V"⟩
def dkwX2_init_5 : List UInt8 := [188, 10, 181, 0, 54, 42, 2, 181, 0, 57, 42, 16, 6, 188, 10, 181, 0, 60, 42, 182, 0, 63, 177]
abbrev dktX2_init_5 : List UInt8 := dkwX2_init_5 ++ []
def dkwX2_init_4 : List UInt8 := [188, 10, 181, 0, 45, 42, 16, 6, 188, 10, 181, 0, 48, 42, 16, 6, 188, 10, 181, 0, 51, 42, 16, 6]
abbrev dktX2_init_4 : List UInt8 := dkwX2_init_4 ++ dktX2_init_5
def dkwX2_init_3 : List UInt8 := [181, 0, 36, 42, 17, 0, 160, 188, 10, 181, 0, 39, 42, 16, 16, 188, 10, 181, 0, 42, 42, 16, 18]
abbrev dktX2_init_3 : List UInt8 := dkwX2_init_3 ++ dktX2_init_4
def dkwX2_init_2 : List UInt8 := [181, 0, 26, 42, 16, 40, 188, 10, 181, 0, 29, 42, 5, 188, 4, 181, 0, 32, 42, 16, 32, 188, 10]
abbrev dktX2_init_2 : List UInt8 := dkwX2_init_2 ++ dktX2_init_3
def dkwX2_init_1 : List UInt8 := [188, 10, 181, 0, 16, 42, 2, 181, 0, 19, 42, 16, 20, 188, 10, 181, 0, 23, 42, 17, 0, 160, 188, 10]
abbrev dktX2_init_1 : List UInt8 := dkwX2_init_1 ++ dktX2_init_2
def dkwX2_init_0 : List UInt8 := [42, 183, 0, 1, 42, 16, 16, 188, 10, 181, 0, 7, 42, 16, 18, 188, 10, 181, 0, 13, 42, 16, 6]
abbrev dktX2_init_0 : List UInt8 := dkwX2_init_0 ++ dktX2_init_1
theorem dksX2_init_0 : cX2_init.data.toList.drop 0 = dktX2_init_0 := by decide +kernel
theorem dksX2_init_1 : cX2_init.data.toList.drop 23 = dktX2_init_1 := dk_seg dksX2_init_0 23 rfl rfl
theorem dksX2_init_2 : cX2_init.data.toList.drop 47 = dktX2_init_2 := dk_seg dksX2_init_1 24 rfl rfl
theorem dksX2_init_3 : cX2_init.data.toList.drop 70 = dktX2_init_3 := dk_seg dksX2_init_2 23 rfl rfl
theorem dksX2_init_4 : cX2_init.data.toList.drop 93 = dktX2_init_4 := dk_seg dksX2_init_3 23 rfl rfl
theorem dksX2_init_5 : cX2_init.data.toList.drop 117 = dktX2_init_5 := dk_seg dksX2_init_4 24 rfl rfl
theorem dX2_init_0 : decode cX2_init 0 = .ok (.aload_n 0, 1) := dk_42 (dk_at dksX2_init_0 0 rfl rfl)
theorem dX2_init_1 : decode cX2_init 1 = .ok (.invokespecial 1, 3) := dk_183 0 1 (dk_at dksX2_init_0 1 rfl rfl)
theorem dX2_init_4 : decode cX2_init 4 = .ok (.aload_n 0, 1) := dk_42 (dk_at dksX2_init_0 4 rfl rfl)
theorem dX2_init_5 : decode cX2_init 5 = .ok (.bipush 16, 2) := dk_16 16 (dk_at dksX2_init_0 5 rfl rfl)
theorem dX2_init_7 : decode cX2_init 7 = .ok (.newarray .int, 2) := dk_188_10 (dk_at dksX2_init_0 7 rfl rfl)
theorem dX2_init_9 : decode cX2_init 9 = .ok (.putfield 7, 3) := dk_181 0 7 (dk_at dksX2_init_0 9 rfl rfl)
theorem dX2_init_12 : decode cX2_init 12 = .ok (.aload_n 0, 1) := dk_42 (dk_at dksX2_init_0 12 rfl rfl)
theorem dX2_init_13 : decode cX2_init 13 = .ok (.bipush 18, 2) := dk_16 18 (dk_at dksX2_init_0 13 rfl rfl)
theorem dX2_init_15 : decode cX2_init 15 = .ok (.newarray .int, 2) := dk_188_10 (dk_at dksX2_init_0 15 rfl rfl)
theorem dX2_init_17 : decode cX2_init 17 = .ok (.putfield 13, 3) := dk_181 0 13 (dk_at dksX2_init_0 17 rfl rfl)
theorem dX2_init_20 : decode cX2_init 20 = .ok (.aload_n 0, 1) := dk_42 (dk_at dksX2_init_0 20 rfl rfl)
theorem dX2_init_21 : decode cX2_init 21 = .ok (.bipush 6, 2) := dk_16 6 (dk_at dksX2_init_0 21 rfl rfl)
theorem dX2_init_23 : decode cX2_init 23 = .ok (.newarray .int, 2) := dk_188_10 (dk_at dksX2_init_1 0 rfl rfl)
theorem dX2_init_25 : decode cX2_init 25 = .ok (.putfield 16, 3) := dk_181 0 16 (dk_at dksX2_init_1 2 rfl rfl)
theorem dX2_init_28 : decode cX2_init 28 = .ok (.aload_n 0, 1) := dk_42 (dk_at dksX2_init_1 5 rfl rfl)
theorem dX2_init_29 : decode cX2_init 29 = .ok (.iconst (-1), 1) := dk_2 (dk_at dksX2_init_1 6 rfl rfl)
theorem dX2_init_30 : decode cX2_init 30 = .ok (.putfield 19, 3) := dk_181 0 19 (dk_at dksX2_init_1 7 rfl rfl)
theorem dX2_init_33 : decode cX2_init 33 = .ok (.aload_n 0, 1) := dk_42 (dk_at dksX2_init_1 10 rfl rfl)
theorem dX2_init_34 : decode cX2_init 34 = .ok (.bipush 20, 2) := dk_16 20 (dk_at dksX2_init_1 11 rfl rfl)
theorem dX2_init_36 : decode cX2_init 36 = .ok (.newarray .int, 2) := dk_188_10 (dk_at dksX2_init_1 13 rfl rfl)
theorem dX2_init_38 : decode cX2_init 38 = .ok (.putfield 23, 3) := dk_181 0 23 (dk_at dksX2_init_1 15 rfl rfl)
theorem dX2_init_41 : decode cX2_init 41 = .ok (.aload_n 0, 1) := dk_42 (dk_at dksX2_init_1 18 rfl rfl)
theorem dX2_init_42 : decode cX2_init 42 = .ok (.sipush 160, 3) := dk_17 0 160 (dk_at dksX2_init_1 19 rfl rfl)
theorem dX2_init_45 : decode cX2_init 45 = .ok (.newarray .int, 2) := dk_188_10 (dk_at dksX2_init_1 22 rfl rfl)
theorem dX2_init_47 : decode cX2_init 47 = .ok (.putfield 26, 3) := dk_181 0 26 (dk_at dksX2_init_2 0 rfl rfl)
theorem dX2_init_50 : decode cX2_init 50 = .ok (.aload_n 0, 1) := dk_42 (dk_at dksX2_init_2 3 rfl rfl)
theorem dX2_init_51 : decode cX2_init 51 = .ok (.bipush 40, 2) := dk_16 40 (dk_at dksX2_init_2 4 rfl rfl)
theorem dX2_init_53 : decode cX2_init 53 = .ok (.newarray .int, 2) := dk_188_10 (dk_at dksX2_init_2 6 rfl rfl)
theorem dX2_init_55 : decode cX2_init 55 = .ok (.putfield 29, 3) := dk_181 0 29 (dk_at dksX2_init_2 8 rfl rfl)
theorem dX2_init_58 : decode cX2_init 58 = .ok (.aload_n 0, 1) := dk_42 (dk_at dksX2_init_2 11 rfl rfl)
theorem dX2_init_59 : decode cX2_init 59 = .ok (.iconst 2, 1) := dk_5 (dk_at dksX2_init_2 12 rfl rfl)
theorem dX2_init_60 : decode cX2_init 60 = .ok (.newarray .boolean, 2) := dk_188_4 (dk_at dksX2_init_2 13 rfl rfl)
theorem dX2_init_62 : decode cX2_init 62 = .ok (.putfield 32, 3) := dk_181 0 32 (dk_at dksX2_init_2 15 rfl rfl)
theorem dX2_init_65 : decode cX2_init 65 = .ok (.aload_n 0, 1) := dk_42 (dk_at dksX2_init_2 18 rfl rfl)
theorem dX2_init_66 : decode cX2_init 66 = .ok (.bipush 32, 2) := dk_16 32 (dk_at dksX2_init_2 19 rfl rfl)
theorem dX2_init_68 : decode cX2_init 68 = .ok (.newarray .int, 2) := dk_188_10 (dk_at dksX2_init_2 21 rfl rfl)
theorem dX2_init_70 : decode cX2_init 70 = .ok (.putfield 36, 3) := dk_181 0 36 (dk_at dksX2_init_3 0 rfl rfl)
theorem dX2_init_73 : decode cX2_init 73 = .ok (.aload_n 0, 1) := dk_42 (dk_at dksX2_init_3 3 rfl rfl)
theorem dX2_init_74 : decode cX2_init 74 = .ok (.sipush 160, 3) := dk_17 0 160 (dk_at dksX2_init_3 4 rfl rfl)
theorem dX2_init_77 : decode cX2_init 77 = .ok (.newarray .int, 2) := dk_188_10 (dk_at dksX2_init_3 7 rfl rfl)
theorem dX2_init_79 : decode cX2_init 79 = .ok (.putfield 39, 3) := dk_181 0 39 (dk_at dksX2_init_3 9 rfl rfl)
theorem dX2_init_82 : decode cX2_init 82 = .ok (.aload_n 0, 1) := dk_42 (dk_at dksX2_init_3 12 rfl rfl)
theorem dX2_init_83 : decode cX2_init 83 = .ok (.bipush 16, 2) := dk_16 16 (dk_at dksX2_init_3 13 rfl rfl)
theorem dX2_init_85 : decode cX2_init 85 = .ok (.newarray .int, 2) := dk_188_10 (dk_at dksX2_init_3 15 rfl rfl)
theorem dX2_init_87 : decode cX2_init 87 = .ok (.putfield 42, 3) := dk_181 0 42 (dk_at dksX2_init_3 17 rfl rfl)
theorem dX2_init_90 : decode cX2_init 90 = .ok (.aload_n 0, 1) := dk_42 (dk_at dksX2_init_3 20 rfl rfl)
theorem dX2_init_91 : decode cX2_init 91 = .ok (.bipush 18, 2) := dk_16 18 (dk_at dksX2_init_3 21 rfl rfl)
theorem dX2_init_93 : decode cX2_init 93 = .ok (.newarray .int, 2) := dk_188_10 (dk_at dksX2_init_4 0 rfl rfl)
theorem dX2_init_95 : decode cX2_init 95 = .ok (.putfield 45, 3) := dk_181 0 45 (dk_at dksX2_init_4 2 rfl rfl)
theorem dX2_init_98 : decode cX2_init 98 = .ok (.aload_n 0, 1) := dk_42 (dk_at dksX2_init_4 5 rfl rfl)
theorem dX2_init_99 : decode cX2_init 99 = .ok (.bipush 6, 2) := dk_16 6 (dk_at dksX2_init_4 6 rfl rfl)
theorem dX2_init_101 : decode cX2_init 101 = .ok (.newarray .int, 2) := dk_188_10 (dk_at dksX2_init_4 8 rfl rfl)
theorem dX2_init_103 : decode cX2_init 103 = .ok (.putfield 48, 3) := dk_181 0 48 (dk_at dksX2_init_4 10 rfl rfl)
theorem dX2_init_106 : decode cX2_init 106 = .ok (.aload_n 0, 1) := dk_42 (dk_at dksX2_init_4 13 rfl rfl)
theorem dX2_init_107 : decode cX2_init 107 = .ok (.bipush 6, 2) := dk_16 6 (dk_at dksX2_init_4 14 rfl rfl)
theorem dX2_init_109 : decode cX2_init 109 = .ok (.newarray .int, 2) := dk_188_10 (dk_at dksX2_init_4 16 rfl rfl)
theorem dX2_init_111 : decode cX2_init 111 = .ok (.putfield 51, 3) := dk_181 0 51 (dk_at dksX2_init_4 18 rfl rfl)
theorem dX2_init_114 : decode cX2_init 114 = .ok (.aload_n 0, 1) := dk_42 (dk_at dksX2_init_4 21 rfl rfl)
theorem dX2_init_115 : decode cX2_init 115 = .ok (.bipush 6, 2) := dk_16 6 (dk_at dksX2_init_4 22 rfl rfl)
theorem dX2_init_117 : decode cX2_init 117 = .ok (.newarray .int, 2) := dk_188_10 (dk_at dksX2_init_5 0 rfl rfl)
theorem dX2_init_119 : decode cX2_init 119 = .ok (.putfield 54, 3) := dk_181 0 54 (dk_at dksX2_init_5 2 rfl rfl)
theorem dX2_init_122 : decode cX2_init 122 = .ok (.aload_n 0, 1) := dk_42 (dk_at dksX2_init_5 5 rfl rfl)
theorem dX2_init_123 : decode cX2_init 123 = .ok (.iconst (-1), 1) := dk_2 (dk_at dksX2_init_5 6 rfl rfl)
theorem dX2_init_124 : decode cX2_init 124 = .ok (.putfield 57, 3) := dk_181 0 57 (dk_at dksX2_init_5 7 rfl rfl)
theorem dX2_init_127 : decode cX2_init 127 = .ok (.aload_n 0, 1) := dk_42 (dk_at dksX2_init_5 10 rfl rfl)
theorem dX2_init_128 : decode cX2_init 128 = .ok (.bipush 6, 2) := dk_16 6 (dk_at dksX2_init_5 11 rfl rfl)
theorem dX2_init_130 : decode cX2_init 130 = .ok (.newarray .int, 2) := dk_188_10 (dk_at dksX2_init_5 13 rfl rfl)
theorem dX2_init_132 : decode cX2_init 132 = .ok (.putfield 60, 3) := dk_181 0 60 (dk_at dksX2_init_5 15 rfl rfl)
theorem dX2_init_135 : decode cX2_init 135 = .ok (.aload_n 0, 1) := dk_42 (dk_at dksX2_init_5 18 rfl rfl)
theorem dX2_init_136 : decode cX2_init 136 = .ok (.invokevirtual 63, 3) := dk_182 0 63 (dk_at dksX2_init_5 19 rfl rfl)
theorem dX2_init_139 : decode cX2_init 139 = .ok (.return_, 1) := dk_177 (dk_at dksX2_init_5 22 rfl rfl)
abbrev cX2_begins : ByteArray := prog_17_method_3_code
def yX2_begins : MethodName := ⟨RX2, "begins", "()V"⟩
def dkwX2_begins_4 : List UInt8 := [4, 3, 84, 177]
abbrev dktX2_begins_4 : List UInt8 := dkwX2_begins_4 ++ []
def dkwX2_begins_3 : List UInt8 := [167, 255, 209, 42, 3, 181, 0, 69, 42, 3, 181, 0, 72, 42, 180, 0, 32, 3, 3, 84, 42, 180, 0, 32]
abbrev dktX2_begins_3 : List UInt8 := dkwX2_begins_3 ++ dktX2_begins_4
def dkwX2_begins_2 : List UInt8 := [180, 0, 23, 16, 8, 27, 96, 3, 79, 42, 180, 0, 23, 16, 14, 27, 96, 2, 79, 132, 1, 1]
abbrev dktX2_begins_2 : List UInt8 := dkwX2_begins_2 ++ dktX2_begins_3
def dkwX2_begins_1 : List UInt8 := [16, 6, 162, 0, 47, 42, 180, 0, 23, 5, 27, 96, 42, 180, 0, 13, 6, 27, 104, 4, 96, 46, 79, 42]
abbrev dktX2_begins_1 : List UInt8 := dkwX2_begins_1 ++ dktX2_begins_2
def dkwX2_begins_0 : List UInt8 := [42, 180, 0, 23, 3, 3, 79, 42, 180, 0, 23, 4, 4, 42, 180, 0, 66, 120, 4, 100, 79, 3, 60, 27]
abbrev dktX2_begins_0 : List UInt8 := dkwX2_begins_0 ++ dktX2_begins_1
theorem dksX2_begins_0 : cX2_begins.data.toList.drop 0 = dktX2_begins_0 := by decide +kernel
theorem dksX2_begins_1 : cX2_begins.data.toList.drop 24 = dktX2_begins_1 := dk_seg dksX2_begins_0 24 rfl rfl
theorem dksX2_begins_2 : cX2_begins.data.toList.drop 48 = dktX2_begins_2 := dk_seg dksX2_begins_1 24 rfl rfl
theorem dksX2_begins_3 : cX2_begins.data.toList.drop 70 = dktX2_begins_3 := dk_seg dksX2_begins_2 22 rfl rfl
theorem dksX2_begins_4 : cX2_begins.data.toList.drop 94 = dktX2_begins_4 := dk_seg dksX2_begins_3 24 rfl rfl
theorem dX2_begins_0 : decode cX2_begins 0 = .ok (.aload_n 0, 1) := dk_42 (dk_at dksX2_begins_0 0 rfl rfl)
theorem dX2_begins_1 : decode cX2_begins 1 = .ok (.getfield 23, 3) := dk_180 0 23 (dk_at dksX2_begins_0 1 rfl rfl)
theorem dX2_begins_4 : decode cX2_begins 4 = .ok (.iconst 0, 1) := dk_3 (dk_at dksX2_begins_0 4 rfl rfl)
theorem dX2_begins_5 : decode cX2_begins 5 = .ok (.iconst 0, 1) := dk_3 (dk_at dksX2_begins_0 5 rfl rfl)
theorem dX2_begins_6 : decode cX2_begins 6 = .ok (.iastore, 1) := dk_79 (dk_at dksX2_begins_0 6 rfl rfl)
theorem dX2_begins_7 : decode cX2_begins 7 = .ok (.aload_n 0, 1) := dk_42 (dk_at dksX2_begins_0 7 rfl rfl)
theorem dX2_begins_8 : decode cX2_begins 8 = .ok (.getfield 23, 3) := dk_180 0 23 (dk_at dksX2_begins_0 8 rfl rfl)
theorem dX2_begins_11 : decode cX2_begins 11 = .ok (.iconst 1, 1) := dk_4 (dk_at dksX2_begins_0 11 rfl rfl)
theorem dX2_begins_12 : decode cX2_begins 12 = .ok (.iconst 1, 1) := dk_4 (dk_at dksX2_begins_0 12 rfl rfl)
theorem dX2_begins_13 : decode cX2_begins 13 = .ok (.aload_n 0, 1) := dk_42 (dk_at dksX2_begins_0 13 rfl rfl)
theorem dX2_begins_14 : decode cX2_begins 14 = .ok (.getfield 66, 3) := dk_180 0 66 (dk_at dksX2_begins_0 14 rfl rfl)
theorem dX2_begins_17 : decode cX2_begins 17 = .ok (.ishl, 1) := dk_120 (dk_at dksX2_begins_0 17 rfl rfl)
theorem dX2_begins_18 : decode cX2_begins 18 = .ok (.iconst 1, 1) := dk_4 (dk_at dksX2_begins_0 18 rfl rfl)
theorem dX2_begins_19 : decode cX2_begins 19 = .ok (.isub, 1) := dk_100 (dk_at dksX2_begins_0 19 rfl rfl)
theorem dX2_begins_20 : decode cX2_begins 20 = .ok (.iastore, 1) := dk_79 (dk_at dksX2_begins_0 20 rfl rfl)
theorem dX2_begins_21 : decode cX2_begins 21 = .ok (.iconst 0, 1) := dk_3 (dk_at dksX2_begins_0 21 rfl rfl)
theorem dX2_begins_22 : decode cX2_begins 22 = .ok (.istore_n 1, 1) := dk_60 (dk_at dksX2_begins_0 22 rfl rfl)
theorem dX2_begins_23 : decode cX2_begins 23 = .ok (.iload_n 1, 1) := dk_27 (dk_at dksX2_begins_0 23 rfl rfl)
theorem dX2_begins_24 : decode cX2_begins 24 = .ok (.bipush 6, 2) := dk_16 6 (dk_at dksX2_begins_1 0 rfl rfl)
theorem dX2_begins_26 : decode cX2_begins 26 = .ok (.if_icmp .ge 47, 3) := dk_162 0 47 (dk_at dksX2_begins_1 2 rfl rfl)
theorem dX2_begins_29 : decode cX2_begins 29 = .ok (.aload_n 0, 1) := dk_42 (dk_at dksX2_begins_1 5 rfl rfl)
theorem dX2_begins_30 : decode cX2_begins 30 = .ok (.getfield 23, 3) := dk_180 0 23 (dk_at dksX2_begins_1 6 rfl rfl)
theorem dX2_begins_33 : decode cX2_begins 33 = .ok (.iconst 2, 1) := dk_5 (dk_at dksX2_begins_1 9 rfl rfl)
theorem dX2_begins_34 : decode cX2_begins 34 = .ok (.iload_n 1, 1) := dk_27 (dk_at dksX2_begins_1 10 rfl rfl)
theorem dX2_begins_35 : decode cX2_begins 35 = .ok (.iadd, 1) := dk_96 (dk_at dksX2_begins_1 11 rfl rfl)
theorem dX2_begins_36 : decode cX2_begins 36 = .ok (.aload_n 0, 1) := dk_42 (dk_at dksX2_begins_1 12 rfl rfl)
theorem dX2_begins_37 : decode cX2_begins 37 = .ok (.getfield 13, 3) := dk_180 0 13 (dk_at dksX2_begins_1 13 rfl rfl)
theorem dX2_begins_40 : decode cX2_begins 40 = .ok (.iconst 3, 1) := dk_6 (dk_at dksX2_begins_1 16 rfl rfl)
theorem dX2_begins_41 : decode cX2_begins 41 = .ok (.iload_n 1, 1) := dk_27 (dk_at dksX2_begins_1 17 rfl rfl)
theorem dX2_begins_42 : decode cX2_begins 42 = .ok (.imul, 1) := dk_104 (dk_at dksX2_begins_1 18 rfl rfl)
theorem dX2_begins_43 : decode cX2_begins 43 = .ok (.iconst 1, 1) := dk_4 (dk_at dksX2_begins_1 19 rfl rfl)
theorem dX2_begins_44 : decode cX2_begins 44 = .ok (.iadd, 1) := dk_96 (dk_at dksX2_begins_1 20 rfl rfl)
theorem dX2_begins_45 : decode cX2_begins 45 = .ok (.iaload, 1) := dk_46 (dk_at dksX2_begins_1 21 rfl rfl)
theorem dX2_begins_46 : decode cX2_begins 46 = .ok (.iastore, 1) := dk_79 (dk_at dksX2_begins_1 22 rfl rfl)
theorem dX2_begins_47 : decode cX2_begins 47 = .ok (.aload_n 0, 1) := dk_42 (dk_at dksX2_begins_1 23 rfl rfl)
theorem dX2_begins_48 : decode cX2_begins 48 = .ok (.getfield 23, 3) := dk_180 0 23 (dk_at dksX2_begins_2 0 rfl rfl)
theorem dX2_begins_51 : decode cX2_begins 51 = .ok (.bipush 8, 2) := dk_16 8 (dk_at dksX2_begins_2 3 rfl rfl)
theorem dX2_begins_53 : decode cX2_begins 53 = .ok (.iload_n 1, 1) := dk_27 (dk_at dksX2_begins_2 5 rfl rfl)
theorem dX2_begins_54 : decode cX2_begins 54 = .ok (.iadd, 1) := dk_96 (dk_at dksX2_begins_2 6 rfl rfl)
theorem dX2_begins_55 : decode cX2_begins 55 = .ok (.iconst 0, 1) := dk_3 (dk_at dksX2_begins_2 7 rfl rfl)
theorem dX2_begins_56 : decode cX2_begins 56 = .ok (.iastore, 1) := dk_79 (dk_at dksX2_begins_2 8 rfl rfl)
theorem dX2_begins_57 : decode cX2_begins 57 = .ok (.aload_n 0, 1) := dk_42 (dk_at dksX2_begins_2 9 rfl rfl)
theorem dX2_begins_58 : decode cX2_begins 58 = .ok (.getfield 23, 3) := dk_180 0 23 (dk_at dksX2_begins_2 10 rfl rfl)
theorem dX2_begins_61 : decode cX2_begins 61 = .ok (.bipush 14, 2) := dk_16 14 (dk_at dksX2_begins_2 13 rfl rfl)
theorem dX2_begins_63 : decode cX2_begins 63 = .ok (.iload_n 1, 1) := dk_27 (dk_at dksX2_begins_2 15 rfl rfl)
theorem dX2_begins_64 : decode cX2_begins 64 = .ok (.iadd, 1) := dk_96 (dk_at dksX2_begins_2 16 rfl rfl)
theorem dX2_begins_65 : decode cX2_begins 65 = .ok (.iconst (-1), 1) := dk_2 (dk_at dksX2_begins_2 17 rfl rfl)
theorem dX2_begins_66 : decode cX2_begins 66 = .ok (.iastore, 1) := dk_79 (dk_at dksX2_begins_2 18 rfl rfl)
theorem dX2_begins_67 : decode cX2_begins 67 = .ok (.iinc 1 1, 3) := dk_132 1 1 (dk_at dksX2_begins_2 19 rfl rfl)
theorem dX2_begins_70 : decode cX2_begins 70 = .ok (.goto (-47), 3) := dk_167 255 209 (dk_at dksX2_begins_3 0 rfl rfl)
theorem dX2_begins_73 : decode cX2_begins 73 = .ok (.aload_n 0, 1) := dk_42 (dk_at dksX2_begins_3 3 rfl rfl)
theorem dX2_begins_74 : decode cX2_begins 74 = .ok (.iconst 0, 1) := dk_3 (dk_at dksX2_begins_3 4 rfl rfl)
theorem dX2_begins_75 : decode cX2_begins 75 = .ok (.putfield 69, 3) := dk_181 0 69 (dk_at dksX2_begins_3 5 rfl rfl)
theorem dX2_begins_78 : decode cX2_begins 78 = .ok (.aload_n 0, 1) := dk_42 (dk_at dksX2_begins_3 8 rfl rfl)
theorem dX2_begins_79 : decode cX2_begins 79 = .ok (.iconst 0, 1) := dk_3 (dk_at dksX2_begins_3 9 rfl rfl)
theorem dX2_begins_80 : decode cX2_begins 80 = .ok (.putfield 72, 3) := dk_181 0 72 (dk_at dksX2_begins_3 10 rfl rfl)
theorem dX2_begins_83 : decode cX2_begins 83 = .ok (.aload_n 0, 1) := dk_42 (dk_at dksX2_begins_3 13 rfl rfl)
theorem dX2_begins_84 : decode cX2_begins 84 = .ok (.getfield 32, 3) := dk_180 0 32 (dk_at dksX2_begins_3 14 rfl rfl)
theorem dX2_begins_87 : decode cX2_begins 87 = .ok (.iconst 0, 1) := dk_3 (dk_at dksX2_begins_3 17 rfl rfl)
theorem dX2_begins_88 : decode cX2_begins 88 = .ok (.iconst 0, 1) := dk_3 (dk_at dksX2_begins_3 18 rfl rfl)
theorem dX2_begins_89 : decode cX2_begins 89 = .ok (.bastore, 1) := dk_84 (dk_at dksX2_begins_3 19 rfl rfl)
theorem dX2_begins_90 : decode cX2_begins 90 = .ok (.aload_n 0, 1) := dk_42 (dk_at dksX2_begins_3 20 rfl rfl)
theorem dX2_begins_91 : decode cX2_begins 91 = .ok (.getfield 32, 3) := dk_180 0 32 (dk_at dksX2_begins_3 21 rfl rfl)
theorem dX2_begins_94 : decode cX2_begins 94 = .ok (.iconst 1, 1) := dk_4 (dk_at dksX2_begins_4 0 rfl rfl)
theorem dX2_begins_95 : decode cX2_begins 95 = .ok (.iconst 0, 1) := dk_3 (dk_at dksX2_begins_4 1 rfl rfl)
theorem dX2_begins_96 : decode cX2_begins 96 = .ok (.bastore, 1) := dk_84 (dk_at dksX2_begins_4 2 rfl rfl)
theorem dX2_begins_97 : decode cX2_begins 97 = .ok (.return_, 1) := dk_177 (dk_at dksX2_begins_4 3 rfl rfl)
abbrev cX2_write : ByteArray := prog_17_method_10_code
def yX2_write : MethodName := ⟨RX2, "write", "(I)I"⟩
def dkwX2_write_2 : List UInt8 := [180, 0, 90, 172]
abbrev dktX2_write_2 : List UInt8 := dkwX2_write_2 ++ []
def dkwX2_write_1 : List UInt8 := [16, 251, 172, 42, 180, 0, 39, 42, 180, 0, 90, 27, 79, 42, 89, 180, 0, 90, 4, 96, 181, 0, 90, 42]
abbrev dktX2_write_1 : List UInt8 := dkwX2_write_1 ++ dktX2_write_2
def dkwX2_write_0 : List UInt8 := [27, 3, 17, 0, 255, 184, 0, 78, 154, 0, 6, 16, 253, 172, 42, 180, 0, 90, 17, 0, 160, 160, 0, 6]
abbrev dktX2_write_0 : List UInt8 := dkwX2_write_0 ++ dktX2_write_1
theorem dksX2_write_0 : cX2_write.data.toList.drop 0 = dktX2_write_0 := by decide +kernel
theorem dksX2_write_1 : cX2_write.data.toList.drop 24 = dktX2_write_1 := dk_seg dksX2_write_0 24 rfl rfl
theorem dksX2_write_2 : cX2_write.data.toList.drop 48 = dktX2_write_2 := dk_seg dksX2_write_1 24 rfl rfl
theorem dX2_write_0 : decode cX2_write 0 = .ok (.iload_n 1, 1) := dk_27 (dk_at dksX2_write_0 0 rfl rfl)
theorem dX2_write_1 : decode cX2_write 1 = .ok (.iconst 0, 1) := dk_3 (dk_at dksX2_write_0 1 rfl rfl)
theorem dX2_write_2 : decode cX2_write 2 = .ok (.sipush 255, 3) := dk_17 0 255 (dk_at dksX2_write_0 2 rfl rfl)
theorem dX2_write_5 : decode cX2_write 5 = .ok (.invokestatic 78, 3) := dk_184 0 78 (dk_at dksX2_write_0 5 rfl rfl)
theorem dX2_write_8 : decode cX2_write 8 = .ok (.ifCond .ne 6, 3) := dk_154 0 6 (dk_at dksX2_write_0 8 rfl rfl)
theorem dX2_write_11 : decode cX2_write 11 = .ok (.bipush (-3), 2) := dk_16 253 (dk_at dksX2_write_0 11 rfl rfl)
theorem dX2_write_13 : decode cX2_write 13 = .ok (.ireturn, 1) := dk_172 (dk_at dksX2_write_0 13 rfl rfl)
theorem dX2_write_14 : decode cX2_write 14 = .ok (.aload_n 0, 1) := dk_42 (dk_at dksX2_write_0 14 rfl rfl)
theorem dX2_write_15 : decode cX2_write 15 = .ok (.getfield 90, 3) := dk_180 0 90 (dk_at dksX2_write_0 15 rfl rfl)
theorem dX2_write_18 : decode cX2_write 18 = .ok (.sipush 160, 3) := dk_17 0 160 (dk_at dksX2_write_0 18 rfl rfl)
theorem dX2_write_21 : decode cX2_write 21 = .ok (.if_icmp .ne 6, 3) := dk_160 0 6 (dk_at dksX2_write_0 21 rfl rfl)
theorem dX2_write_24 : decode cX2_write 24 = .ok (.bipush (-5), 2) := dk_16 251 (dk_at dksX2_write_1 0 rfl rfl)
theorem dX2_write_26 : decode cX2_write 26 = .ok (.ireturn, 1) := dk_172 (dk_at dksX2_write_1 2 rfl rfl)
theorem dX2_write_27 : decode cX2_write 27 = .ok (.aload_n 0, 1) := dk_42 (dk_at dksX2_write_1 3 rfl rfl)
theorem dX2_write_28 : decode cX2_write 28 = .ok (.getfield 39, 3) := dk_180 0 39 (dk_at dksX2_write_1 4 rfl rfl)
theorem dX2_write_31 : decode cX2_write 31 = .ok (.aload_n 0, 1) := dk_42 (dk_at dksX2_write_1 7 rfl rfl)
theorem dX2_write_32 : decode cX2_write 32 = .ok (.getfield 90, 3) := dk_180 0 90 (dk_at dksX2_write_1 8 rfl rfl)
theorem dX2_write_35 : decode cX2_write 35 = .ok (.iload_n 1, 1) := dk_27 (dk_at dksX2_write_1 11 rfl rfl)
theorem dX2_write_36 : decode cX2_write 36 = .ok (.iastore, 1) := dk_79 (dk_at dksX2_write_1 12 rfl rfl)
theorem dX2_write_37 : decode cX2_write 37 = .ok (.aload_n 0, 1) := dk_42 (dk_at dksX2_write_1 13 rfl rfl)
theorem dX2_write_38 : decode cX2_write 38 = .ok (.dup, 1) := dk_89 (dk_at dksX2_write_1 14 rfl rfl)
theorem dX2_write_39 : decode cX2_write 39 = .ok (.getfield 90, 3) := dk_180 0 90 (dk_at dksX2_write_1 15 rfl rfl)
theorem dX2_write_42 : decode cX2_write 42 = .ok (.iconst 1, 1) := dk_4 (dk_at dksX2_write_1 18 rfl rfl)
theorem dX2_write_43 : decode cX2_write 43 = .ok (.iadd, 1) := dk_96 (dk_at dksX2_write_1 19 rfl rfl)
theorem dX2_write_44 : decode cX2_write 44 = .ok (.putfield 90, 3) := dk_181 0 90 (dk_at dksX2_write_1 20 rfl rfl)
theorem dX2_write_47 : decode cX2_write 47 = .ok (.aload_n 0, 1) := dk_42 (dk_at dksX2_write_1 23 rfl rfl)
theorem dX2_write_48 : decode cX2_write 48 = .ok (.getfield 90, 3) := dk_180 0 90 (dk_at dksX2_write_2 0 rfl rfl)
theorem dX2_write_51 : decode cX2_write 51 = .ok (.ireturn, 1) := dk_172 (dk_at dksX2_write_2 3 rfl rfl)
abbrev cX2_in : ByteArray := prog_17_method_4_code
def yX2_in : MethodName := ⟨RX2, "in", "(III)Z"⟩
def dkwX2_in_0 : List UInt8 := [26, 27, 161, 0, 12, 26, 28, 163, 0, 7, 4, 167, 0, 4, 3, 172]
abbrev dktX2_in_0 : List UInt8 := dkwX2_in_0 ++ []
theorem dksX2_in_0 : cX2_in.data.toList.drop 0 = dktX2_in_0 := by decide +kernel
theorem dX2_in_0 : decode cX2_in 0 = .ok (.iload_n 0, 1) := dk_26 (dk_at dksX2_in_0 0 rfl rfl)
theorem dX2_in_1 : decode cX2_in 1 = .ok (.iload_n 1, 1) := dk_27 (dk_at dksX2_in_0 1 rfl rfl)
theorem dX2_in_2 : decode cX2_in 2 = .ok (.if_icmp .lt 12, 3) := dk_161 0 12 (dk_at dksX2_in_0 2 rfl rfl)
theorem dX2_in_5 : decode cX2_in 5 = .ok (.iload_n 0, 1) := dk_26 (dk_at dksX2_in_0 5 rfl rfl)
theorem dX2_in_6 : decode cX2_in 6 = .ok (.iload_n 2, 1) := dk_28 (dk_at dksX2_in_0 6 rfl rfl)
theorem dX2_in_7 : decode cX2_in 7 = .ok (.if_icmp .gt 7, 3) := dk_163 0 7 (dk_at dksX2_in_0 7 rfl rfl)
theorem dX2_in_10 : decode cX2_in 10 = .ok (.iconst 1, 1) := dk_4 (dk_at dksX2_in_0 10 rfl rfl)
theorem dX2_in_11 : decode cX2_in 11 = .ok (.goto 4, 3) := dk_167 0 4 (dk_at dksX2_in_0 11 rfl rfl)
theorem dX2_in_14 : decode cX2_in 14 = .ok (.iconst 0, 1) := dk_3 (dk_at dksX2_in_0 14 rfl rfl)
theorem dX2_in_15 : decode cX2_in 15 = .ok (.ireturn, 1) := dk_172 (dk_at dksX2_in_0 15 rfl rfl)
abbrev cX2_erase : ByteArray := prog_17_method_11_code
def yX2_erase : MethodName := ⟨RX2, "erase", "()I"⟩
def dkwX2_erase_0 : List UInt8 := [42, 180, 0, 90, 60, 42, 3, 181, 0, 90, 27, 172]
abbrev dktX2_erase_0 : List UInt8 := dkwX2_erase_0 ++ []
theorem dksX2_erase_0 : cX2_erase.data.toList.drop 0 = dktX2_erase_0 := by decide +kernel
theorem dX2_erase_0 : decode cX2_erase 0 = .ok (.aload_n 0, 1) := dk_42 (dk_at dksX2_erase_0 0 rfl rfl)
theorem dX2_erase_1 : decode cX2_erase 1 = .ok (.getfield 90, 3) := dk_180 0 90 (dk_at dksX2_erase_0 1 rfl rfl)
theorem dX2_erase_4 : decode cX2_erase 4 = .ok (.istore_n 1, 1) := dk_60 (dk_at dksX2_erase_0 4 rfl rfl)
theorem dX2_erase_5 : decode cX2_erase 5 = .ok (.aload_n 0, 1) := dk_42 (dk_at dksX2_erase_0 5 rfl rfl)
theorem dX2_erase_6 : decode cX2_erase 6 = .ok (.iconst 0, 1) := dk_3 (dk_at dksX2_erase_0 6 rfl rfl)
theorem dX2_erase_7 : decode cX2_erase 7 = .ok (.putfield 90, 3) := dk_181 0 90 (dk_at dksX2_erase_0 7 rfl rfl)
theorem dX2_erase_10 : decode cX2_erase 10 = .ok (.iload_n 1, 1) := dk_27 (dk_at dksX2_erase_0 10 rfl rfl)
theorem dX2_erase_11 : decode cX2_erase 11 = .ok (.ireturn, 1) := dk_172 (dk_at dksX2_erase_0 11 rfl rfl)
abbrev cX2_fault : ByteArray := prog_17_method_28_code
def yX2_fault : MethodName := ⟨RX2, "fault", "()I"⟩
def dkwX2_fault_0 : List UInt8 := [42, 182, 0, 183, 42, 180, 0, 123, 153, 0, 7, 2, 167, 0, 7, 42, 180, 0, 100, 172]
abbrev dktX2_fault_0 : List UInt8 := dkwX2_fault_0 ++ []
theorem dksX2_fault_0 : cX2_fault.data.toList.drop 0 = dktX2_fault_0 := by decide +kernel
theorem dX2_fault_0 : decode cX2_fault 0 = .ok (.aload_n 0, 1) := dk_42 (dk_at dksX2_fault_0 0 rfl rfl)
theorem dX2_fault_1 : decode cX2_fault 1 = .ok (.invokevirtual 183, 3) := dk_182 0 183 (dk_at dksX2_fault_0 1 rfl rfl)
theorem dX2_fault_4 : decode cX2_fault 4 = .ok (.aload_n 0, 1) := dk_42 (dk_at dksX2_fault_0 4 rfl rfl)
theorem dX2_fault_5 : decode cX2_fault 5 = .ok (.getfield 123, 3) := dk_180 0 123 (dk_at dksX2_fault_0 5 rfl rfl)
theorem dX2_fault_8 : decode cX2_fault 8 = .ok (.ifCond .eq 7, 3) := dk_153 0 7 (dk_at dksX2_fault_0 8 rfl rfl)
theorem dX2_fault_11 : decode cX2_fault 11 = .ok (.iconst (-1), 1) := dk_2 (dk_at dksX2_fault_0 11 rfl rfl)
theorem dX2_fault_12 : decode cX2_fault 12 = .ok (.goto 7, 3) := dk_167 0 7 (dk_at dksX2_fault_0 12 rfl rfl)
theorem dX2_fault_15 : decode cX2_fault 15 = .ok (.aload_n 0, 1) := dk_42 (dk_at dksX2_fault_0 15 rfl rfl)
theorem dX2_fault_16 : decode cX2_fault 16 = .ok (.getfield 100, 3) := dk_180 0 100 (dk_at dksX2_fault_0 16 rfl rfl)
theorem dX2_fault_19 : decode cX2_fault 19 = .ok (.ireturn, 1) := dk_172 (dk_at dksX2_fault_0 19 rfl rfl)
abbrev cX2_reads : ByteArray := prog_17_method_27_code
def yX2_reads : MethodName := ⟨RX2, "reads", "()V"⟩
def dkwX2_reads_10 : List UInt8 := [167, 255, 162, 177]
abbrev dktX2_reads_10 : List UInt8 := dkwX2_reads_10 ++ []
def dkwX2_reads_9 : List UInt8 := [180, 0, 106, 154, 0, 7, 4, 167, 0, 4, 3, 181, 0, 123, 27, 153, 255, 169, 42, 182, 0, 127]
abbrev dktX2_reads_9 : List UInt8 := dkwX2_reads_9 ++ dktX2_reads_10
def dkwX2_reads_8 : List UInt8 := [162, 0, 7, 4, 167, 0, 4, 3, 60, 42, 42, 180, 0, 123, 153, 0, 18, 27, 154, 0, 10, 42]
abbrev dktX2_reads_8 : List UInt8 := dkwX2_reads_8 ++ dktX2_reads_9
def dkwX2_reads_7 : List UInt8 := [181, 0, 177, 42, 180, 0, 123, 153, 0, 24, 42, 180, 0, 106, 6, 160, 0, 16, 42, 180, 0, 177, 16, 14]
abbrev dktX2_reads_7 : List UInt8 := dkwX2_reads_7 ++ dktX2_reads_8
def dkwX2_reads_6 : List UInt8 := [42, 182, 0, 180, 42, 89, 180, 0, 177, 42, 180, 0, 123, 153, 0, 7, 4, 167, 0, 4, 3, 96]
abbrev dktX2_reads_6 : List UInt8 := dkwX2_reads_6 ++ dktX2_reads_7
def dkwX2_reads_5 : List UInt8 := [3, 181, 0, 93, 42, 3, 181, 0, 177, 42, 4, 181, 0, 123, 42, 182, 0, 127, 4, 60, 27, 153, 0, 96]
abbrev dktX2_reads_5 : List UInt8 := dkwX2_reads_5 ++ dktX2_reads_6
def dkwX2_reads_4 : List UInt8 := [42, 180, 0, 171, 181, 0, 136, 42, 42, 180, 0, 174, 181, 0, 139, 42, 42, 180, 0, 19, 181, 0, 142, 42]
abbrev dktX2_reads_4 : List UInt8 := dkwX2_reads_4 ++ dktX2_reads_5
def dkwX2_reads_3 : List UInt8 := [16, 6, 162, 0, 21, 42, 180, 0, 48, 27, 42, 180, 0, 16, 27, 46, 79, 132, 1, 1, 167, 255, 235, 42]
abbrev dktX2_reads_3 : List UInt8 := dkwX2_reads_3 ++ dktX2_reads_4
def dkwX2_reads_2 : List UInt8 := [162, 0, 21, 42, 180, 0, 45, 27, 42, 180, 0, 13, 27, 46, 79, 132, 1, 1, 167, 255, 235, 3, 60, 27]
abbrev dktX2_reads_2 : List UInt8 := dkwX2_reads_2 ++ dktX2_reads_3
def dkwX2_reads_1 : List UInt8 := [42, 180, 0, 42, 27, 42, 180, 0, 7, 27, 46, 79, 132, 1, 1, 167, 255, 235, 3, 60, 27, 16, 18]
abbrev dktX2_reads_1 : List UInt8 := dkwX2_reads_1 ++ dktX2_reads_2
def dkwX2_reads_0 : List UInt8 := [42, 42, 180, 0, 75, 181, 0, 130, 42, 42, 180, 0, 66, 181, 0, 133, 3, 60, 27, 16, 16, 162, 0, 21]
abbrev dktX2_reads_0 : List UInt8 := dkwX2_reads_0 ++ dktX2_reads_1
theorem dksX2_reads_0 : cX2_reads.data.toList.drop 0 = dktX2_reads_0 := by decide +kernel
theorem dksX2_reads_1 : cX2_reads.data.toList.drop 24 = dktX2_reads_1 := dk_seg dksX2_reads_0 24 rfl rfl
theorem dksX2_reads_2 : cX2_reads.data.toList.drop 47 = dktX2_reads_2 := dk_seg dksX2_reads_1 23 rfl rfl
theorem dksX2_reads_3 : cX2_reads.data.toList.drop 71 = dktX2_reads_3 := dk_seg dksX2_reads_2 24 rfl rfl
theorem dksX2_reads_4 : cX2_reads.data.toList.drop 95 = dktX2_reads_4 := dk_seg dksX2_reads_3 24 rfl rfl
theorem dksX2_reads_5 : cX2_reads.data.toList.drop 119 = dktX2_reads_5 := dk_seg dksX2_reads_4 24 rfl rfl
theorem dksX2_reads_6 : cX2_reads.data.toList.drop 143 = dktX2_reads_6 := dk_seg dksX2_reads_5 24 rfl rfl
theorem dksX2_reads_7 : cX2_reads.data.toList.drop 165 = dktX2_reads_7 := dk_seg dksX2_reads_6 22 rfl rfl
theorem dksX2_reads_8 : cX2_reads.data.toList.drop 189 = dktX2_reads_8 := dk_seg dksX2_reads_7 24 rfl rfl
theorem dksX2_reads_9 : cX2_reads.data.toList.drop 211 = dktX2_reads_9 := dk_seg dksX2_reads_8 22 rfl rfl
theorem dksX2_reads_10 : cX2_reads.data.toList.drop 233 = dktX2_reads_10 := dk_seg dksX2_reads_9 22 rfl rfl
theorem dX2_reads_0 : decode cX2_reads 0 = .ok (.aload_n 0, 1) := dk_42 (dk_at dksX2_reads_0 0 rfl rfl)
theorem dX2_reads_1 : decode cX2_reads 1 = .ok (.aload_n 0, 1) := dk_42 (dk_at dksX2_reads_0 1 rfl rfl)
theorem dX2_reads_2 : decode cX2_reads 2 = .ok (.getfield 75, 3) := dk_180 0 75 (dk_at dksX2_reads_0 2 rfl rfl)
theorem dX2_reads_5 : decode cX2_reads 5 = .ok (.putfield 130, 3) := dk_181 0 130 (dk_at dksX2_reads_0 5 rfl rfl)
theorem dX2_reads_8 : decode cX2_reads 8 = .ok (.aload_n 0, 1) := dk_42 (dk_at dksX2_reads_0 8 rfl rfl)
theorem dX2_reads_9 : decode cX2_reads 9 = .ok (.aload_n 0, 1) := dk_42 (dk_at dksX2_reads_0 9 rfl rfl)
theorem dX2_reads_10 : decode cX2_reads 10 = .ok (.getfield 66, 3) := dk_180 0 66 (dk_at dksX2_reads_0 10 rfl rfl)
theorem dX2_reads_13 : decode cX2_reads 13 = .ok (.putfield 133, 3) := dk_181 0 133 (dk_at dksX2_reads_0 13 rfl rfl)
theorem dX2_reads_16 : decode cX2_reads 16 = .ok (.iconst 0, 1) := dk_3 (dk_at dksX2_reads_0 16 rfl rfl)
theorem dX2_reads_17 : decode cX2_reads 17 = .ok (.istore_n 1, 1) := dk_60 (dk_at dksX2_reads_0 17 rfl rfl)
theorem dX2_reads_18 : decode cX2_reads 18 = .ok (.iload_n 1, 1) := dk_27 (dk_at dksX2_reads_0 18 rfl rfl)
theorem dX2_reads_19 : decode cX2_reads 19 = .ok (.bipush 16, 2) := dk_16 16 (dk_at dksX2_reads_0 19 rfl rfl)
theorem dX2_reads_21 : decode cX2_reads 21 = .ok (.if_icmp .ge 21, 3) := dk_162 0 21 (dk_at dksX2_reads_0 21 rfl rfl)
theorem dX2_reads_24 : decode cX2_reads 24 = .ok (.aload_n 0, 1) := dk_42 (dk_at dksX2_reads_1 0 rfl rfl)
theorem dX2_reads_25 : decode cX2_reads 25 = .ok (.getfield 42, 3) := dk_180 0 42 (dk_at dksX2_reads_1 1 rfl rfl)
theorem dX2_reads_28 : decode cX2_reads 28 = .ok (.iload_n 1, 1) := dk_27 (dk_at dksX2_reads_1 4 rfl rfl)
theorem dX2_reads_29 : decode cX2_reads 29 = .ok (.aload_n 0, 1) := dk_42 (dk_at dksX2_reads_1 5 rfl rfl)
theorem dX2_reads_30 : decode cX2_reads 30 = .ok (.getfield 7, 3) := dk_180 0 7 (dk_at dksX2_reads_1 6 rfl rfl)
theorem dX2_reads_33 : decode cX2_reads 33 = .ok (.iload_n 1, 1) := dk_27 (dk_at dksX2_reads_1 9 rfl rfl)
theorem dX2_reads_34 : decode cX2_reads 34 = .ok (.iaload, 1) := dk_46 (dk_at dksX2_reads_1 10 rfl rfl)
theorem dX2_reads_35 : decode cX2_reads 35 = .ok (.iastore, 1) := dk_79 (dk_at dksX2_reads_1 11 rfl rfl)
theorem dX2_reads_36 : decode cX2_reads 36 = .ok (.iinc 1 1, 3) := dk_132 1 1 (dk_at dksX2_reads_1 12 rfl rfl)
theorem dX2_reads_39 : decode cX2_reads 39 = .ok (.goto (-21), 3) := dk_167 255 235 (dk_at dksX2_reads_1 15 rfl rfl)
theorem dX2_reads_42 : decode cX2_reads 42 = .ok (.iconst 0, 1) := dk_3 (dk_at dksX2_reads_1 18 rfl rfl)
theorem dX2_reads_43 : decode cX2_reads 43 = .ok (.istore_n 1, 1) := dk_60 (dk_at dksX2_reads_1 19 rfl rfl)
theorem dX2_reads_44 : decode cX2_reads 44 = .ok (.iload_n 1, 1) := dk_27 (dk_at dksX2_reads_1 20 rfl rfl)
theorem dX2_reads_45 : decode cX2_reads 45 = .ok (.bipush 18, 2) := dk_16 18 (dk_at dksX2_reads_1 21 rfl rfl)
theorem dX2_reads_47 : decode cX2_reads 47 = .ok (.if_icmp .ge 21, 3) := dk_162 0 21 (dk_at dksX2_reads_2 0 rfl rfl)
theorem dX2_reads_50 : decode cX2_reads 50 = .ok (.aload_n 0, 1) := dk_42 (dk_at dksX2_reads_2 3 rfl rfl)
theorem dX2_reads_51 : decode cX2_reads 51 = .ok (.getfield 45, 3) := dk_180 0 45 (dk_at dksX2_reads_2 4 rfl rfl)
theorem dX2_reads_54 : decode cX2_reads 54 = .ok (.iload_n 1, 1) := dk_27 (dk_at dksX2_reads_2 7 rfl rfl)
theorem dX2_reads_55 : decode cX2_reads 55 = .ok (.aload_n 0, 1) := dk_42 (dk_at dksX2_reads_2 8 rfl rfl)
theorem dX2_reads_56 : decode cX2_reads 56 = .ok (.getfield 13, 3) := dk_180 0 13 (dk_at dksX2_reads_2 9 rfl rfl)
theorem dX2_reads_59 : decode cX2_reads 59 = .ok (.iload_n 1, 1) := dk_27 (dk_at dksX2_reads_2 12 rfl rfl)
theorem dX2_reads_60 : decode cX2_reads 60 = .ok (.iaload, 1) := dk_46 (dk_at dksX2_reads_2 13 rfl rfl)
theorem dX2_reads_61 : decode cX2_reads 61 = .ok (.iastore, 1) := dk_79 (dk_at dksX2_reads_2 14 rfl rfl)
theorem dX2_reads_62 : decode cX2_reads 62 = .ok (.iinc 1 1, 3) := dk_132 1 1 (dk_at dksX2_reads_2 15 rfl rfl)
theorem dX2_reads_65 : decode cX2_reads 65 = .ok (.goto (-21), 3) := dk_167 255 235 (dk_at dksX2_reads_2 18 rfl rfl)
theorem dX2_reads_68 : decode cX2_reads 68 = .ok (.iconst 0, 1) := dk_3 (dk_at dksX2_reads_2 21 rfl rfl)
theorem dX2_reads_69 : decode cX2_reads 69 = .ok (.istore_n 1, 1) := dk_60 (dk_at dksX2_reads_2 22 rfl rfl)
theorem dX2_reads_70 : decode cX2_reads 70 = .ok (.iload_n 1, 1) := dk_27 (dk_at dksX2_reads_2 23 rfl rfl)
theorem dX2_reads_71 : decode cX2_reads 71 = .ok (.bipush 6, 2) := dk_16 6 (dk_at dksX2_reads_3 0 rfl rfl)
theorem dX2_reads_73 : decode cX2_reads 73 = .ok (.if_icmp .ge 21, 3) := dk_162 0 21 (dk_at dksX2_reads_3 2 rfl rfl)
theorem dX2_reads_76 : decode cX2_reads 76 = .ok (.aload_n 0, 1) := dk_42 (dk_at dksX2_reads_3 5 rfl rfl)
theorem dX2_reads_77 : decode cX2_reads 77 = .ok (.getfield 48, 3) := dk_180 0 48 (dk_at dksX2_reads_3 6 rfl rfl)
theorem dX2_reads_80 : decode cX2_reads 80 = .ok (.iload_n 1, 1) := dk_27 (dk_at dksX2_reads_3 9 rfl rfl)
theorem dX2_reads_81 : decode cX2_reads 81 = .ok (.aload_n 0, 1) := dk_42 (dk_at dksX2_reads_3 10 rfl rfl)
theorem dX2_reads_82 : decode cX2_reads 82 = .ok (.getfield 16, 3) := dk_180 0 16 (dk_at dksX2_reads_3 11 rfl rfl)
theorem dX2_reads_85 : decode cX2_reads 85 = .ok (.iload_n 1, 1) := dk_27 (dk_at dksX2_reads_3 14 rfl rfl)
theorem dX2_reads_86 : decode cX2_reads 86 = .ok (.iaload, 1) := dk_46 (dk_at dksX2_reads_3 15 rfl rfl)
theorem dX2_reads_87 : decode cX2_reads 87 = .ok (.iastore, 1) := dk_79 (dk_at dksX2_reads_3 16 rfl rfl)
theorem dX2_reads_88 : decode cX2_reads 88 = .ok (.iinc 1 1, 3) := dk_132 1 1 (dk_at dksX2_reads_3 17 rfl rfl)
theorem dX2_reads_91 : decode cX2_reads 91 = .ok (.goto (-21), 3) := dk_167 255 235 (dk_at dksX2_reads_3 20 rfl rfl)
theorem dX2_reads_94 : decode cX2_reads 94 = .ok (.aload_n 0, 1) := dk_42 (dk_at dksX2_reads_3 23 rfl rfl)
theorem dX2_reads_95 : decode cX2_reads 95 = .ok (.aload_n 0, 1) := dk_42 (dk_at dksX2_reads_4 0 rfl rfl)
theorem dX2_reads_96 : decode cX2_reads 96 = .ok (.getfield 171, 3) := dk_180 0 171 (dk_at dksX2_reads_4 1 rfl rfl)
theorem dX2_reads_99 : decode cX2_reads 99 = .ok (.putfield 136, 3) := dk_181 0 136 (dk_at dksX2_reads_4 4 rfl rfl)
theorem dX2_reads_102 : decode cX2_reads 102 = .ok (.aload_n 0, 1) := dk_42 (dk_at dksX2_reads_4 7 rfl rfl)
theorem dX2_reads_103 : decode cX2_reads 103 = .ok (.aload_n 0, 1) := dk_42 (dk_at dksX2_reads_4 8 rfl rfl)
theorem dX2_reads_104 : decode cX2_reads 104 = .ok (.getfield 174, 3) := dk_180 0 174 (dk_at dksX2_reads_4 9 rfl rfl)
theorem dX2_reads_107 : decode cX2_reads 107 = .ok (.putfield 139, 3) := dk_181 0 139 (dk_at dksX2_reads_4 12 rfl rfl)
theorem dX2_reads_110 : decode cX2_reads 110 = .ok (.aload_n 0, 1) := dk_42 (dk_at dksX2_reads_4 15 rfl rfl)
theorem dX2_reads_111 : decode cX2_reads 111 = .ok (.aload_n 0, 1) := dk_42 (dk_at dksX2_reads_4 16 rfl rfl)
theorem dX2_reads_112 : decode cX2_reads 112 = .ok (.getfield 19, 3) := dk_180 0 19 (dk_at dksX2_reads_4 17 rfl rfl)
theorem dX2_reads_115 : decode cX2_reads 115 = .ok (.putfield 142, 3) := dk_181 0 142 (dk_at dksX2_reads_4 20 rfl rfl)
theorem dX2_reads_118 : decode cX2_reads 118 = .ok (.aload_n 0, 1) := dk_42 (dk_at dksX2_reads_4 23 rfl rfl)
theorem dX2_reads_119 : decode cX2_reads 119 = .ok (.iconst 0, 1) := dk_3 (dk_at dksX2_reads_5 0 rfl rfl)
theorem dX2_reads_120 : decode cX2_reads 120 = .ok (.putfield 93, 3) := dk_181 0 93 (dk_at dksX2_reads_5 1 rfl rfl)
theorem dX2_reads_123 : decode cX2_reads 123 = .ok (.aload_n 0, 1) := dk_42 (dk_at dksX2_reads_5 4 rfl rfl)
theorem dX2_reads_124 : decode cX2_reads 124 = .ok (.iconst 0, 1) := dk_3 (dk_at dksX2_reads_5 5 rfl rfl)
theorem dX2_reads_125 : decode cX2_reads 125 = .ok (.putfield 177, 3) := dk_181 0 177 (dk_at dksX2_reads_5 6 rfl rfl)
theorem dX2_reads_128 : decode cX2_reads 128 = .ok (.aload_n 0, 1) := dk_42 (dk_at dksX2_reads_5 9 rfl rfl)
theorem dX2_reads_129 : decode cX2_reads 129 = .ok (.iconst 1, 1) := dk_4 (dk_at dksX2_reads_5 10 rfl rfl)
theorem dX2_reads_130 : decode cX2_reads 130 = .ok (.putfield 123, 3) := dk_181 0 123 (dk_at dksX2_reads_5 11 rfl rfl)
theorem dX2_reads_133 : decode cX2_reads 133 = .ok (.aload_n 0, 1) := dk_42 (dk_at dksX2_reads_5 14 rfl rfl)
theorem dX2_reads_134 : decode cX2_reads 134 = .ok (.invokevirtual 127, 3) := dk_182 0 127 (dk_at dksX2_reads_5 15 rfl rfl)
theorem dX2_reads_137 : decode cX2_reads 137 = .ok (.iconst 1, 1) := dk_4 (dk_at dksX2_reads_5 18 rfl rfl)
theorem dX2_reads_138 : decode cX2_reads 138 = .ok (.istore_n 1, 1) := dk_60 (dk_at dksX2_reads_5 19 rfl rfl)
theorem dX2_reads_139 : decode cX2_reads 139 = .ok (.iload_n 1, 1) := dk_27 (dk_at dksX2_reads_5 20 rfl rfl)
theorem dX2_reads_140 : decode cX2_reads 140 = .ok (.ifCond .eq 96, 3) := dk_153 0 96 (dk_at dksX2_reads_5 21 rfl rfl)
theorem dX2_reads_143 : decode cX2_reads 143 = .ok (.aload_n 0, 1) := dk_42 (dk_at dksX2_reads_6 0 rfl rfl)
theorem dX2_reads_144 : decode cX2_reads 144 = .ok (.invokevirtual 180, 3) := dk_182 0 180 (dk_at dksX2_reads_6 1 rfl rfl)
theorem dX2_reads_147 : decode cX2_reads 147 = .ok (.aload_n 0, 1) := dk_42 (dk_at dksX2_reads_6 4 rfl rfl)
theorem dX2_reads_148 : decode cX2_reads 148 = .ok (.dup, 1) := dk_89 (dk_at dksX2_reads_6 5 rfl rfl)
theorem dX2_reads_149 : decode cX2_reads 149 = .ok (.getfield 177, 3) := dk_180 0 177 (dk_at dksX2_reads_6 6 rfl rfl)
theorem dX2_reads_152 : decode cX2_reads 152 = .ok (.aload_n 0, 1) := dk_42 (dk_at dksX2_reads_6 9 rfl rfl)
theorem dX2_reads_153 : decode cX2_reads 153 = .ok (.getfield 123, 3) := dk_180 0 123 (dk_at dksX2_reads_6 10 rfl rfl)
theorem dX2_reads_156 : decode cX2_reads 156 = .ok (.ifCond .eq 7, 3) := dk_153 0 7 (dk_at dksX2_reads_6 13 rfl rfl)
theorem dX2_reads_159 : decode cX2_reads 159 = .ok (.iconst 1, 1) := dk_4 (dk_at dksX2_reads_6 16 rfl rfl)
theorem dX2_reads_160 : decode cX2_reads 160 = .ok (.goto 4, 3) := dk_167 0 4 (dk_at dksX2_reads_6 17 rfl rfl)
theorem dX2_reads_163 : decode cX2_reads 163 = .ok (.iconst 0, 1) := dk_3 (dk_at dksX2_reads_6 20 rfl rfl)
theorem dX2_reads_164 : decode cX2_reads 164 = .ok (.iadd, 1) := dk_96 (dk_at dksX2_reads_6 21 rfl rfl)
theorem dX2_reads_165 : decode cX2_reads 165 = .ok (.putfield 177, 3) := dk_181 0 177 (dk_at dksX2_reads_7 0 rfl rfl)
theorem dX2_reads_168 : decode cX2_reads 168 = .ok (.aload_n 0, 1) := dk_42 (dk_at dksX2_reads_7 3 rfl rfl)
theorem dX2_reads_169 : decode cX2_reads 169 = .ok (.getfield 123, 3) := dk_180 0 123 (dk_at dksX2_reads_7 4 rfl rfl)
theorem dX2_reads_172 : decode cX2_reads 172 = .ok (.ifCond .eq 24, 3) := dk_153 0 24 (dk_at dksX2_reads_7 7 rfl rfl)
theorem dX2_reads_175 : decode cX2_reads 175 = .ok (.aload_n 0, 1) := dk_42 (dk_at dksX2_reads_7 10 rfl rfl)
theorem dX2_reads_176 : decode cX2_reads 176 = .ok (.getfield 106, 3) := dk_180 0 106 (dk_at dksX2_reads_7 11 rfl rfl)
theorem dX2_reads_179 : decode cX2_reads 179 = .ok (.iconst 3, 1) := dk_6 (dk_at dksX2_reads_7 14 rfl rfl)
theorem dX2_reads_180 : decode cX2_reads 180 = .ok (.if_icmp .ne 16, 3) := dk_160 0 16 (dk_at dksX2_reads_7 15 rfl rfl)
theorem dX2_reads_183 : decode cX2_reads 183 = .ok (.aload_n 0, 1) := dk_42 (dk_at dksX2_reads_7 18 rfl rfl)
theorem dX2_reads_184 : decode cX2_reads 184 = .ok (.getfield 177, 3) := dk_180 0 177 (dk_at dksX2_reads_7 19 rfl rfl)
theorem dX2_reads_187 : decode cX2_reads 187 = .ok (.bipush 14, 2) := dk_16 14 (dk_at dksX2_reads_7 22 rfl rfl)
theorem dX2_reads_189 : decode cX2_reads 189 = .ok (.if_icmp .ge 7, 3) := dk_162 0 7 (dk_at dksX2_reads_8 0 rfl rfl)
theorem dX2_reads_192 : decode cX2_reads 192 = .ok (.iconst 1, 1) := dk_4 (dk_at dksX2_reads_8 3 rfl rfl)
theorem dX2_reads_193 : decode cX2_reads 193 = .ok (.goto 4, 3) := dk_167 0 4 (dk_at dksX2_reads_8 4 rfl rfl)
theorem dX2_reads_196 : decode cX2_reads 196 = .ok (.iconst 0, 1) := dk_3 (dk_at dksX2_reads_8 7 rfl rfl)
theorem dX2_reads_197 : decode cX2_reads 197 = .ok (.istore_n 1, 1) := dk_60 (dk_at dksX2_reads_8 8 rfl rfl)
theorem dX2_reads_198 : decode cX2_reads 198 = .ok (.aload_n 0, 1) := dk_42 (dk_at dksX2_reads_8 9 rfl rfl)
theorem dX2_reads_199 : decode cX2_reads 199 = .ok (.aload_n 0, 1) := dk_42 (dk_at dksX2_reads_8 10 rfl rfl)
theorem dX2_reads_200 : decode cX2_reads 200 = .ok (.getfield 123, 3) := dk_180 0 123 (dk_at dksX2_reads_8 11 rfl rfl)
theorem dX2_reads_203 : decode cX2_reads 203 = .ok (.ifCond .eq 18, 3) := dk_153 0 18 (dk_at dksX2_reads_8 14 rfl rfl)
theorem dX2_reads_206 : decode cX2_reads 206 = .ok (.iload_n 1, 1) := dk_27 (dk_at dksX2_reads_8 17 rfl rfl)
theorem dX2_reads_207 : decode cX2_reads 207 = .ok (.ifCond .ne 10, 3) := dk_154 0 10 (dk_at dksX2_reads_8 18 rfl rfl)
theorem dX2_reads_210 : decode cX2_reads 210 = .ok (.aload_n 0, 1) := dk_42 (dk_at dksX2_reads_8 21 rfl rfl)
theorem dX2_reads_211 : decode cX2_reads 211 = .ok (.getfield 106, 3) := dk_180 0 106 (dk_at dksX2_reads_9 0 rfl rfl)
theorem dX2_reads_214 : decode cX2_reads 214 = .ok (.ifCond .ne 7, 3) := dk_154 0 7 (dk_at dksX2_reads_9 3 rfl rfl)
theorem dX2_reads_217 : decode cX2_reads 217 = .ok (.iconst 1, 1) := dk_4 (dk_at dksX2_reads_9 6 rfl rfl)
theorem dX2_reads_218 : decode cX2_reads 218 = .ok (.goto 4, 3) := dk_167 0 4 (dk_at dksX2_reads_9 7 rfl rfl)
theorem dX2_reads_221 : decode cX2_reads 221 = .ok (.iconst 0, 1) := dk_3 (dk_at dksX2_reads_9 10 rfl rfl)
theorem dX2_reads_222 : decode cX2_reads 222 = .ok (.putfield 123, 3) := dk_181 0 123 (dk_at dksX2_reads_9 11 rfl rfl)
theorem dX2_reads_225 : decode cX2_reads 225 = .ok (.iload_n 1, 1) := dk_27 (dk_at dksX2_reads_9 14 rfl rfl)
theorem dX2_reads_226 : decode cX2_reads 226 = .ok (.ifCond .eq (-87), 3) := dk_153 255 169 (dk_at dksX2_reads_9 15 rfl rfl)
theorem dX2_reads_229 : decode cX2_reads 229 = .ok (.aload_n 0, 1) := dk_42 (dk_at dksX2_reads_9 18 rfl rfl)
theorem dX2_reads_230 : decode cX2_reads 230 = .ok (.invokevirtual 127, 3) := dk_182 0 127 (dk_at dksX2_reads_9 19 rfl rfl)
theorem dX2_reads_233 : decode cX2_reads 233 = .ok (.goto (-94), 3) := dk_167 255 162 (dk_at dksX2_reads_10 0 rfl rfl)
theorem dX2_reads_236 : decode cX2_reads 236 = .ok (.return_, 1) := dk_177 (dk_at dksX2_reads_10 3 rfl rfl)
abbrev cX2_next : ByteArray := prog_17_method_15_code
def yX2_next : MethodName := ⟨RX2, "next", "()V"⟩
def dkwX2_next_8 : List UInt8 := [167, 0, 4, 7, 181, 0, 106, 42, 89, 180, 0, 93, 4, 96, 181, 0, 93, 177]
abbrev dktX2_next_8 : List UInt8 := dkwX2_next_8 ++ []
def dkwX2_next_7 : List UInt8 := [181, 0, 103, 42, 89, 180, 0, 93, 4, 96, 181, 0, 93, 167, 255, 191, 42, 27, 16, 59, 160, 0, 7, 6]
abbrev dktX2_next_7 : List UInt8 := dkwX2_next_7 ++ dktX2_next_8
def dkwX2_next_6 : List UInt8 := [16, 10, 42, 180, 0, 103, 104, 42, 42, 180, 0, 93, 182, 0, 96, 96, 16, 48, 100, 167, 0, 5, 16, 100]
abbrev dktX2_next_6 : List UInt8 := dkwX2_next_6 ++ dktX2_next_7
def dkwX2_next_5 : List UInt8 := [182, 0, 96, 184, 0, 112, 153, 0, 82, 42, 42, 180, 0, 93, 42, 180, 0, 100, 100, 5, 162, 0, 25]
abbrev dktX2_next_5 : List UInt8 := dkwX2_next_5 ++ dktX2_next_6
def dkwX2_next_4 : List UInt8 := [181, 0, 93, 167, 255, 232, 27, 184, 0, 112, 153, 0, 76, 42, 5, 181, 0, 106, 42, 42, 180, 0, 93]
abbrev dktX2_next_4 : List UInt8 := dkwX2_next_4 ++ dktX2_next_5
def dkwX2_next_3 : List UInt8 := [181, 0, 106, 42, 42, 180, 0, 93, 182, 0, 96, 184, 0, 109, 153, 0, 121, 42, 89, 180, 0, 93, 4, 96]
abbrev dktX2_next_3 : List UInt8 := dkwX2_next_3 ++ dktX2_next_4
def dkwX2_next_2 : List UInt8 := [181, 0, 103, 27, 156, 0, 11, 42, 3, 181, 0, 106, 167, 0, 147, 27, 184, 0, 109, 153, 0, 35, 42, 4]
abbrev dktX2_next_2 : List UInt8 := dkwX2_next_2 ++ dktX2_next_3
def dkwX2_next_1 : List UInt8 := [167, 255, 233, 42, 42, 180, 0, 93, 181, 0, 100, 42, 42, 180, 0, 93, 182, 0, 96, 60, 42, 3]
abbrev dktX2_next_1 : List UInt8 := dkwX2_next_1 ++ dktX2_next_2
def dkwX2_next_0 : List UInt8 := [42, 42, 180, 0, 93, 182, 0, 96, 16, 32, 160, 0, 16, 42, 89, 180, 0, 93, 4, 96, 181, 0, 93]
abbrev dktX2_next_0 : List UInt8 := dkwX2_next_0 ++ dktX2_next_1
theorem dksX2_next_0 : cX2_next.data.toList.drop 0 = dktX2_next_0 := by decide +kernel
theorem dksX2_next_1 : cX2_next.data.toList.drop 23 = dktX2_next_1 := dk_seg dksX2_next_0 23 rfl rfl
theorem dksX2_next_2 : cX2_next.data.toList.drop 45 = dktX2_next_2 := dk_seg dksX2_next_1 22 rfl rfl
theorem dksX2_next_3 : cX2_next.data.toList.drop 69 = dktX2_next_3 := dk_seg dksX2_next_2 24 rfl rfl
theorem dksX2_next_4 : cX2_next.data.toList.drop 93 = dktX2_next_4 := dk_seg dksX2_next_3 24 rfl rfl
theorem dksX2_next_5 : cX2_next.data.toList.drop 116 = dktX2_next_5 := dk_seg dksX2_next_4 23 rfl rfl
theorem dksX2_next_6 : cX2_next.data.toList.drop 139 = dktX2_next_6 := dk_seg dksX2_next_5 23 rfl rfl
theorem dksX2_next_7 : cX2_next.data.toList.drop 163 = dktX2_next_7 := dk_seg dksX2_next_6 24 rfl rfl
theorem dksX2_next_8 : cX2_next.data.toList.drop 187 = dktX2_next_8 := dk_seg dksX2_next_7 24 rfl rfl
theorem dX2_next_0 : decode cX2_next 0 = .ok (.aload_n 0, 1) := dk_42 (dk_at dksX2_next_0 0 rfl rfl)
theorem dX2_next_1 : decode cX2_next 1 = .ok (.aload_n 0, 1) := dk_42 (dk_at dksX2_next_0 1 rfl rfl)
theorem dX2_next_2 : decode cX2_next 2 = .ok (.getfield 93, 3) := dk_180 0 93 (dk_at dksX2_next_0 2 rfl rfl)
theorem dX2_next_5 : decode cX2_next 5 = .ok (.invokevirtual 96, 3) := dk_182 0 96 (dk_at dksX2_next_0 5 rfl rfl)
theorem dX2_next_8 : decode cX2_next 8 = .ok (.bipush 32, 2) := dk_16 32 (dk_at dksX2_next_0 8 rfl rfl)
theorem dX2_next_10 : decode cX2_next 10 = .ok (.if_icmp .ne 16, 3) := dk_160 0 16 (dk_at dksX2_next_0 10 rfl rfl)
theorem dX2_next_13 : decode cX2_next 13 = .ok (.aload_n 0, 1) := dk_42 (dk_at dksX2_next_0 13 rfl rfl)
theorem dX2_next_14 : decode cX2_next 14 = .ok (.dup, 1) := dk_89 (dk_at dksX2_next_0 14 rfl rfl)
theorem dX2_next_15 : decode cX2_next 15 = .ok (.getfield 93, 3) := dk_180 0 93 (dk_at dksX2_next_0 15 rfl rfl)
theorem dX2_next_18 : decode cX2_next 18 = .ok (.iconst 1, 1) := dk_4 (dk_at dksX2_next_0 18 rfl rfl)
theorem dX2_next_19 : decode cX2_next 19 = .ok (.iadd, 1) := dk_96 (dk_at dksX2_next_0 19 rfl rfl)
theorem dX2_next_20 : decode cX2_next 20 = .ok (.putfield 93, 3) := dk_181 0 93 (dk_at dksX2_next_0 20 rfl rfl)
theorem dX2_next_23 : decode cX2_next 23 = .ok (.goto (-23), 3) := dk_167 255 233 (dk_at dksX2_next_1 0 rfl rfl)
theorem dX2_next_26 : decode cX2_next 26 = .ok (.aload_n 0, 1) := dk_42 (dk_at dksX2_next_1 3 rfl rfl)
theorem dX2_next_27 : decode cX2_next 27 = .ok (.aload_n 0, 1) := dk_42 (dk_at dksX2_next_1 4 rfl rfl)
theorem dX2_next_28 : decode cX2_next 28 = .ok (.getfield 93, 3) := dk_180 0 93 (dk_at dksX2_next_1 5 rfl rfl)
theorem dX2_next_31 : decode cX2_next 31 = .ok (.putfield 100, 3) := dk_181 0 100 (dk_at dksX2_next_1 8 rfl rfl)
theorem dX2_next_34 : decode cX2_next 34 = .ok (.aload_n 0, 1) := dk_42 (dk_at dksX2_next_1 11 rfl rfl)
theorem dX2_next_35 : decode cX2_next 35 = .ok (.aload_n 0, 1) := dk_42 (dk_at dksX2_next_1 12 rfl rfl)
theorem dX2_next_36 : decode cX2_next 36 = .ok (.getfield 93, 3) := dk_180 0 93 (dk_at dksX2_next_1 13 rfl rfl)
theorem dX2_next_39 : decode cX2_next 39 = .ok (.invokevirtual 96, 3) := dk_182 0 96 (dk_at dksX2_next_1 16 rfl rfl)
theorem dX2_next_42 : decode cX2_next 42 = .ok (.istore_n 1, 1) := dk_60 (dk_at dksX2_next_1 19 rfl rfl)
theorem dX2_next_43 : decode cX2_next 43 = .ok (.aload_n 0, 1) := dk_42 (dk_at dksX2_next_1 20 rfl rfl)
theorem dX2_next_44 : decode cX2_next 44 = .ok (.iconst 0, 1) := dk_3 (dk_at dksX2_next_1 21 rfl rfl)
theorem dX2_next_45 : decode cX2_next 45 = .ok (.putfield 103, 3) := dk_181 0 103 (dk_at dksX2_next_2 0 rfl rfl)
theorem dX2_next_48 : decode cX2_next 48 = .ok (.iload_n 1, 1) := dk_27 (dk_at dksX2_next_2 3 rfl rfl)
theorem dX2_next_49 : decode cX2_next 49 = .ok (.ifCond .ge 11, 3) := dk_156 0 11 (dk_at dksX2_next_2 4 rfl rfl)
theorem dX2_next_52 : decode cX2_next 52 = .ok (.aload_n 0, 1) := dk_42 (dk_at dksX2_next_2 7 rfl rfl)
theorem dX2_next_53 : decode cX2_next 53 = .ok (.iconst 0, 1) := dk_3 (dk_at dksX2_next_2 8 rfl rfl)
theorem dX2_next_54 : decode cX2_next 54 = .ok (.putfield 106, 3) := dk_181 0 106 (dk_at dksX2_next_2 9 rfl rfl)
theorem dX2_next_57 : decode cX2_next 57 = .ok (.goto 147, 3) := dk_167 0 147 (dk_at dksX2_next_2 12 rfl rfl)
theorem dX2_next_60 : decode cX2_next 60 = .ok (.iload_n 1, 1) := dk_27 (dk_at dksX2_next_2 15 rfl rfl)
theorem dX2_next_61 : decode cX2_next 61 = .ok (.invokestatic 109, 3) := dk_184 0 109 (dk_at dksX2_next_2 16 rfl rfl)
theorem dX2_next_64 : decode cX2_next 64 = .ok (.ifCond .eq 35, 3) := dk_153 0 35 (dk_at dksX2_next_2 19 rfl rfl)
theorem dX2_next_67 : decode cX2_next 67 = .ok (.aload_n 0, 1) := dk_42 (dk_at dksX2_next_2 22 rfl rfl)
theorem dX2_next_68 : decode cX2_next 68 = .ok (.iconst 1, 1) := dk_4 (dk_at dksX2_next_2 23 rfl rfl)
theorem dX2_next_69 : decode cX2_next 69 = .ok (.putfield 106, 3) := dk_181 0 106 (dk_at dksX2_next_3 0 rfl rfl)
theorem dX2_next_72 : decode cX2_next 72 = .ok (.aload_n 0, 1) := dk_42 (dk_at dksX2_next_3 3 rfl rfl)
theorem dX2_next_73 : decode cX2_next 73 = .ok (.aload_n 0, 1) := dk_42 (dk_at dksX2_next_3 4 rfl rfl)
theorem dX2_next_74 : decode cX2_next 74 = .ok (.getfield 93, 3) := dk_180 0 93 (dk_at dksX2_next_3 5 rfl rfl)
theorem dX2_next_77 : decode cX2_next 77 = .ok (.invokevirtual 96, 3) := dk_182 0 96 (dk_at dksX2_next_3 8 rfl rfl)
theorem dX2_next_80 : decode cX2_next 80 = .ok (.invokestatic 109, 3) := dk_184 0 109 (dk_at dksX2_next_3 11 rfl rfl)
theorem dX2_next_83 : decode cX2_next 83 = .ok (.ifCond .eq 121, 3) := dk_153 0 121 (dk_at dksX2_next_3 14 rfl rfl)
theorem dX2_next_86 : decode cX2_next 86 = .ok (.aload_n 0, 1) := dk_42 (dk_at dksX2_next_3 17 rfl rfl)
theorem dX2_next_87 : decode cX2_next 87 = .ok (.dup, 1) := dk_89 (dk_at dksX2_next_3 18 rfl rfl)
theorem dX2_next_88 : decode cX2_next 88 = .ok (.getfield 93, 3) := dk_180 0 93 (dk_at dksX2_next_3 19 rfl rfl)
theorem dX2_next_91 : decode cX2_next 91 = .ok (.iconst 1, 1) := dk_4 (dk_at dksX2_next_3 22 rfl rfl)
theorem dX2_next_92 : decode cX2_next 92 = .ok (.iadd, 1) := dk_96 (dk_at dksX2_next_3 23 rfl rfl)
theorem dX2_next_93 : decode cX2_next 93 = .ok (.putfield 93, 3) := dk_181 0 93 (dk_at dksX2_next_4 0 rfl rfl)
theorem dX2_next_96 : decode cX2_next 96 = .ok (.goto (-24), 3) := dk_167 255 232 (dk_at dksX2_next_4 3 rfl rfl)
theorem dX2_next_99 : decode cX2_next 99 = .ok (.iload_n 1, 1) := dk_27 (dk_at dksX2_next_4 6 rfl rfl)
theorem dX2_next_100 : decode cX2_next 100 = .ok (.invokestatic 112, 3) := dk_184 0 112 (dk_at dksX2_next_4 7 rfl rfl)
theorem dX2_next_103 : decode cX2_next 103 = .ok (.ifCond .eq 76, 3) := dk_153 0 76 (dk_at dksX2_next_4 10 rfl rfl)
theorem dX2_next_106 : decode cX2_next 106 = .ok (.aload_n 0, 1) := dk_42 (dk_at dksX2_next_4 13 rfl rfl)
theorem dX2_next_107 : decode cX2_next 107 = .ok (.iconst 2, 1) := dk_5 (dk_at dksX2_next_4 14 rfl rfl)
theorem dX2_next_108 : decode cX2_next 108 = .ok (.putfield 106, 3) := dk_181 0 106 (dk_at dksX2_next_4 15 rfl rfl)
theorem dX2_next_111 : decode cX2_next 111 = .ok (.aload_n 0, 1) := dk_42 (dk_at dksX2_next_4 18 rfl rfl)
theorem dX2_next_112 : decode cX2_next 112 = .ok (.aload_n 0, 1) := dk_42 (dk_at dksX2_next_4 19 rfl rfl)
theorem dX2_next_113 : decode cX2_next 113 = .ok (.getfield 93, 3) := dk_180 0 93 (dk_at dksX2_next_4 20 rfl rfl)
theorem dX2_next_116 : decode cX2_next 116 = .ok (.invokevirtual 96, 3) := dk_182 0 96 (dk_at dksX2_next_5 0 rfl rfl)
theorem dX2_next_119 : decode cX2_next 119 = .ok (.invokestatic 112, 3) := dk_184 0 112 (dk_at dksX2_next_5 3 rfl rfl)
theorem dX2_next_122 : decode cX2_next 122 = .ok (.ifCond .eq 82, 3) := dk_153 0 82 (dk_at dksX2_next_5 6 rfl rfl)
theorem dX2_next_125 : decode cX2_next 125 = .ok (.aload_n 0, 1) := dk_42 (dk_at dksX2_next_5 9 rfl rfl)
theorem dX2_next_126 : decode cX2_next 126 = .ok (.aload_n 0, 1) := dk_42 (dk_at dksX2_next_5 10 rfl rfl)
theorem dX2_next_127 : decode cX2_next 127 = .ok (.getfield 93, 3) := dk_180 0 93 (dk_at dksX2_next_5 11 rfl rfl)
theorem dX2_next_130 : decode cX2_next 130 = .ok (.aload_n 0, 1) := dk_42 (dk_at dksX2_next_5 14 rfl rfl)
theorem dX2_next_131 : decode cX2_next 131 = .ok (.getfield 100, 3) := dk_180 0 100 (dk_at dksX2_next_5 15 rfl rfl)
theorem dX2_next_134 : decode cX2_next 134 = .ok (.isub, 1) := dk_100 (dk_at dksX2_next_5 18 rfl rfl)
theorem dX2_next_135 : decode cX2_next 135 = .ok (.iconst 2, 1) := dk_5 (dk_at dksX2_next_5 19 rfl rfl)
theorem dX2_next_136 : decode cX2_next 136 = .ok (.if_icmp .ge 25, 3) := dk_162 0 25 (dk_at dksX2_next_5 20 rfl rfl)
theorem dX2_next_139 : decode cX2_next 139 = .ok (.bipush 10, 2) := dk_16 10 (dk_at dksX2_next_6 0 rfl rfl)
theorem dX2_next_141 : decode cX2_next 141 = .ok (.aload_n 0, 1) := dk_42 (dk_at dksX2_next_6 2 rfl rfl)
theorem dX2_next_142 : decode cX2_next 142 = .ok (.getfield 103, 3) := dk_180 0 103 (dk_at dksX2_next_6 3 rfl rfl)
theorem dX2_next_145 : decode cX2_next 145 = .ok (.imul, 1) := dk_104 (dk_at dksX2_next_6 6 rfl rfl)
theorem dX2_next_146 : decode cX2_next 146 = .ok (.aload_n 0, 1) := dk_42 (dk_at dksX2_next_6 7 rfl rfl)
theorem dX2_next_147 : decode cX2_next 147 = .ok (.aload_n 0, 1) := dk_42 (dk_at dksX2_next_6 8 rfl rfl)
theorem dX2_next_148 : decode cX2_next 148 = .ok (.getfield 93, 3) := dk_180 0 93 (dk_at dksX2_next_6 9 rfl rfl)
theorem dX2_next_151 : decode cX2_next 151 = .ok (.invokevirtual 96, 3) := dk_182 0 96 (dk_at dksX2_next_6 12 rfl rfl)
theorem dX2_next_154 : decode cX2_next 154 = .ok (.iadd, 1) := dk_96 (dk_at dksX2_next_6 15 rfl rfl)
theorem dX2_next_155 : decode cX2_next 155 = .ok (.bipush 48, 2) := dk_16 48 (dk_at dksX2_next_6 16 rfl rfl)
theorem dX2_next_157 : decode cX2_next 157 = .ok (.isub, 1) := dk_100 (dk_at dksX2_next_6 18 rfl rfl)
theorem dX2_next_158 : decode cX2_next 158 = .ok (.goto 5, 3) := dk_167 0 5 (dk_at dksX2_next_6 19 rfl rfl)
theorem dX2_next_161 : decode cX2_next 161 = .ok (.bipush 100, 2) := dk_16 100 (dk_at dksX2_next_6 22 rfl rfl)
theorem dX2_next_163 : decode cX2_next 163 = .ok (.putfield 103, 3) := dk_181 0 103 (dk_at dksX2_next_7 0 rfl rfl)
theorem dX2_next_166 : decode cX2_next 166 = .ok (.aload_n 0, 1) := dk_42 (dk_at dksX2_next_7 3 rfl rfl)
theorem dX2_next_167 : decode cX2_next 167 = .ok (.dup, 1) := dk_89 (dk_at dksX2_next_7 4 rfl rfl)
theorem dX2_next_168 : decode cX2_next 168 = .ok (.getfield 93, 3) := dk_180 0 93 (dk_at dksX2_next_7 5 rfl rfl)
theorem dX2_next_171 : decode cX2_next 171 = .ok (.iconst 1, 1) := dk_4 (dk_at dksX2_next_7 8 rfl rfl)
theorem dX2_next_172 : decode cX2_next 172 = .ok (.iadd, 1) := dk_96 (dk_at dksX2_next_7 9 rfl rfl)
theorem dX2_next_173 : decode cX2_next 173 = .ok (.putfield 93, 3) := dk_181 0 93 (dk_at dksX2_next_7 10 rfl rfl)
theorem dX2_next_176 : decode cX2_next 176 = .ok (.goto (-65), 3) := dk_167 255 191 (dk_at dksX2_next_7 13 rfl rfl)
theorem dX2_next_179 : decode cX2_next 179 = .ok (.aload_n 0, 1) := dk_42 (dk_at dksX2_next_7 16 rfl rfl)
theorem dX2_next_180 : decode cX2_next 180 = .ok (.iload_n 1, 1) := dk_27 (dk_at dksX2_next_7 17 rfl rfl)
theorem dX2_next_181 : decode cX2_next 181 = .ok (.bipush 59, 2) := dk_16 59 (dk_at dksX2_next_7 18 rfl rfl)
theorem dX2_next_183 : decode cX2_next 183 = .ok (.if_icmp .ne 7, 3) := dk_160 0 7 (dk_at dksX2_next_7 20 rfl rfl)
theorem dX2_next_186 : decode cX2_next 186 = .ok (.iconst 3, 1) := dk_6 (dk_at dksX2_next_7 23 rfl rfl)
theorem dX2_next_187 : decode cX2_next 187 = .ok (.goto 4, 3) := dk_167 0 4 (dk_at dksX2_next_8 0 rfl rfl)
theorem dX2_next_190 : decode cX2_next 190 = .ok (.iconst 4, 1) := dk_7 (dk_at dksX2_next_8 3 rfl rfl)
theorem dX2_next_191 : decode cX2_next 191 = .ok (.putfield 106, 3) := dk_181 0 106 (dk_at dksX2_next_8 4 rfl rfl)
theorem dX2_next_194 : decode cX2_next 194 = .ok (.aload_n 0, 1) := dk_42 (dk_at dksX2_next_8 7 rfl rfl)
theorem dX2_next_195 : decode cX2_next 195 = .ok (.dup, 1) := dk_89 (dk_at dksX2_next_8 8 rfl rfl)
theorem dX2_next_196 : decode cX2_next 196 = .ok (.getfield 93, 3) := dk_180 0 93 (dk_at dksX2_next_8 9 rfl rfl)
theorem dX2_next_199 : decode cX2_next 199 = .ok (.iconst 1, 1) := dk_4 (dk_at dksX2_next_8 12 rfl rfl)
theorem dX2_next_200 : decode cX2_next 200 = .ok (.iadd, 1) := dk_96 (dk_at dksX2_next_8 13 rfl rfl)
theorem dX2_next_201 : decode cX2_next 201 = .ok (.putfield 93, 3) := dk_181 0 93 (dk_at dksX2_next_8 14 rfl rfl)
theorem dX2_next_204 : decode cX2_next 204 = .ok (.return_, 1) := dk_177 (dk_at dksX2_next_8 17 rfl rfl)
abbrev cX2_letterAt : ByteArray := prog_17_method_12_code
def yX2_letterAt : MethodName := ⟨RX2, "letterAt", "(I)I"⟩
def dkwX2_letterAt_0 : List UInt8 := [27, 42, 180, 0, 90, 162, 0, 12, 42, 180, 0, 39, 27, 46, 167, 0, 4, 2, 172]
abbrev dktX2_letterAt_0 : List UInt8 := dkwX2_letterAt_0 ++ []
theorem dksX2_letterAt_0 : cX2_letterAt.data.toList.drop 0 = dktX2_letterAt_0 := by decide +kernel
theorem dX2_letterAt_0 : decode cX2_letterAt 0 = .ok (.iload_n 1, 1) := dk_27 (dk_at dksX2_letterAt_0 0 rfl rfl)
theorem dX2_letterAt_1 : decode cX2_letterAt 1 = .ok (.aload_n 0, 1) := dk_42 (dk_at dksX2_letterAt_0 1 rfl rfl)
theorem dX2_letterAt_2 : decode cX2_letterAt 2 = .ok (.getfield 90, 3) := dk_180 0 90 (dk_at dksX2_letterAt_0 2 rfl rfl)
theorem dX2_letterAt_5 : decode cX2_letterAt 5 = .ok (.if_icmp .ge 12, 3) := dk_162 0 12 (dk_at dksX2_letterAt_0 5 rfl rfl)
theorem dX2_letterAt_8 : decode cX2_letterAt 8 = .ok (.aload_n 0, 1) := dk_42 (dk_at dksX2_letterAt_0 8 rfl rfl)
theorem dX2_letterAt_9 : decode cX2_letterAt 9 = .ok (.getfield 39, 3) := dk_180 0 39 (dk_at dksX2_letterAt_0 9 rfl rfl)
theorem dX2_letterAt_12 : decode cX2_letterAt 12 = .ok (.iload_n 1, 1) := dk_27 (dk_at dksX2_letterAt_0 12 rfl rfl)
theorem dX2_letterAt_13 : decode cX2_letterAt 13 = .ok (.iaload, 1) := dk_46 (dk_at dksX2_letterAt_0 13 rfl rfl)
theorem dX2_letterAt_14 : decode cX2_letterAt 14 = .ok (.goto 4, 3) := dk_167 0 4 (dk_at dksX2_letterAt_0 14 rfl rfl)
theorem dX2_letterAt_17 : decode cX2_letterAt 17 = .ok (.iconst (-1), 1) := dk_2 (dk_at dksX2_letterAt_0 17 rfl rfl)
theorem dX2_letterAt_18 : decode cX2_letterAt 18 = .ok (.ireturn, 1) := dk_172 (dk_at dksX2_letterAt_0 18 rfl rfl)
abbrev cX2_isSmall : ByteArray := prog_17_method_13_code
def yX2_isSmall : MethodName := ⟨RX2, "isSmall", "(I)Z"⟩
def dkwX2_isSmall_0 : List UInt8 := [26, 16, 97, 16, 122, 184, 0, 78, 172]
abbrev dktX2_isSmall_0 : List UInt8 := dkwX2_isSmall_0 ++ []
theorem dksX2_isSmall_0 : cX2_isSmall.data.toList.drop 0 = dktX2_isSmall_0 := by decide +kernel
theorem dX2_isSmall_0 : decode cX2_isSmall 0 = .ok (.iload_n 0, 1) := dk_26 (dk_at dksX2_isSmall_0 0 rfl rfl)
theorem dX2_isSmall_1 : decode cX2_isSmall 1 = .ok (.bipush 97, 2) := dk_16 97 (dk_at dksX2_isSmall_0 1 rfl rfl)
theorem dX2_isSmall_3 : decode cX2_isSmall 3 = .ok (.bipush 122, 2) := dk_16 122 (dk_at dksX2_isSmall_0 3 rfl rfl)
theorem dX2_isSmall_5 : decode cX2_isSmall 5 = .ok (.invokestatic 78, 3) := dk_184 0 78 (dk_at dksX2_isSmall_0 5 rfl rfl)
theorem dX2_isSmall_8 : decode cX2_isSmall 8 = .ok (.ireturn, 1) := dk_172 (dk_at dksX2_isSmall_0 8 rfl rfl)
abbrev cX2_isFigure : ByteArray := prog_17_method_14_code
def yX2_isFigure : MethodName := ⟨RX2, "isFigure", "(I)Z"⟩
def dkwX2_isFigure_0 : List UInt8 := [26, 16, 48, 16, 57, 184, 0, 78, 172]
abbrev dktX2_isFigure_0 : List UInt8 := dkwX2_isFigure_0 ++ []
theorem dksX2_isFigure_0 : cX2_isFigure.data.toList.drop 0 = dktX2_isFigure_0 := by decide +kernel
theorem dX2_isFigure_0 : decode cX2_isFigure 0 = .ok (.iload_n 0, 1) := dk_26 (dk_at dksX2_isFigure_0 0 rfl rfl)
theorem dX2_isFigure_1 : decode cX2_isFigure 1 = .ok (.bipush 48, 2) := dk_16 48 (dk_at dksX2_isFigure_0 1 rfl rfl)
theorem dX2_isFigure_3 : decode cX2_isFigure 3 = .ok (.bipush 57, 2) := dk_16 57 (dk_at dksX2_isFigure_0 3 rfl rfl)
theorem dX2_isFigure_5 : decode cX2_isFigure 5 = .ok (.invokestatic 78, 3) := dk_184 0 78 (dk_at dksX2_isFigure_0 5 rfl rfl)
theorem dX2_isFigure_8 : decode cX2_isFigure 8 = .ok (.ireturn, 1) := dk_172 (dk_at dksX2_isFigure_0 8 rfl rfl)
abbrev cX2_readClause : ByteArray := prog_17_method_26_code
def yX2_readClause : MethodName := ⟨RX2, "readClause", "()V"⟩
def dkwX2_readClause_7 : List UInt8 := [132, 2, 1, 167, 255, 240, 177]
abbrev dktX2_readClause_7 : List UInt8 := dkwX2_readClause_7 ++ []
def dkwX2_readClause_6 : List UInt8 := [180, 0, 142, 181, 0, 142, 167, 0, 24, 3, 61, 28, 16, 6, 162, 0, 16, 42, 180, 0, 48, 28, 3, 79]
abbrev dktX2_readClause_6 : List UInt8 := dkwX2_readClause_6 ++ dktX2_readClause_7
def dkwX2_readClause_5 : List UInt8 := [42, 180, 0, 133, 4, 100, 182, 0, 145, 61, 42, 42, 180, 0, 123, 153, 0, 7, 28, 167, 0, 7, 42]
abbrev dktX2_readClause_5 : List UInt8 := dkwX2_readClause_5 ++ dktX2_readClause_6
def dkwX2_readClause_4 : List UInt8 := [167, 0, 77, 27, 16, 11, 160, 0, 10, 42, 182, 0, 168, 167, 0, 64, 27, 16, 12, 160, 0, 37, 42, 3]
abbrev dktX2_readClause_4 : List UInt8 := dkwX2_readClause_4 ++ dktX2_readClause_5
def dkwX2_readClause_3 : List UInt8 := [163, 0, 14, 42, 27, 16, 7, 100, 182, 0, 162, 167, 0, 90, 27, 16, 10, 160, 0, 10, 42, 182, 0, 165]
abbrev dktX2_readClause_3 : List UInt8 := dkwX2_readClause_3 ++ dktX2_readClause_4
def dkwX2_readClause_2 : List UInt8 := [167, 0, 123, 27, 16, 6, 163, 0, 13, 42, 27, 5, 100, 182, 0, 159, 167, 0, 107, 27, 16, 9]
abbrev dktX2_readClause_2 : List UInt8 := dkwX2_readClause_2 ++ dktX2_readClause_3
def dkwX2_readClause_1 : List UInt8 := [16, 6, 160, 0, 9, 42, 3, 181, 0, 123, 177, 42, 182, 0, 127, 27, 4, 160, 0, 10, 42, 182, 0, 156]
abbrev dktX2_readClause_1 : List UInt8 := dkwX2_readClause_1 ++ dktX2_readClause_2
def dkwX2_readClause_0 : List UInt8 := [42, 182, 0, 153, 60, 27, 153, 0, 23, 27, 16, 7, 16, 9, 184, 0, 78, 153, 0, 18, 42, 180, 0, 133]
abbrev dktX2_readClause_0 : List UInt8 := dkwX2_readClause_0 ++ dktX2_readClause_1
theorem dksX2_readClause_0 : cX2_readClause.data.toList.drop 0 = dktX2_readClause_0 := by decide +kernel
theorem dksX2_readClause_1 : cX2_readClause.data.toList.drop 24 = dktX2_readClause_1 := dk_seg dksX2_readClause_0 24 rfl rfl
theorem dksX2_readClause_2 : cX2_readClause.data.toList.drop 48 = dktX2_readClause_2 := dk_seg dksX2_readClause_1 24 rfl rfl
theorem dksX2_readClause_3 : cX2_readClause.data.toList.drop 70 = dktX2_readClause_3 := dk_seg dksX2_readClause_2 22 rfl rfl
theorem dksX2_readClause_4 : cX2_readClause.data.toList.drop 94 = dktX2_readClause_4 := dk_seg dksX2_readClause_3 24 rfl rfl
theorem dksX2_readClause_5 : cX2_readClause.data.toList.drop 118 = dktX2_readClause_5 := dk_seg dksX2_readClause_4 24 rfl rfl
theorem dksX2_readClause_6 : cX2_readClause.data.toList.drop 141 = dktX2_readClause_6 := dk_seg dksX2_readClause_5 23 rfl rfl
theorem dksX2_readClause_7 : cX2_readClause.data.toList.drop 165 = dktX2_readClause_7 := dk_seg dksX2_readClause_6 24 rfl rfl
theorem dX2_readClause_0 : decode cX2_readClause 0 = .ok (.aload_n 0, 1) := dk_42 (dk_at dksX2_readClause_0 0 rfl rfl)
theorem dX2_readClause_1 : decode cX2_readClause 1 = .ok (.invokevirtual 153, 3) := dk_182 0 153 (dk_at dksX2_readClause_0 1 rfl rfl)
theorem dX2_readClause_4 : decode cX2_readClause 4 = .ok (.istore_n 1, 1) := dk_60 (dk_at dksX2_readClause_0 4 rfl rfl)
theorem dX2_readClause_5 : decode cX2_readClause 5 = .ok (.iload_n 1, 1) := dk_27 (dk_at dksX2_readClause_0 5 rfl rfl)
theorem dX2_readClause_6 : decode cX2_readClause 6 = .ok (.ifCond .eq 23, 3) := dk_153 0 23 (dk_at dksX2_readClause_0 6 rfl rfl)
theorem dX2_readClause_9 : decode cX2_readClause 9 = .ok (.iload_n 1, 1) := dk_27 (dk_at dksX2_readClause_0 9 rfl rfl)
theorem dX2_readClause_10 : decode cX2_readClause 10 = .ok (.bipush 7, 2) := dk_16 7 (dk_at dksX2_readClause_0 10 rfl rfl)
theorem dX2_readClause_12 : decode cX2_readClause 12 = .ok (.bipush 9, 2) := dk_16 9 (dk_at dksX2_readClause_0 12 rfl rfl)
theorem dX2_readClause_14 : decode cX2_readClause 14 = .ok (.invokestatic 78, 3) := dk_184 0 78 (dk_at dksX2_readClause_0 14 rfl rfl)
theorem dX2_readClause_17 : decode cX2_readClause 17 = .ok (.ifCond .eq 18, 3) := dk_153 0 18 (dk_at dksX2_readClause_0 17 rfl rfl)
theorem dX2_readClause_20 : decode cX2_readClause 20 = .ok (.aload_n 0, 1) := dk_42 (dk_at dksX2_readClause_0 20 rfl rfl)
theorem dX2_readClause_21 : decode cX2_readClause 21 = .ok (.getfield 133, 3) := dk_180 0 133 (dk_at dksX2_readClause_0 21 rfl rfl)
theorem dX2_readClause_24 : decode cX2_readClause 24 = .ok (.bipush 6, 2) := dk_16 6 (dk_at dksX2_readClause_1 0 rfl rfl)
theorem dX2_readClause_26 : decode cX2_readClause 26 = .ok (.if_icmp .ne 9, 3) := dk_160 0 9 (dk_at dksX2_readClause_1 2 rfl rfl)
theorem dX2_readClause_29 : decode cX2_readClause 29 = .ok (.aload_n 0, 1) := dk_42 (dk_at dksX2_readClause_1 5 rfl rfl)
theorem dX2_readClause_30 : decode cX2_readClause 30 = .ok (.iconst 0, 1) := dk_3 (dk_at dksX2_readClause_1 6 rfl rfl)
theorem dX2_readClause_31 : decode cX2_readClause 31 = .ok (.putfield 123, 3) := dk_181 0 123 (dk_at dksX2_readClause_1 7 rfl rfl)
theorem dX2_readClause_34 : decode cX2_readClause 34 = .ok (.return_, 1) := dk_177 (dk_at dksX2_readClause_1 10 rfl rfl)
theorem dX2_readClause_35 : decode cX2_readClause 35 = .ok (.aload_n 0, 1) := dk_42 (dk_at dksX2_readClause_1 11 rfl rfl)
theorem dX2_readClause_36 : decode cX2_readClause 36 = .ok (.invokevirtual 127, 3) := dk_182 0 127 (dk_at dksX2_readClause_1 12 rfl rfl)
theorem dX2_readClause_39 : decode cX2_readClause 39 = .ok (.iload_n 1, 1) := dk_27 (dk_at dksX2_readClause_1 15 rfl rfl)
theorem dX2_readClause_40 : decode cX2_readClause 40 = .ok (.iconst 1, 1) := dk_4 (dk_at dksX2_readClause_1 16 rfl rfl)
theorem dX2_readClause_41 : decode cX2_readClause 41 = .ok (.if_icmp .ne 10, 3) := dk_160 0 10 (dk_at dksX2_readClause_1 17 rfl rfl)
theorem dX2_readClause_44 : decode cX2_readClause 44 = .ok (.aload_n 0, 1) := dk_42 (dk_at dksX2_readClause_1 20 rfl rfl)
theorem dX2_readClause_45 : decode cX2_readClause 45 = .ok (.invokevirtual 156, 3) := dk_182 0 156 (dk_at dksX2_readClause_1 21 rfl rfl)
theorem dX2_readClause_48 : decode cX2_readClause 48 = .ok (.goto 123, 3) := dk_167 0 123 (dk_at dksX2_readClause_2 0 rfl rfl)
theorem dX2_readClause_51 : decode cX2_readClause 51 = .ok (.iload_n 1, 1) := dk_27 (dk_at dksX2_readClause_2 3 rfl rfl)
theorem dX2_readClause_52 : decode cX2_readClause 52 = .ok (.bipush 6, 2) := dk_16 6 (dk_at dksX2_readClause_2 4 rfl rfl)
theorem dX2_readClause_54 : decode cX2_readClause 54 = .ok (.if_icmp .gt 13, 3) := dk_163 0 13 (dk_at dksX2_readClause_2 6 rfl rfl)
theorem dX2_readClause_57 : decode cX2_readClause 57 = .ok (.aload_n 0, 1) := dk_42 (dk_at dksX2_readClause_2 9 rfl rfl)
theorem dX2_readClause_58 : decode cX2_readClause 58 = .ok (.iload_n 1, 1) := dk_27 (dk_at dksX2_readClause_2 10 rfl rfl)
theorem dX2_readClause_59 : decode cX2_readClause 59 = .ok (.iconst 2, 1) := dk_5 (dk_at dksX2_readClause_2 11 rfl rfl)
theorem dX2_readClause_60 : decode cX2_readClause 60 = .ok (.isub, 1) := dk_100 (dk_at dksX2_readClause_2 12 rfl rfl)
theorem dX2_readClause_61 : decode cX2_readClause 61 = .ok (.invokevirtual 159, 3) := dk_182 0 159 (dk_at dksX2_readClause_2 13 rfl rfl)
theorem dX2_readClause_64 : decode cX2_readClause 64 = .ok (.goto 107, 3) := dk_167 0 107 (dk_at dksX2_readClause_2 16 rfl rfl)
theorem dX2_readClause_67 : decode cX2_readClause 67 = .ok (.iload_n 1, 1) := dk_27 (dk_at dksX2_readClause_2 19 rfl rfl)
theorem dX2_readClause_68 : decode cX2_readClause 68 = .ok (.bipush 9, 2) := dk_16 9 (dk_at dksX2_readClause_2 20 rfl rfl)
theorem dX2_readClause_70 : decode cX2_readClause 70 = .ok (.if_icmp .gt 14, 3) := dk_163 0 14 (dk_at dksX2_readClause_3 0 rfl rfl)
theorem dX2_readClause_73 : decode cX2_readClause 73 = .ok (.aload_n 0, 1) := dk_42 (dk_at dksX2_readClause_3 3 rfl rfl)
theorem dX2_readClause_74 : decode cX2_readClause 74 = .ok (.iload_n 1, 1) := dk_27 (dk_at dksX2_readClause_3 4 rfl rfl)
theorem dX2_readClause_75 : decode cX2_readClause 75 = .ok (.bipush 7, 2) := dk_16 7 (dk_at dksX2_readClause_3 5 rfl rfl)
theorem dX2_readClause_77 : decode cX2_readClause 77 = .ok (.isub, 1) := dk_100 (dk_at dksX2_readClause_3 7 rfl rfl)
theorem dX2_readClause_78 : decode cX2_readClause 78 = .ok (.invokevirtual 162, 3) := dk_182 0 162 (dk_at dksX2_readClause_3 8 rfl rfl)
theorem dX2_readClause_81 : decode cX2_readClause 81 = .ok (.goto 90, 3) := dk_167 0 90 (dk_at dksX2_readClause_3 11 rfl rfl)
theorem dX2_readClause_84 : decode cX2_readClause 84 = .ok (.iload_n 1, 1) := dk_27 (dk_at dksX2_readClause_3 14 rfl rfl)
theorem dX2_readClause_85 : decode cX2_readClause 85 = .ok (.bipush 10, 2) := dk_16 10 (dk_at dksX2_readClause_3 15 rfl rfl)
theorem dX2_readClause_87 : decode cX2_readClause 87 = .ok (.if_icmp .ne 10, 3) := dk_160 0 10 (dk_at dksX2_readClause_3 17 rfl rfl)
theorem dX2_readClause_90 : decode cX2_readClause 90 = .ok (.aload_n 0, 1) := dk_42 (dk_at dksX2_readClause_3 20 rfl rfl)
theorem dX2_readClause_91 : decode cX2_readClause 91 = .ok (.invokevirtual 165, 3) := dk_182 0 165 (dk_at dksX2_readClause_3 21 rfl rfl)
theorem dX2_readClause_94 : decode cX2_readClause 94 = .ok (.goto 77, 3) := dk_167 0 77 (dk_at dksX2_readClause_4 0 rfl rfl)
theorem dX2_readClause_97 : decode cX2_readClause 97 = .ok (.iload_n 1, 1) := dk_27 (dk_at dksX2_readClause_4 3 rfl rfl)
theorem dX2_readClause_98 : decode cX2_readClause 98 = .ok (.bipush 11, 2) := dk_16 11 (dk_at dksX2_readClause_4 4 rfl rfl)
theorem dX2_readClause_100 : decode cX2_readClause 100 = .ok (.if_icmp .ne 10, 3) := dk_160 0 10 (dk_at dksX2_readClause_4 6 rfl rfl)
theorem dX2_readClause_103 : decode cX2_readClause 103 = .ok (.aload_n 0, 1) := dk_42 (dk_at dksX2_readClause_4 9 rfl rfl)
theorem dX2_readClause_104 : decode cX2_readClause 104 = .ok (.invokevirtual 168, 3) := dk_182 0 168 (dk_at dksX2_readClause_4 10 rfl rfl)
theorem dX2_readClause_107 : decode cX2_readClause 107 = .ok (.goto 64, 3) := dk_167 0 64 (dk_at dksX2_readClause_4 13 rfl rfl)
theorem dX2_readClause_110 : decode cX2_readClause 110 = .ok (.iload_n 1, 1) := dk_27 (dk_at dksX2_readClause_4 16 rfl rfl)
theorem dX2_readClause_111 : decode cX2_readClause 111 = .ok (.bipush 12, 2) := dk_16 12 (dk_at dksX2_readClause_4 17 rfl rfl)
theorem dX2_readClause_113 : decode cX2_readClause 113 = .ok (.if_icmp .ne 37, 3) := dk_160 0 37 (dk_at dksX2_readClause_4 19 rfl rfl)
theorem dX2_readClause_116 : decode cX2_readClause 116 = .ok (.aload_n 0, 1) := dk_42 (dk_at dksX2_readClause_4 22 rfl rfl)
theorem dX2_readClause_117 : decode cX2_readClause 117 = .ok (.iconst 0, 1) := dk_3 (dk_at dksX2_readClause_4 23 rfl rfl)
theorem dX2_readClause_118 : decode cX2_readClause 118 = .ok (.aload_n 0, 1) := dk_42 (dk_at dksX2_readClause_5 0 rfl rfl)
theorem dX2_readClause_119 : decode cX2_readClause 119 = .ok (.getfield 133, 3) := dk_180 0 133 (dk_at dksX2_readClause_5 1 rfl rfl)
theorem dX2_readClause_122 : decode cX2_readClause 122 = .ok (.iconst 1, 1) := dk_4 (dk_at dksX2_readClause_5 4 rfl rfl)
theorem dX2_readClause_123 : decode cX2_readClause 123 = .ok (.isub, 1) := dk_100 (dk_at dksX2_readClause_5 5 rfl rfl)
theorem dX2_readClause_124 : decode cX2_readClause 124 = .ok (.invokevirtual 145, 3) := dk_182 0 145 (dk_at dksX2_readClause_5 6 rfl rfl)
theorem dX2_readClause_127 : decode cX2_readClause 127 = .ok (.istore_n 2, 1) := dk_61 (dk_at dksX2_readClause_5 9 rfl rfl)
theorem dX2_readClause_128 : decode cX2_readClause 128 = .ok (.aload_n 0, 1) := dk_42 (dk_at dksX2_readClause_5 10 rfl rfl)
theorem dX2_readClause_129 : decode cX2_readClause 129 = .ok (.aload_n 0, 1) := dk_42 (dk_at dksX2_readClause_5 11 rfl rfl)
theorem dX2_readClause_130 : decode cX2_readClause 130 = .ok (.getfield 123, 3) := dk_180 0 123 (dk_at dksX2_readClause_5 12 rfl rfl)
theorem dX2_readClause_133 : decode cX2_readClause 133 = .ok (.ifCond .eq 7, 3) := dk_153 0 7 (dk_at dksX2_readClause_5 15 rfl rfl)
theorem dX2_readClause_136 : decode cX2_readClause 136 = .ok (.iload_n 2, 1) := dk_28 (dk_at dksX2_readClause_5 18 rfl rfl)
theorem dX2_readClause_137 : decode cX2_readClause 137 = .ok (.goto 7, 3) := dk_167 0 7 (dk_at dksX2_readClause_5 19 rfl rfl)
theorem dX2_readClause_140 : decode cX2_readClause 140 = .ok (.aload_n 0, 1) := dk_42 (dk_at dksX2_readClause_5 22 rfl rfl)
theorem dX2_readClause_141 : decode cX2_readClause 141 = .ok (.getfield 142, 3) := dk_180 0 142 (dk_at dksX2_readClause_6 0 rfl rfl)
theorem dX2_readClause_144 : decode cX2_readClause 144 = .ok (.putfield 142, 3) := dk_181 0 142 (dk_at dksX2_readClause_6 3 rfl rfl)
theorem dX2_readClause_147 : decode cX2_readClause 147 = .ok (.goto 24, 3) := dk_167 0 24 (dk_at dksX2_readClause_6 6 rfl rfl)
theorem dX2_readClause_150 : decode cX2_readClause 150 = .ok (.iconst 0, 1) := dk_3 (dk_at dksX2_readClause_6 9 rfl rfl)
theorem dX2_readClause_151 : decode cX2_readClause 151 = .ok (.istore_n 2, 1) := dk_61 (dk_at dksX2_readClause_6 10 rfl rfl)
theorem dX2_readClause_152 : decode cX2_readClause 152 = .ok (.iload_n 2, 1) := dk_28 (dk_at dksX2_readClause_6 11 rfl rfl)
theorem dX2_readClause_153 : decode cX2_readClause 153 = .ok (.bipush 6, 2) := dk_16 6 (dk_at dksX2_readClause_6 12 rfl rfl)
theorem dX2_readClause_155 : decode cX2_readClause 155 = .ok (.if_icmp .ge 16, 3) := dk_162 0 16 (dk_at dksX2_readClause_6 14 rfl rfl)
theorem dX2_readClause_158 : decode cX2_readClause 158 = .ok (.aload_n 0, 1) := dk_42 (dk_at dksX2_readClause_6 17 rfl rfl)
theorem dX2_readClause_159 : decode cX2_readClause 159 = .ok (.getfield 48, 3) := dk_180 0 48 (dk_at dksX2_readClause_6 18 rfl rfl)
theorem dX2_readClause_162 : decode cX2_readClause 162 = .ok (.iload_n 2, 1) := dk_28 (dk_at dksX2_readClause_6 21 rfl rfl)
theorem dX2_readClause_163 : decode cX2_readClause 163 = .ok (.iconst 0, 1) := dk_3 (dk_at dksX2_readClause_6 22 rfl rfl)
theorem dX2_readClause_164 : decode cX2_readClause 164 = .ok (.iastore, 1) := dk_79 (dk_at dksX2_readClause_6 23 rfl rfl)
theorem dX2_readClause_165 : decode cX2_readClause 165 = .ok (.iinc 2 1, 3) := dk_132 2 1 (dk_at dksX2_readClause_7 0 rfl rfl)
theorem dX2_readClause_168 : decode cX2_readClause 168 = .ok (.goto (-16), 3) := dk_167 255 240 (dk_at dksX2_readClause_7 3 rfl rfl)
theorem dX2_readClause_171 : decode cX2_readClause 171 = .ok (.return_, 1) := dk_177 (dk_at dksX2_readClause_7 6 rfl rfl)
abbrev cX2_wordOf : ByteArray := prog_17_method_17_code
def yX2_wordOf : MethodName := ⟨RX2, "wordOf", "()I"⟩
def dkwX2_wordOf_11 : List UInt8 := [182, 0, 115, 153, 0, 6, 16, 9, 172, 42, 182, 0, 119, 172]
abbrev dktX2_wordOf_11 : List UInt8 := dkwX2_wordOf_11 ++ []
def dkwX2_wordOf_10 : List UInt8 := [3, 16, 107, 16, 105, 16, 110, 182, 0, 115, 153, 0, 21, 42, 7, 4, 16, 105, 16, 110, 16, 103]
abbrev dktX2_wordOf_10 : List UInt8 := dkwX2_wordOf_10 ++ dktX2_wordOf_11
def dkwX2_wordOf_9 : List UInt8 := [153, 0, 22, 42, 16, 6, 6, 16, 105, 16, 114, 16, 101, 182, 0, 115, 153, 0, 6, 16, 8, 172, 42, 7]
abbrev dktX2_wordOf_9 : List UInt8 := dkwX2_wordOf_9 ++ dktX2_wordOf_10
def dkwX2_wordOf_8 : List UInt8 := [16, 116, 182, 0, 115, 153, 0, 6, 16, 7, 172, 42, 16, 6, 3, 16, 115, 16, 113, 16, 117, 182, 0, 115]
abbrev dktX2_wordOf_8 : List UInt8 := dkwX2_wordOf_8 ++ dktX2_wordOf_9
def dkwX2_wordOf_7 : List UInt8 := [16, 6, 3, 16, 107, 16, 110, 16, 105, 182, 0, 115, 153, 0, 22, 42, 16, 6, 6, 16, 103, 16, 104]
abbrev dktX2_wordOf_7 : List UInt8 := dkwX2_wordOf_7 ++ dktX2_wordOf_8
def dkwX2_wordOf_6 : List UInt8 := [153, 0, 22, 42, 16, 8, 8, 16, 105, 16, 110, 16, 103, 182, 0, 115, 153, 0, 6, 16, 6, 172, 42]
abbrev dktX2_wordOf_6 : List UInt8 := dkwX2_wordOf_6 ++ dktX2_wordOf_7
def dkwX2_wordOf_5 : List UInt8 := [16, 111, 16, 117, 182, 0, 115, 153, 0, 38, 42, 16, 8, 6, 16, 114, 16, 110, 16, 105, 182, 0, 115]
abbrev dktX2_wordOf_5 : List UInt8 := dkwX2_wordOf_5 ++ dktX2_wordOf_6
def dkwX2_wordOf_4 : List UInt8 := [172, 42, 6, 3, 16, 107, 16, 105, 16, 110, 182, 0, 115, 153, 0, 5, 8, 172, 42, 16, 8, 3, 16, 109]
abbrev dktX2_wordOf_4 : List UInt8 := dkwX2_wordOf_4 ++ dktX2_wordOf_5
def dkwX2_wordOf_3 : List UInt8 := [16, 101, 182, 0, 115, 153, 0, 20, 42, 7, 4, 16, 101, 16, 101, 16, 107, 182, 0, 115, 153, 0, 5, 7]
abbrev dktX2_wordOf_3 : List UInt8 := dkwX2_wordOf_3 ++ dktX2_wordOf_4
def dkwX2_wordOf_2 : List UInt8 := [7, 4, 16, 111, 16, 108, 16, 100, 182, 0, 115, 153, 0, 5, 6, 172, 42, 7, 3, 16, 109, 16, 101]
abbrev dktX2_wordOf_2 : List UInt8 := dkwX2_wordOf_2 ++ dktX2_wordOf_3
def dkwX2_wordOf_1 : List UInt8 := [182, 0, 115, 153, 0, 5, 4, 172, 42, 7, 3, 16, 103, 16, 111, 16, 108, 182, 0, 115, 153, 0, 20, 42]
abbrev dktX2_wordOf_1 : List UInt8 := dkwX2_wordOf_1 ++ dktX2_wordOf_2
def dkwX2_wordOf_0 : List UInt8 := [42, 8, 3, 16, 116, 16, 97, 16, 98, 182, 0, 115, 153, 0, 20, 42, 8, 5, 16, 98, 16, 108, 16, 101]
abbrev dktX2_wordOf_0 : List UInt8 := dkwX2_wordOf_0 ++ dktX2_wordOf_1
theorem dksX2_wordOf_0 : cX2_wordOf.data.toList.drop 0 = dktX2_wordOf_0 := by decide +kernel
theorem dksX2_wordOf_1 : cX2_wordOf.data.toList.drop 24 = dktX2_wordOf_1 := dk_seg dksX2_wordOf_0 24 rfl rfl
theorem dksX2_wordOf_2 : cX2_wordOf.data.toList.drop 48 = dktX2_wordOf_2 := dk_seg dksX2_wordOf_1 24 rfl rfl
theorem dksX2_wordOf_3 : cX2_wordOf.data.toList.drop 71 = dktX2_wordOf_3 := dk_seg dksX2_wordOf_2 23 rfl rfl
theorem dksX2_wordOf_4 : cX2_wordOf.data.toList.drop 95 = dktX2_wordOf_4 := dk_seg dksX2_wordOf_3 24 rfl rfl
theorem dksX2_wordOf_5 : cX2_wordOf.data.toList.drop 119 = dktX2_wordOf_5 := dk_seg dksX2_wordOf_4 24 rfl rfl
theorem dksX2_wordOf_6 : cX2_wordOf.data.toList.drop 142 = dktX2_wordOf_6 := dk_seg dksX2_wordOf_5 23 rfl rfl
theorem dksX2_wordOf_7 : cX2_wordOf.data.toList.drop 165 = dktX2_wordOf_7 := dk_seg dksX2_wordOf_6 23 rfl rfl
theorem dksX2_wordOf_8 : cX2_wordOf.data.toList.drop 188 = dktX2_wordOf_8 := dk_seg dksX2_wordOf_7 23 rfl rfl
theorem dksX2_wordOf_9 : cX2_wordOf.data.toList.drop 212 = dktX2_wordOf_9 := dk_seg dksX2_wordOf_8 24 rfl rfl
theorem dksX2_wordOf_10 : cX2_wordOf.data.toList.drop 236 = dktX2_wordOf_10 := dk_seg dksX2_wordOf_9 24 rfl rfl
theorem dksX2_wordOf_11 : cX2_wordOf.data.toList.drop 258 = dktX2_wordOf_11 := dk_seg dksX2_wordOf_10 22 rfl rfl
theorem dX2_wordOf_0 : decode cX2_wordOf 0 = .ok (.aload_n 0, 1) := dk_42 (dk_at dksX2_wordOf_0 0 rfl rfl)
theorem dX2_wordOf_1 : decode cX2_wordOf 1 = .ok (.iconst 5, 1) := dk_8 (dk_at dksX2_wordOf_0 1 rfl rfl)
theorem dX2_wordOf_2 : decode cX2_wordOf 2 = .ok (.iconst 0, 1) := dk_3 (dk_at dksX2_wordOf_0 2 rfl rfl)
theorem dX2_wordOf_3 : decode cX2_wordOf 3 = .ok (.bipush 116, 2) := dk_16 116 (dk_at dksX2_wordOf_0 3 rfl rfl)
theorem dX2_wordOf_5 : decode cX2_wordOf 5 = .ok (.bipush 97, 2) := dk_16 97 (dk_at dksX2_wordOf_0 5 rfl rfl)
theorem dX2_wordOf_7 : decode cX2_wordOf 7 = .ok (.bipush 98, 2) := dk_16 98 (dk_at dksX2_wordOf_0 7 rfl rfl)
theorem dX2_wordOf_9 : decode cX2_wordOf 9 = .ok (.invokevirtual 115, 3) := dk_182 0 115 (dk_at dksX2_wordOf_0 9 rfl rfl)
theorem dX2_wordOf_12 : decode cX2_wordOf 12 = .ok (.ifCond .eq 20, 3) := dk_153 0 20 (dk_at dksX2_wordOf_0 12 rfl rfl)
theorem dX2_wordOf_15 : decode cX2_wordOf 15 = .ok (.aload_n 0, 1) := dk_42 (dk_at dksX2_wordOf_0 15 rfl rfl)
theorem dX2_wordOf_16 : decode cX2_wordOf 16 = .ok (.iconst 5, 1) := dk_8 (dk_at dksX2_wordOf_0 16 rfl rfl)
theorem dX2_wordOf_17 : decode cX2_wordOf 17 = .ok (.iconst 2, 1) := dk_5 (dk_at dksX2_wordOf_0 17 rfl rfl)
theorem dX2_wordOf_18 : decode cX2_wordOf 18 = .ok (.bipush 98, 2) := dk_16 98 (dk_at dksX2_wordOf_0 18 rfl rfl)
theorem dX2_wordOf_20 : decode cX2_wordOf 20 = .ok (.bipush 108, 2) := dk_16 108 (dk_at dksX2_wordOf_0 20 rfl rfl)
theorem dX2_wordOf_22 : decode cX2_wordOf 22 = .ok (.bipush 101, 2) := dk_16 101 (dk_at dksX2_wordOf_0 22 rfl rfl)
theorem dX2_wordOf_24 : decode cX2_wordOf 24 = .ok (.invokevirtual 115, 3) := dk_182 0 115 (dk_at dksX2_wordOf_1 0 rfl rfl)
theorem dX2_wordOf_27 : decode cX2_wordOf 27 = .ok (.ifCond .eq 5, 3) := dk_153 0 5 (dk_at dksX2_wordOf_1 3 rfl rfl)
theorem dX2_wordOf_30 : decode cX2_wordOf 30 = .ok (.iconst 1, 1) := dk_4 (dk_at dksX2_wordOf_1 6 rfl rfl)
theorem dX2_wordOf_31 : decode cX2_wordOf 31 = .ok (.ireturn, 1) := dk_172 (dk_at dksX2_wordOf_1 7 rfl rfl)
theorem dX2_wordOf_32 : decode cX2_wordOf 32 = .ok (.aload_n 0, 1) := dk_42 (dk_at dksX2_wordOf_1 8 rfl rfl)
theorem dX2_wordOf_33 : decode cX2_wordOf 33 = .ok (.iconst 4, 1) := dk_7 (dk_at dksX2_wordOf_1 9 rfl rfl)
theorem dX2_wordOf_34 : decode cX2_wordOf 34 = .ok (.iconst 0, 1) := dk_3 (dk_at dksX2_wordOf_1 10 rfl rfl)
theorem dX2_wordOf_35 : decode cX2_wordOf 35 = .ok (.bipush 103, 2) := dk_16 103 (dk_at dksX2_wordOf_1 11 rfl rfl)
theorem dX2_wordOf_37 : decode cX2_wordOf 37 = .ok (.bipush 111, 2) := dk_16 111 (dk_at dksX2_wordOf_1 13 rfl rfl)
theorem dX2_wordOf_39 : decode cX2_wordOf 39 = .ok (.bipush 108, 2) := dk_16 108 (dk_at dksX2_wordOf_1 15 rfl rfl)
theorem dX2_wordOf_41 : decode cX2_wordOf 41 = .ok (.invokevirtual 115, 3) := dk_182 0 115 (dk_at dksX2_wordOf_1 17 rfl rfl)
theorem dX2_wordOf_44 : decode cX2_wordOf 44 = .ok (.ifCond .eq 20, 3) := dk_153 0 20 (dk_at dksX2_wordOf_1 20 rfl rfl)
theorem dX2_wordOf_47 : decode cX2_wordOf 47 = .ok (.aload_n 0, 1) := dk_42 (dk_at dksX2_wordOf_1 23 rfl rfl)
theorem dX2_wordOf_48 : decode cX2_wordOf 48 = .ok (.iconst 4, 1) := dk_7 (dk_at dksX2_wordOf_2 0 rfl rfl)
theorem dX2_wordOf_49 : decode cX2_wordOf 49 = .ok (.iconst 1, 1) := dk_4 (dk_at dksX2_wordOf_2 1 rfl rfl)
theorem dX2_wordOf_50 : decode cX2_wordOf 50 = .ok (.bipush 111, 2) := dk_16 111 (dk_at dksX2_wordOf_2 2 rfl rfl)
theorem dX2_wordOf_52 : decode cX2_wordOf 52 = .ok (.bipush 108, 2) := dk_16 108 (dk_at dksX2_wordOf_2 4 rfl rfl)
theorem dX2_wordOf_54 : decode cX2_wordOf 54 = .ok (.bipush 100, 2) := dk_16 100 (dk_at dksX2_wordOf_2 6 rfl rfl)
theorem dX2_wordOf_56 : decode cX2_wordOf 56 = .ok (.invokevirtual 115, 3) := dk_182 0 115 (dk_at dksX2_wordOf_2 8 rfl rfl)
theorem dX2_wordOf_59 : decode cX2_wordOf 59 = .ok (.ifCond .eq 5, 3) := dk_153 0 5 (dk_at dksX2_wordOf_2 11 rfl rfl)
theorem dX2_wordOf_62 : decode cX2_wordOf 62 = .ok (.iconst 3, 1) := dk_6 (dk_at dksX2_wordOf_2 14 rfl rfl)
theorem dX2_wordOf_63 : decode cX2_wordOf 63 = .ok (.ireturn, 1) := dk_172 (dk_at dksX2_wordOf_2 15 rfl rfl)
theorem dX2_wordOf_64 : decode cX2_wordOf 64 = .ok (.aload_n 0, 1) := dk_42 (dk_at dksX2_wordOf_2 16 rfl rfl)
theorem dX2_wordOf_65 : decode cX2_wordOf 65 = .ok (.iconst 4, 1) := dk_7 (dk_at dksX2_wordOf_2 17 rfl rfl)
theorem dX2_wordOf_66 : decode cX2_wordOf 66 = .ok (.iconst 0, 1) := dk_3 (dk_at dksX2_wordOf_2 18 rfl rfl)
theorem dX2_wordOf_67 : decode cX2_wordOf 67 = .ok (.bipush 109, 2) := dk_16 109 (dk_at dksX2_wordOf_2 19 rfl rfl)
theorem dX2_wordOf_69 : decode cX2_wordOf 69 = .ok (.bipush 101, 2) := dk_16 101 (dk_at dksX2_wordOf_2 21 rfl rfl)
theorem dX2_wordOf_71 : decode cX2_wordOf 71 = .ok (.bipush 101, 2) := dk_16 101 (dk_at dksX2_wordOf_3 0 rfl rfl)
theorem dX2_wordOf_73 : decode cX2_wordOf 73 = .ok (.invokevirtual 115, 3) := dk_182 0 115 (dk_at dksX2_wordOf_3 2 rfl rfl)
theorem dX2_wordOf_76 : decode cX2_wordOf 76 = .ok (.ifCond .eq 20, 3) := dk_153 0 20 (dk_at dksX2_wordOf_3 5 rfl rfl)
theorem dX2_wordOf_79 : decode cX2_wordOf 79 = .ok (.aload_n 0, 1) := dk_42 (dk_at dksX2_wordOf_3 8 rfl rfl)
theorem dX2_wordOf_80 : decode cX2_wordOf 80 = .ok (.iconst 4, 1) := dk_7 (dk_at dksX2_wordOf_3 9 rfl rfl)
theorem dX2_wordOf_81 : decode cX2_wordOf 81 = .ok (.iconst 1, 1) := dk_4 (dk_at dksX2_wordOf_3 10 rfl rfl)
theorem dX2_wordOf_82 : decode cX2_wordOf 82 = .ok (.bipush 101, 2) := dk_16 101 (dk_at dksX2_wordOf_3 11 rfl rfl)
theorem dX2_wordOf_84 : decode cX2_wordOf 84 = .ok (.bipush 101, 2) := dk_16 101 (dk_at dksX2_wordOf_3 13 rfl rfl)
theorem dX2_wordOf_86 : decode cX2_wordOf 86 = .ok (.bipush 107, 2) := dk_16 107 (dk_at dksX2_wordOf_3 15 rfl rfl)
theorem dX2_wordOf_88 : decode cX2_wordOf 88 = .ok (.invokevirtual 115, 3) := dk_182 0 115 (dk_at dksX2_wordOf_3 17 rfl rfl)
theorem dX2_wordOf_91 : decode cX2_wordOf 91 = .ok (.ifCond .eq 5, 3) := dk_153 0 5 (dk_at dksX2_wordOf_3 20 rfl rfl)
theorem dX2_wordOf_94 : decode cX2_wordOf 94 = .ok (.iconst 4, 1) := dk_7 (dk_at dksX2_wordOf_3 23 rfl rfl)
theorem dX2_wordOf_95 : decode cX2_wordOf 95 = .ok (.ireturn, 1) := dk_172 (dk_at dksX2_wordOf_4 0 rfl rfl)
theorem dX2_wordOf_96 : decode cX2_wordOf 96 = .ok (.aload_n 0, 1) := dk_42 (dk_at dksX2_wordOf_4 1 rfl rfl)
theorem dX2_wordOf_97 : decode cX2_wordOf 97 = .ok (.iconst 3, 1) := dk_6 (dk_at dksX2_wordOf_4 2 rfl rfl)
theorem dX2_wordOf_98 : decode cX2_wordOf 98 = .ok (.iconst 0, 1) := dk_3 (dk_at dksX2_wordOf_4 3 rfl rfl)
theorem dX2_wordOf_99 : decode cX2_wordOf 99 = .ok (.bipush 107, 2) := dk_16 107 (dk_at dksX2_wordOf_4 4 rfl rfl)
theorem dX2_wordOf_101 : decode cX2_wordOf 101 = .ok (.bipush 105, 2) := dk_16 105 (dk_at dksX2_wordOf_4 6 rfl rfl)
theorem dX2_wordOf_103 : decode cX2_wordOf 103 = .ok (.bipush 110, 2) := dk_16 110 (dk_at dksX2_wordOf_4 8 rfl rfl)
theorem dX2_wordOf_105 : decode cX2_wordOf 105 = .ok (.invokevirtual 115, 3) := dk_182 0 115 (dk_at dksX2_wordOf_4 10 rfl rfl)
theorem dX2_wordOf_108 : decode cX2_wordOf 108 = .ok (.ifCond .eq 5, 3) := dk_153 0 5 (dk_at dksX2_wordOf_4 13 rfl rfl)
theorem dX2_wordOf_111 : decode cX2_wordOf 111 = .ok (.iconst 5, 1) := dk_8 (dk_at dksX2_wordOf_4 16 rfl rfl)
theorem dX2_wordOf_112 : decode cX2_wordOf 112 = .ok (.ireturn, 1) := dk_172 (dk_at dksX2_wordOf_4 17 rfl rfl)
theorem dX2_wordOf_113 : decode cX2_wordOf 113 = .ok (.aload_n 0, 1) := dk_42 (dk_at dksX2_wordOf_4 18 rfl rfl)
theorem dX2_wordOf_114 : decode cX2_wordOf 114 = .ok (.bipush 8, 2) := dk_16 8 (dk_at dksX2_wordOf_4 19 rfl rfl)
theorem dX2_wordOf_116 : decode cX2_wordOf 116 = .ok (.iconst 0, 1) := dk_3 (dk_at dksX2_wordOf_4 21 rfl rfl)
theorem dX2_wordOf_117 : decode cX2_wordOf 117 = .ok (.bipush 109, 2) := dk_16 109 (dk_at dksX2_wordOf_4 22 rfl rfl)
theorem dX2_wordOf_119 : decode cX2_wordOf 119 = .ok (.bipush 111, 2) := dk_16 111 (dk_at dksX2_wordOf_5 0 rfl rfl)
theorem dX2_wordOf_121 : decode cX2_wordOf 121 = .ok (.bipush 117, 2) := dk_16 117 (dk_at dksX2_wordOf_5 2 rfl rfl)
theorem dX2_wordOf_123 : decode cX2_wordOf 123 = .ok (.invokevirtual 115, 3) := dk_182 0 115 (dk_at dksX2_wordOf_5 4 rfl rfl)
theorem dX2_wordOf_126 : decode cX2_wordOf 126 = .ok (.ifCond .eq 38, 3) := dk_153 0 38 (dk_at dksX2_wordOf_5 7 rfl rfl)
theorem dX2_wordOf_129 : decode cX2_wordOf 129 = .ok (.aload_n 0, 1) := dk_42 (dk_at dksX2_wordOf_5 10 rfl rfl)
theorem dX2_wordOf_130 : decode cX2_wordOf 130 = .ok (.bipush 8, 2) := dk_16 8 (dk_at dksX2_wordOf_5 11 rfl rfl)
theorem dX2_wordOf_132 : decode cX2_wordOf 132 = .ok (.iconst 3, 1) := dk_6 (dk_at dksX2_wordOf_5 13 rfl rfl)
theorem dX2_wordOf_133 : decode cX2_wordOf 133 = .ok (.bipush 114, 2) := dk_16 114 (dk_at dksX2_wordOf_5 14 rfl rfl)
theorem dX2_wordOf_135 : decode cX2_wordOf 135 = .ok (.bipush 110, 2) := dk_16 110 (dk_at dksX2_wordOf_5 16 rfl rfl)
theorem dX2_wordOf_137 : decode cX2_wordOf 137 = .ok (.bipush 105, 2) := dk_16 105 (dk_at dksX2_wordOf_5 18 rfl rfl)
theorem dX2_wordOf_139 : decode cX2_wordOf 139 = .ok (.invokevirtual 115, 3) := dk_182 0 115 (dk_at dksX2_wordOf_5 20 rfl rfl)
theorem dX2_wordOf_142 : decode cX2_wordOf 142 = .ok (.ifCond .eq 22, 3) := dk_153 0 22 (dk_at dksX2_wordOf_6 0 rfl rfl)
theorem dX2_wordOf_145 : decode cX2_wordOf 145 = .ok (.aload_n 0, 1) := dk_42 (dk_at dksX2_wordOf_6 3 rfl rfl)
theorem dX2_wordOf_146 : decode cX2_wordOf 146 = .ok (.bipush 8, 2) := dk_16 8 (dk_at dksX2_wordOf_6 4 rfl rfl)
theorem dX2_wordOf_148 : decode cX2_wordOf 148 = .ok (.iconst 5, 1) := dk_8 (dk_at dksX2_wordOf_6 6 rfl rfl)
theorem dX2_wordOf_149 : decode cX2_wordOf 149 = .ok (.bipush 105, 2) := dk_16 105 (dk_at dksX2_wordOf_6 7 rfl rfl)
theorem dX2_wordOf_151 : decode cX2_wordOf 151 = .ok (.bipush 110, 2) := dk_16 110 (dk_at dksX2_wordOf_6 9 rfl rfl)
theorem dX2_wordOf_153 : decode cX2_wordOf 153 = .ok (.bipush 103, 2) := dk_16 103 (dk_at dksX2_wordOf_6 11 rfl rfl)
theorem dX2_wordOf_155 : decode cX2_wordOf 155 = .ok (.invokevirtual 115, 3) := dk_182 0 115 (dk_at dksX2_wordOf_6 13 rfl rfl)
theorem dX2_wordOf_158 : decode cX2_wordOf 158 = .ok (.ifCond .eq 6, 3) := dk_153 0 6 (dk_at dksX2_wordOf_6 16 rfl rfl)
theorem dX2_wordOf_161 : decode cX2_wordOf 161 = .ok (.bipush 6, 2) := dk_16 6 (dk_at dksX2_wordOf_6 19 rfl rfl)
theorem dX2_wordOf_163 : decode cX2_wordOf 163 = .ok (.ireturn, 1) := dk_172 (dk_at dksX2_wordOf_6 21 rfl rfl)
theorem dX2_wordOf_164 : decode cX2_wordOf 164 = .ok (.aload_n 0, 1) := dk_42 (dk_at dksX2_wordOf_6 22 rfl rfl)
theorem dX2_wordOf_165 : decode cX2_wordOf 165 = .ok (.bipush 6, 2) := dk_16 6 (dk_at dksX2_wordOf_7 0 rfl rfl)
theorem dX2_wordOf_167 : decode cX2_wordOf 167 = .ok (.iconst 0, 1) := dk_3 (dk_at dksX2_wordOf_7 2 rfl rfl)
theorem dX2_wordOf_168 : decode cX2_wordOf 168 = .ok (.bipush 107, 2) := dk_16 107 (dk_at dksX2_wordOf_7 3 rfl rfl)
theorem dX2_wordOf_170 : decode cX2_wordOf 170 = .ok (.bipush 110, 2) := dk_16 110 (dk_at dksX2_wordOf_7 5 rfl rfl)
theorem dX2_wordOf_172 : decode cX2_wordOf 172 = .ok (.bipush 105, 2) := dk_16 105 (dk_at dksX2_wordOf_7 7 rfl rfl)
theorem dX2_wordOf_174 : decode cX2_wordOf 174 = .ok (.invokevirtual 115, 3) := dk_182 0 115 (dk_at dksX2_wordOf_7 9 rfl rfl)
theorem dX2_wordOf_177 : decode cX2_wordOf 177 = .ok (.ifCond .eq 22, 3) := dk_153 0 22 (dk_at dksX2_wordOf_7 12 rfl rfl)
theorem dX2_wordOf_180 : decode cX2_wordOf 180 = .ok (.aload_n 0, 1) := dk_42 (dk_at dksX2_wordOf_7 15 rfl rfl)
theorem dX2_wordOf_181 : decode cX2_wordOf 181 = .ok (.bipush 6, 2) := dk_16 6 (dk_at dksX2_wordOf_7 16 rfl rfl)
theorem dX2_wordOf_183 : decode cX2_wordOf 183 = .ok (.iconst 3, 1) := dk_6 (dk_at dksX2_wordOf_7 18 rfl rfl)
theorem dX2_wordOf_184 : decode cX2_wordOf 184 = .ok (.bipush 103, 2) := dk_16 103 (dk_at dksX2_wordOf_7 19 rfl rfl)
theorem dX2_wordOf_186 : decode cX2_wordOf 186 = .ok (.bipush 104, 2) := dk_16 104 (dk_at dksX2_wordOf_7 21 rfl rfl)
theorem dX2_wordOf_188 : decode cX2_wordOf 188 = .ok (.bipush 116, 2) := dk_16 116 (dk_at dksX2_wordOf_8 0 rfl rfl)
theorem dX2_wordOf_190 : decode cX2_wordOf 190 = .ok (.invokevirtual 115, 3) := dk_182 0 115 (dk_at dksX2_wordOf_8 2 rfl rfl)
theorem dX2_wordOf_193 : decode cX2_wordOf 193 = .ok (.ifCond .eq 6, 3) := dk_153 0 6 (dk_at dksX2_wordOf_8 5 rfl rfl)
theorem dX2_wordOf_196 : decode cX2_wordOf 196 = .ok (.bipush 7, 2) := dk_16 7 (dk_at dksX2_wordOf_8 8 rfl rfl)
theorem dX2_wordOf_198 : decode cX2_wordOf 198 = .ok (.ireturn, 1) := dk_172 (dk_at dksX2_wordOf_8 10 rfl rfl)
theorem dX2_wordOf_199 : decode cX2_wordOf 199 = .ok (.aload_n 0, 1) := dk_42 (dk_at dksX2_wordOf_8 11 rfl rfl)
theorem dX2_wordOf_200 : decode cX2_wordOf 200 = .ok (.bipush 6, 2) := dk_16 6 (dk_at dksX2_wordOf_8 12 rfl rfl)
theorem dX2_wordOf_202 : decode cX2_wordOf 202 = .ok (.iconst 0, 1) := dk_3 (dk_at dksX2_wordOf_8 14 rfl rfl)
theorem dX2_wordOf_203 : decode cX2_wordOf 203 = .ok (.bipush 115, 2) := dk_16 115 (dk_at dksX2_wordOf_8 15 rfl rfl)
theorem dX2_wordOf_205 : decode cX2_wordOf 205 = .ok (.bipush 113, 2) := dk_16 113 (dk_at dksX2_wordOf_8 17 rfl rfl)
theorem dX2_wordOf_207 : decode cX2_wordOf 207 = .ok (.bipush 117, 2) := dk_16 117 (dk_at dksX2_wordOf_8 19 rfl rfl)
theorem dX2_wordOf_209 : decode cX2_wordOf 209 = .ok (.invokevirtual 115, 3) := dk_182 0 115 (dk_at dksX2_wordOf_8 21 rfl rfl)
theorem dX2_wordOf_212 : decode cX2_wordOf 212 = .ok (.ifCond .eq 22, 3) := dk_153 0 22 (dk_at dksX2_wordOf_9 0 rfl rfl)
theorem dX2_wordOf_215 : decode cX2_wordOf 215 = .ok (.aload_n 0, 1) := dk_42 (dk_at dksX2_wordOf_9 3 rfl rfl)
theorem dX2_wordOf_216 : decode cX2_wordOf 216 = .ok (.bipush 6, 2) := dk_16 6 (dk_at dksX2_wordOf_9 4 rfl rfl)
theorem dX2_wordOf_218 : decode cX2_wordOf 218 = .ok (.iconst 3, 1) := dk_6 (dk_at dksX2_wordOf_9 6 rfl rfl)
theorem dX2_wordOf_219 : decode cX2_wordOf 219 = .ok (.bipush 105, 2) := dk_16 105 (dk_at dksX2_wordOf_9 7 rfl rfl)
theorem dX2_wordOf_221 : decode cX2_wordOf 221 = .ok (.bipush 114, 2) := dk_16 114 (dk_at dksX2_wordOf_9 9 rfl rfl)
theorem dX2_wordOf_223 : decode cX2_wordOf 223 = .ok (.bipush 101, 2) := dk_16 101 (dk_at dksX2_wordOf_9 11 rfl rfl)
theorem dX2_wordOf_225 : decode cX2_wordOf 225 = .ok (.invokevirtual 115, 3) := dk_182 0 115 (dk_at dksX2_wordOf_9 13 rfl rfl)
theorem dX2_wordOf_228 : decode cX2_wordOf 228 = .ok (.ifCond .eq 6, 3) := dk_153 0 6 (dk_at dksX2_wordOf_9 16 rfl rfl)
theorem dX2_wordOf_231 : decode cX2_wordOf 231 = .ok (.bipush 8, 2) := dk_16 8 (dk_at dksX2_wordOf_9 19 rfl rfl)
theorem dX2_wordOf_233 : decode cX2_wordOf 233 = .ok (.ireturn, 1) := dk_172 (dk_at dksX2_wordOf_9 21 rfl rfl)
theorem dX2_wordOf_234 : decode cX2_wordOf 234 = .ok (.aload_n 0, 1) := dk_42 (dk_at dksX2_wordOf_9 22 rfl rfl)
theorem dX2_wordOf_235 : decode cX2_wordOf 235 = .ok (.iconst 4, 1) := dk_7 (dk_at dksX2_wordOf_9 23 rfl rfl)
theorem dX2_wordOf_236 : decode cX2_wordOf 236 = .ok (.iconst 0, 1) := dk_3 (dk_at dksX2_wordOf_10 0 rfl rfl)
theorem dX2_wordOf_237 : decode cX2_wordOf 237 = .ok (.bipush 107, 2) := dk_16 107 (dk_at dksX2_wordOf_10 1 rfl rfl)
theorem dX2_wordOf_239 : decode cX2_wordOf 239 = .ok (.bipush 105, 2) := dk_16 105 (dk_at dksX2_wordOf_10 3 rfl rfl)
theorem dX2_wordOf_241 : decode cX2_wordOf 241 = .ok (.bipush 110, 2) := dk_16 110 (dk_at dksX2_wordOf_10 5 rfl rfl)
theorem dX2_wordOf_243 : decode cX2_wordOf 243 = .ok (.invokevirtual 115, 3) := dk_182 0 115 (dk_at dksX2_wordOf_10 7 rfl rfl)
theorem dX2_wordOf_246 : decode cX2_wordOf 246 = .ok (.ifCond .eq 21, 3) := dk_153 0 21 (dk_at dksX2_wordOf_10 10 rfl rfl)
theorem dX2_wordOf_249 : decode cX2_wordOf 249 = .ok (.aload_n 0, 1) := dk_42 (dk_at dksX2_wordOf_10 13 rfl rfl)
theorem dX2_wordOf_250 : decode cX2_wordOf 250 = .ok (.iconst 4, 1) := dk_7 (dk_at dksX2_wordOf_10 14 rfl rfl)
theorem dX2_wordOf_251 : decode cX2_wordOf 251 = .ok (.iconst 1, 1) := dk_4 (dk_at dksX2_wordOf_10 15 rfl rfl)
theorem dX2_wordOf_252 : decode cX2_wordOf 252 = .ok (.bipush 105, 2) := dk_16 105 (dk_at dksX2_wordOf_10 16 rfl rfl)
theorem dX2_wordOf_254 : decode cX2_wordOf 254 = .ok (.bipush 110, 2) := dk_16 110 (dk_at dksX2_wordOf_10 18 rfl rfl)
theorem dX2_wordOf_256 : decode cX2_wordOf 256 = .ok (.bipush 103, 2) := dk_16 103 (dk_at dksX2_wordOf_10 20 rfl rfl)
theorem dX2_wordOf_258 : decode cX2_wordOf 258 = .ok (.invokevirtual 115, 3) := dk_182 0 115 (dk_at dksX2_wordOf_11 0 rfl rfl)
theorem dX2_wordOf_261 : decode cX2_wordOf 261 = .ok (.ifCond .eq 6, 3) := dk_153 0 6 (dk_at dksX2_wordOf_11 3 rfl rfl)
theorem dX2_wordOf_264 : decode cX2_wordOf 264 = .ok (.bipush 9, 2) := dk_16 9 (dk_at dksX2_wordOf_11 6 rfl rfl)
theorem dX2_wordOf_266 : decode cX2_wordOf 266 = .ok (.ireturn, 1) := dk_172 (dk_at dksX2_wordOf_11 8 rfl rfl)
theorem dX2_wordOf_267 : decode cX2_wordOf 267 = .ok (.aload_n 0, 1) := dk_42 (dk_at dksX2_wordOf_11 9 rfl rfl)
theorem dX2_wordOf_268 : decode cX2_wordOf 268 = .ok (.invokevirtual 119, 3) := dk_182 0 119 (dk_at dksX2_wordOf_11 10 rfl rfl)
theorem dX2_wordOf_271 : decode cX2_wordOf 271 = .ok (.ireturn, 1) := dk_172 (dk_at dksX2_wordOf_11 13 rfl rfl)
abbrev cX2_spells : ByteArray := prog_17_method_16_code
def yX2_spells : MethodName := ⟨RX2, "spells", "(IIIII)Z"⟩
def dkwX2_spells_3 : List UInt8 := [167, 0, 4, 3, 172]
abbrev dktX2_spells_3 : List UInt8 := dkwX2_spells_3 ++ []
def dkwX2_spells_2 : List UInt8 := [21, 4, 160, 0, 24, 42, 42, 180, 0, 100, 28, 96, 5, 96, 182, 0, 96, 21, 5, 160, 0, 7, 4]
abbrev dktX2_spells_2 : List UInt8 := dkwX2_spells_2 ++ dktX2_spells_3
def dkwX2_spells_1 : List UInt8 := [180, 0, 100, 28, 96, 182, 0, 96, 29, 160, 0, 41, 42, 42, 180, 0, 100, 28, 96, 4, 96, 182, 0, 96]
abbrev dktX2_spells_1 : List UInt8 := dkwX2_spells_1 ++ dktX2_spells_2
def dkwX2_spells_0 : List UInt8 := [42, 180, 0, 106, 4, 160, 0, 68, 42, 180, 0, 93, 42, 180, 0, 100, 100, 27, 160, 0, 55, 42, 42]
abbrev dktX2_spells_0 : List UInt8 := dkwX2_spells_0 ++ dktX2_spells_1
theorem dksX2_spells_0 : cX2_spells.data.toList.drop 0 = dktX2_spells_0 := by decide +kernel
theorem dksX2_spells_1 : cX2_spells.data.toList.drop 23 = dktX2_spells_1 := dk_seg dksX2_spells_0 23 rfl rfl
theorem dksX2_spells_2 : cX2_spells.data.toList.drop 47 = dktX2_spells_2 := dk_seg dksX2_spells_1 24 rfl rfl
theorem dksX2_spells_3 : cX2_spells.data.toList.drop 70 = dktX2_spells_3 := dk_seg dksX2_spells_2 23 rfl rfl
theorem dX2_spells_0 : decode cX2_spells 0 = .ok (.aload_n 0, 1) := dk_42 (dk_at dksX2_spells_0 0 rfl rfl)
theorem dX2_spells_1 : decode cX2_spells 1 = .ok (.getfield 106, 3) := dk_180 0 106 (dk_at dksX2_spells_0 1 rfl rfl)
theorem dX2_spells_4 : decode cX2_spells 4 = .ok (.iconst 1, 1) := dk_4 (dk_at dksX2_spells_0 4 rfl rfl)
theorem dX2_spells_5 : decode cX2_spells 5 = .ok (.if_icmp .ne 68, 3) := dk_160 0 68 (dk_at dksX2_spells_0 5 rfl rfl)
theorem dX2_spells_8 : decode cX2_spells 8 = .ok (.aload_n 0, 1) := dk_42 (dk_at dksX2_spells_0 8 rfl rfl)
theorem dX2_spells_9 : decode cX2_spells 9 = .ok (.getfield 93, 3) := dk_180 0 93 (dk_at dksX2_spells_0 9 rfl rfl)
theorem dX2_spells_12 : decode cX2_spells 12 = .ok (.aload_n 0, 1) := dk_42 (dk_at dksX2_spells_0 12 rfl rfl)
theorem dX2_spells_13 : decode cX2_spells 13 = .ok (.getfield 100, 3) := dk_180 0 100 (dk_at dksX2_spells_0 13 rfl rfl)
theorem dX2_spells_16 : decode cX2_spells 16 = .ok (.isub, 1) := dk_100 (dk_at dksX2_spells_0 16 rfl rfl)
theorem dX2_spells_17 : decode cX2_spells 17 = .ok (.iload_n 1, 1) := dk_27 (dk_at dksX2_spells_0 17 rfl rfl)
theorem dX2_spells_18 : decode cX2_spells 18 = .ok (.if_icmp .ne 55, 3) := dk_160 0 55 (dk_at dksX2_spells_0 18 rfl rfl)
theorem dX2_spells_21 : decode cX2_spells 21 = .ok (.aload_n 0, 1) := dk_42 (dk_at dksX2_spells_0 21 rfl rfl)
theorem dX2_spells_22 : decode cX2_spells 22 = .ok (.aload_n 0, 1) := dk_42 (dk_at dksX2_spells_0 22 rfl rfl)
theorem dX2_spells_23 : decode cX2_spells 23 = .ok (.getfield 100, 3) := dk_180 0 100 (dk_at dksX2_spells_1 0 rfl rfl)
theorem dX2_spells_26 : decode cX2_spells 26 = .ok (.iload_n 2, 1) := dk_28 (dk_at dksX2_spells_1 3 rfl rfl)
theorem dX2_spells_27 : decode cX2_spells 27 = .ok (.iadd, 1) := dk_96 (dk_at dksX2_spells_1 4 rfl rfl)
theorem dX2_spells_28 : decode cX2_spells 28 = .ok (.invokevirtual 96, 3) := dk_182 0 96 (dk_at dksX2_spells_1 5 rfl rfl)
theorem dX2_spells_31 : decode cX2_spells 31 = .ok (.iload_n 3, 1) := dk_29 (dk_at dksX2_spells_1 8 rfl rfl)
theorem dX2_spells_32 : decode cX2_spells 32 = .ok (.if_icmp .ne 41, 3) := dk_160 0 41 (dk_at dksX2_spells_1 9 rfl rfl)
theorem dX2_spells_35 : decode cX2_spells 35 = .ok (.aload_n 0, 1) := dk_42 (dk_at dksX2_spells_1 12 rfl rfl)
theorem dX2_spells_36 : decode cX2_spells 36 = .ok (.aload_n 0, 1) := dk_42 (dk_at dksX2_spells_1 13 rfl rfl)
theorem dX2_spells_37 : decode cX2_spells 37 = .ok (.getfield 100, 3) := dk_180 0 100 (dk_at dksX2_spells_1 14 rfl rfl)
theorem dX2_spells_40 : decode cX2_spells 40 = .ok (.iload_n 2, 1) := dk_28 (dk_at dksX2_spells_1 17 rfl rfl)
theorem dX2_spells_41 : decode cX2_spells 41 = .ok (.iadd, 1) := dk_96 (dk_at dksX2_spells_1 18 rfl rfl)
theorem dX2_spells_42 : decode cX2_spells 42 = .ok (.iconst 1, 1) := dk_4 (dk_at dksX2_spells_1 19 rfl rfl)
theorem dX2_spells_43 : decode cX2_spells 43 = .ok (.iadd, 1) := dk_96 (dk_at dksX2_spells_1 20 rfl rfl)
theorem dX2_spells_44 : decode cX2_spells 44 = .ok (.invokevirtual 96, 3) := dk_182 0 96 (dk_at dksX2_spells_1 21 rfl rfl)
theorem dX2_spells_47 : decode cX2_spells 47 = .ok (.iload 4, 2) := dk_21 4 (dk_at dksX2_spells_2 0 rfl rfl)
theorem dX2_spells_49 : decode cX2_spells 49 = .ok (.if_icmp .ne 24, 3) := dk_160 0 24 (dk_at dksX2_spells_2 2 rfl rfl)
theorem dX2_spells_52 : decode cX2_spells 52 = .ok (.aload_n 0, 1) := dk_42 (dk_at dksX2_spells_2 5 rfl rfl)
theorem dX2_spells_53 : decode cX2_spells 53 = .ok (.aload_n 0, 1) := dk_42 (dk_at dksX2_spells_2 6 rfl rfl)
theorem dX2_spells_54 : decode cX2_spells 54 = .ok (.getfield 100, 3) := dk_180 0 100 (dk_at dksX2_spells_2 7 rfl rfl)
theorem dX2_spells_57 : decode cX2_spells 57 = .ok (.iload_n 2, 1) := dk_28 (dk_at dksX2_spells_2 10 rfl rfl)
theorem dX2_spells_58 : decode cX2_spells 58 = .ok (.iadd, 1) := dk_96 (dk_at dksX2_spells_2 11 rfl rfl)
theorem dX2_spells_59 : decode cX2_spells 59 = .ok (.iconst 2, 1) := dk_5 (dk_at dksX2_spells_2 12 rfl rfl)
theorem dX2_spells_60 : decode cX2_spells 60 = .ok (.iadd, 1) := dk_96 (dk_at dksX2_spells_2 13 rfl rfl)
theorem dX2_spells_61 : decode cX2_spells 61 = .ok (.invokevirtual 96, 3) := dk_182 0 96 (dk_at dksX2_spells_2 14 rfl rfl)
theorem dX2_spells_64 : decode cX2_spells 64 = .ok (.iload 5, 2) := dk_21 5 (dk_at dksX2_spells_2 17 rfl rfl)
theorem dX2_spells_66 : decode cX2_spells 66 = .ok (.if_icmp .ne 7, 3) := dk_160 0 7 (dk_at dksX2_spells_2 19 rfl rfl)
theorem dX2_spells_69 : decode cX2_spells 69 = .ok (.iconst 1, 1) := dk_4 (dk_at dksX2_spells_2 22 rfl rfl)
theorem dX2_spells_70 : decode cX2_spells 70 = .ok (.goto 4, 3) := dk_167 0 4 (dk_at dksX2_spells_3 0 rfl rfl)
theorem dX2_spells_73 : decode cX2_spells 73 = .ok (.iconst 0, 1) := dk_3 (dk_at dksX2_spells_3 3 rfl rfl)
theorem dX2_spells_74 : decode cX2_spells 74 = .ok (.ireturn, 1) := dk_172 (dk_at dksX2_spells_3 4 rfl rfl)
abbrev cX2_otherWord : ByteArray := prog_17_method_18_code
def yX2_otherWord : MethodName := ⟨RX2, "otherWord", "()I"⟩
def dkwX2_otherWord_6 : List UInt8 := [182, 0, 115, 153, 0, 8, 16, 13, 167, 0, 4, 3, 172]
abbrev dktX2_otherWord_6 : List UInt8 := dkwX2_otherWord_6 ++ []
def dkwX2_otherWord_5 : List UInt8 := [42, 8, 3, 16, 112, 16, 101, 16, 97, 182, 0, 115, 153, 0, 23, 42, 8, 5, 16, 97, 16, 99, 16, 101]
abbrev dktX2_otherWord_5 : List UInt8 := dkwX2_otherWord_5 ++ dktX2_otherWord_6
def dkwX2_otherWord_4 : List UInt8 := [182, 0, 115, 153, 0, 21, 42, 8, 5, 16, 97, 16, 110, 16, 116, 182, 0, 115, 153, 0, 6, 16, 12, 172]
abbrev dktX2_otherWord_4 : List UInt8 := dkwX2_otherWord_4 ++ dktX2_otherWord_5
def dkwX2_otherWord_3 : List UInt8 := [16, 105, 16, 108, 182, 0, 115, 153, 0, 6, 16, 11, 172, 42, 8, 3, 16, 109, 16, 101, 16, 97]
abbrev dktX2_otherWord_3 : List UInt8 := dkwX2_otherWord_3 ++ dktX2_otherWord_4
def dkwX2_otherWord_2 : List UInt8 := [16, 10, 172, 42, 8, 3, 16, 112, 16, 101, 16, 114, 182, 0, 115, 153, 0, 21, 42, 8, 5, 16, 114]
abbrev dktX2_otherWord_2 : List UInt8 := dkwX2_otherWord_2 ++ dktX2_otherWord_3
def dkwX2_otherWord_1 : List UInt8 := [16, 101, 182, 0, 115, 153, 0, 22, 42, 16, 7, 7, 16, 105, 16, 101, 16, 115, 182, 0, 115, 153, 0, 6]
abbrev dktX2_otherWord_1 : List UInt8 := dkwX2_otherWord_1 ++ dktX2_otherWord_2
def dkwX2_otherWord_0 : List UInt8 := [42, 16, 7, 3, 16, 101, 16, 110, 16, 101, 182, 0, 115, 153, 0, 38, 42, 16, 7, 6, 16, 109, 16, 105]
abbrev dktX2_otherWord_0 : List UInt8 := dkwX2_otherWord_0 ++ dktX2_otherWord_1
theorem dksX2_otherWord_0 : cX2_otherWord.data.toList.drop 0 = dktX2_otherWord_0 := by decide +kernel
theorem dksX2_otherWord_1 : cX2_otherWord.data.toList.drop 24 = dktX2_otherWord_1 := dk_seg dksX2_otherWord_0 24 rfl rfl
theorem dksX2_otherWord_2 : cX2_otherWord.data.toList.drop 48 = dktX2_otherWord_2 := dk_seg dksX2_otherWord_1 24 rfl rfl
theorem dksX2_otherWord_3 : cX2_otherWord.data.toList.drop 71 = dktX2_otherWord_3 := dk_seg dksX2_otherWord_2 23 rfl rfl
theorem dksX2_otherWord_4 : cX2_otherWord.data.toList.drop 93 = dktX2_otherWord_4 := dk_seg dksX2_otherWord_3 22 rfl rfl
theorem dksX2_otherWord_5 : cX2_otherWord.data.toList.drop 117 = dktX2_otherWord_5 := dk_seg dksX2_otherWord_4 24 rfl rfl
theorem dksX2_otherWord_6 : cX2_otherWord.data.toList.drop 141 = dktX2_otherWord_6 := dk_seg dksX2_otherWord_5 24 rfl rfl
theorem dX2_otherWord_0 : decode cX2_otherWord 0 = .ok (.aload_n 0, 1) := dk_42 (dk_at dksX2_otherWord_0 0 rfl rfl)
theorem dX2_otherWord_1 : decode cX2_otherWord 1 = .ok (.bipush 7, 2) := dk_16 7 (dk_at dksX2_otherWord_0 1 rfl rfl)
theorem dX2_otherWord_3 : decode cX2_otherWord 3 = .ok (.iconst 0, 1) := dk_3 (dk_at dksX2_otherWord_0 3 rfl rfl)
theorem dX2_otherWord_4 : decode cX2_otherWord 4 = .ok (.bipush 101, 2) := dk_16 101 (dk_at dksX2_otherWord_0 4 rfl rfl)
theorem dX2_otherWord_6 : decode cX2_otherWord 6 = .ok (.bipush 110, 2) := dk_16 110 (dk_at dksX2_otherWord_0 6 rfl rfl)
theorem dX2_otherWord_8 : decode cX2_otherWord 8 = .ok (.bipush 101, 2) := dk_16 101 (dk_at dksX2_otherWord_0 8 rfl rfl)
theorem dX2_otherWord_10 : decode cX2_otherWord 10 = .ok (.invokevirtual 115, 3) := dk_182 0 115 (dk_at dksX2_otherWord_0 10 rfl rfl)
theorem dX2_otherWord_13 : decode cX2_otherWord 13 = .ok (.ifCond .eq 38, 3) := dk_153 0 38 (dk_at dksX2_otherWord_0 13 rfl rfl)
theorem dX2_otherWord_16 : decode cX2_otherWord 16 = .ok (.aload_n 0, 1) := dk_42 (dk_at dksX2_otherWord_0 16 rfl rfl)
theorem dX2_otherWord_17 : decode cX2_otherWord 17 = .ok (.bipush 7, 2) := dk_16 7 (dk_at dksX2_otherWord_0 17 rfl rfl)
theorem dX2_otherWord_19 : decode cX2_otherWord 19 = .ok (.iconst 3, 1) := dk_6 (dk_at dksX2_otherWord_0 19 rfl rfl)
theorem dX2_otherWord_20 : decode cX2_otherWord 20 = .ok (.bipush 109, 2) := dk_16 109 (dk_at dksX2_otherWord_0 20 rfl rfl)
theorem dX2_otherWord_22 : decode cX2_otherWord 22 = .ok (.bipush 105, 2) := dk_16 105 (dk_at dksX2_otherWord_0 22 rfl rfl)
theorem dX2_otherWord_24 : decode cX2_otherWord 24 = .ok (.bipush 101, 2) := dk_16 101 (dk_at dksX2_otherWord_1 0 rfl rfl)
theorem dX2_otherWord_26 : decode cX2_otherWord 26 = .ok (.invokevirtual 115, 3) := dk_182 0 115 (dk_at dksX2_otherWord_1 2 rfl rfl)
theorem dX2_otherWord_29 : decode cX2_otherWord 29 = .ok (.ifCond .eq 22, 3) := dk_153 0 22 (dk_at dksX2_otherWord_1 5 rfl rfl)
theorem dX2_otherWord_32 : decode cX2_otherWord 32 = .ok (.aload_n 0, 1) := dk_42 (dk_at dksX2_otherWord_1 8 rfl rfl)
theorem dX2_otherWord_33 : decode cX2_otherWord 33 = .ok (.bipush 7, 2) := dk_16 7 (dk_at dksX2_otherWord_1 9 rfl rfl)
theorem dX2_otherWord_35 : decode cX2_otherWord 35 = .ok (.iconst 4, 1) := dk_7 (dk_at dksX2_otherWord_1 11 rfl rfl)
theorem dX2_otherWord_36 : decode cX2_otherWord 36 = .ok (.bipush 105, 2) := dk_16 105 (dk_at dksX2_otherWord_1 12 rfl rfl)
theorem dX2_otherWord_38 : decode cX2_otherWord 38 = .ok (.bipush 101, 2) := dk_16 101 (dk_at dksX2_otherWord_1 14 rfl rfl)
theorem dX2_otherWord_40 : decode cX2_otherWord 40 = .ok (.bipush 115, 2) := dk_16 115 (dk_at dksX2_otherWord_1 16 rfl rfl)
theorem dX2_otherWord_42 : decode cX2_otherWord 42 = .ok (.invokevirtual 115, 3) := dk_182 0 115 (dk_at dksX2_otherWord_1 18 rfl rfl)
theorem dX2_otherWord_45 : decode cX2_otherWord 45 = .ok (.ifCond .eq 6, 3) := dk_153 0 6 (dk_at dksX2_otherWord_1 21 rfl rfl)
theorem dX2_otherWord_48 : decode cX2_otherWord 48 = .ok (.bipush 10, 2) := dk_16 10 (dk_at dksX2_otherWord_2 0 rfl rfl)
theorem dX2_otherWord_50 : decode cX2_otherWord 50 = .ok (.ireturn, 1) := dk_172 (dk_at dksX2_otherWord_2 2 rfl rfl)
theorem dX2_otherWord_51 : decode cX2_otherWord 51 = .ok (.aload_n 0, 1) := dk_42 (dk_at dksX2_otherWord_2 3 rfl rfl)
theorem dX2_otherWord_52 : decode cX2_otherWord 52 = .ok (.iconst 5, 1) := dk_8 (dk_at dksX2_otherWord_2 4 rfl rfl)
theorem dX2_otherWord_53 : decode cX2_otherWord 53 = .ok (.iconst 0, 1) := dk_3 (dk_at dksX2_otherWord_2 5 rfl rfl)
theorem dX2_otherWord_54 : decode cX2_otherWord 54 = .ok (.bipush 112, 2) := dk_16 112 (dk_at dksX2_otherWord_2 6 rfl rfl)
theorem dX2_otherWord_56 : decode cX2_otherWord 56 = .ok (.bipush 101, 2) := dk_16 101 (dk_at dksX2_otherWord_2 8 rfl rfl)
theorem dX2_otherWord_58 : decode cX2_otherWord 58 = .ok (.bipush 114, 2) := dk_16 114 (dk_at dksX2_otherWord_2 10 rfl rfl)
theorem dX2_otherWord_60 : decode cX2_otherWord 60 = .ok (.invokevirtual 115, 3) := dk_182 0 115 (dk_at dksX2_otherWord_2 12 rfl rfl)
theorem dX2_otherWord_63 : decode cX2_otherWord 63 = .ok (.ifCond .eq 21, 3) := dk_153 0 21 (dk_at dksX2_otherWord_2 15 rfl rfl)
theorem dX2_otherWord_66 : decode cX2_otherWord 66 = .ok (.aload_n 0, 1) := dk_42 (dk_at dksX2_otherWord_2 18 rfl rfl)
theorem dX2_otherWord_67 : decode cX2_otherWord 67 = .ok (.iconst 5, 1) := dk_8 (dk_at dksX2_otherWord_2 19 rfl rfl)
theorem dX2_otherWord_68 : decode cX2_otherWord 68 = .ok (.iconst 2, 1) := dk_5 (dk_at dksX2_otherWord_2 20 rfl rfl)
theorem dX2_otherWord_69 : decode cX2_otherWord 69 = .ok (.bipush 114, 2) := dk_16 114 (dk_at dksX2_otherWord_2 21 rfl rfl)
theorem dX2_otherWord_71 : decode cX2_otherWord 71 = .ok (.bipush 105, 2) := dk_16 105 (dk_at dksX2_otherWord_3 0 rfl rfl)
theorem dX2_otherWord_73 : decode cX2_otherWord 73 = .ok (.bipush 108, 2) := dk_16 108 (dk_at dksX2_otherWord_3 2 rfl rfl)
theorem dX2_otherWord_75 : decode cX2_otherWord 75 = .ok (.invokevirtual 115, 3) := dk_182 0 115 (dk_at dksX2_otherWord_3 4 rfl rfl)
theorem dX2_otherWord_78 : decode cX2_otherWord 78 = .ok (.ifCond .eq 6, 3) := dk_153 0 6 (dk_at dksX2_otherWord_3 7 rfl rfl)
theorem dX2_otherWord_81 : decode cX2_otherWord 81 = .ok (.bipush 11, 2) := dk_16 11 (dk_at dksX2_otherWord_3 10 rfl rfl)
theorem dX2_otherWord_83 : decode cX2_otherWord 83 = .ok (.ireturn, 1) := dk_172 (dk_at dksX2_otherWord_3 12 rfl rfl)
theorem dX2_otherWord_84 : decode cX2_otherWord 84 = .ok (.aload_n 0, 1) := dk_42 (dk_at dksX2_otherWord_3 13 rfl rfl)
theorem dX2_otherWord_85 : decode cX2_otherWord 85 = .ok (.iconst 5, 1) := dk_8 (dk_at dksX2_otherWord_3 14 rfl rfl)
theorem dX2_otherWord_86 : decode cX2_otherWord 86 = .ok (.iconst 0, 1) := dk_3 (dk_at dksX2_otherWord_3 15 rfl rfl)
theorem dX2_otherWord_87 : decode cX2_otherWord 87 = .ok (.bipush 109, 2) := dk_16 109 (dk_at dksX2_otherWord_3 16 rfl rfl)
theorem dX2_otherWord_89 : decode cX2_otherWord 89 = .ok (.bipush 101, 2) := dk_16 101 (dk_at dksX2_otherWord_3 18 rfl rfl)
theorem dX2_otherWord_91 : decode cX2_otherWord 91 = .ok (.bipush 97, 2) := dk_16 97 (dk_at dksX2_otherWord_3 20 rfl rfl)
theorem dX2_otherWord_93 : decode cX2_otherWord 93 = .ok (.invokevirtual 115, 3) := dk_182 0 115 (dk_at dksX2_otherWord_4 0 rfl rfl)
theorem dX2_otherWord_96 : decode cX2_otherWord 96 = .ok (.ifCond .eq 21, 3) := dk_153 0 21 (dk_at dksX2_otherWord_4 3 rfl rfl)
theorem dX2_otherWord_99 : decode cX2_otherWord 99 = .ok (.aload_n 0, 1) := dk_42 (dk_at dksX2_otherWord_4 6 rfl rfl)
theorem dX2_otherWord_100 : decode cX2_otherWord 100 = .ok (.iconst 5, 1) := dk_8 (dk_at dksX2_otherWord_4 7 rfl rfl)
theorem dX2_otherWord_101 : decode cX2_otherWord 101 = .ok (.iconst 2, 1) := dk_5 (dk_at dksX2_otherWord_4 8 rfl rfl)
theorem dX2_otherWord_102 : decode cX2_otherWord 102 = .ok (.bipush 97, 2) := dk_16 97 (dk_at dksX2_otherWord_4 9 rfl rfl)
theorem dX2_otherWord_104 : decode cX2_otherWord 104 = .ok (.bipush 110, 2) := dk_16 110 (dk_at dksX2_otherWord_4 11 rfl rfl)
theorem dX2_otherWord_106 : decode cX2_otherWord 106 = .ok (.bipush 116, 2) := dk_16 116 (dk_at dksX2_otherWord_4 13 rfl rfl)
theorem dX2_otherWord_108 : decode cX2_otherWord 108 = .ok (.invokevirtual 115, 3) := dk_182 0 115 (dk_at dksX2_otherWord_4 15 rfl rfl)
theorem dX2_otherWord_111 : decode cX2_otherWord 111 = .ok (.ifCond .eq 6, 3) := dk_153 0 6 (dk_at dksX2_otherWord_4 18 rfl rfl)
theorem dX2_otherWord_114 : decode cX2_otherWord 114 = .ok (.bipush 12, 2) := dk_16 12 (dk_at dksX2_otherWord_4 21 rfl rfl)
theorem dX2_otherWord_116 : decode cX2_otherWord 116 = .ok (.ireturn, 1) := dk_172 (dk_at dksX2_otherWord_4 23 rfl rfl)
theorem dX2_otherWord_117 : decode cX2_otherWord 117 = .ok (.aload_n 0, 1) := dk_42 (dk_at dksX2_otherWord_5 0 rfl rfl)
theorem dX2_otherWord_118 : decode cX2_otherWord 118 = .ok (.iconst 5, 1) := dk_8 (dk_at dksX2_otherWord_5 1 rfl rfl)
theorem dX2_otherWord_119 : decode cX2_otherWord 119 = .ok (.iconst 0, 1) := dk_3 (dk_at dksX2_otherWord_5 2 rfl rfl)
theorem dX2_otherWord_120 : decode cX2_otherWord 120 = .ok (.bipush 112, 2) := dk_16 112 (dk_at dksX2_otherWord_5 3 rfl rfl)
theorem dX2_otherWord_122 : decode cX2_otherWord 122 = .ok (.bipush 101, 2) := dk_16 101 (dk_at dksX2_otherWord_5 5 rfl rfl)
theorem dX2_otherWord_124 : decode cX2_otherWord 124 = .ok (.bipush 97, 2) := dk_16 97 (dk_at dksX2_otherWord_5 7 rfl rfl)
theorem dX2_otherWord_126 : decode cX2_otherWord 126 = .ok (.invokevirtual 115, 3) := dk_182 0 115 (dk_at dksX2_otherWord_5 9 rfl rfl)
theorem dX2_otherWord_129 : decode cX2_otherWord 129 = .ok (.ifCond .eq 23, 3) := dk_153 0 23 (dk_at dksX2_otherWord_5 12 rfl rfl)
theorem dX2_otherWord_132 : decode cX2_otherWord 132 = .ok (.aload_n 0, 1) := dk_42 (dk_at dksX2_otherWord_5 15 rfl rfl)
theorem dX2_otherWord_133 : decode cX2_otherWord 133 = .ok (.iconst 5, 1) := dk_8 (dk_at dksX2_otherWord_5 16 rfl rfl)
theorem dX2_otherWord_134 : decode cX2_otherWord 134 = .ok (.iconst 2, 1) := dk_5 (dk_at dksX2_otherWord_5 17 rfl rfl)
theorem dX2_otherWord_135 : decode cX2_otherWord 135 = .ok (.bipush 97, 2) := dk_16 97 (dk_at dksX2_otherWord_5 18 rfl rfl)
theorem dX2_otherWord_137 : decode cX2_otherWord 137 = .ok (.bipush 99, 2) := dk_16 99 (dk_at dksX2_otherWord_5 20 rfl rfl)
theorem dX2_otherWord_139 : decode cX2_otherWord 139 = .ok (.bipush 101, 2) := dk_16 101 (dk_at dksX2_otherWord_5 22 rfl rfl)
theorem dX2_otherWord_141 : decode cX2_otherWord 141 = .ok (.invokevirtual 115, 3) := dk_182 0 115 (dk_at dksX2_otherWord_6 0 rfl rfl)
theorem dX2_otherWord_144 : decode cX2_otherWord 144 = .ok (.ifCond .eq 8, 3) := dk_153 0 8 (dk_at dksX2_otherWord_6 3 rfl rfl)
theorem dX2_otherWord_147 : decode cX2_otherWord 147 = .ok (.bipush 13, 2) := dk_16 13 (dk_at dksX2_otherWord_6 6 rfl rfl)
theorem dX2_otherWord_149 : decode cX2_otherWord 149 = .ok (.goto 4, 3) := dk_167 0 4 (dk_at dksX2_otherWord_6 8 rfl rfl)
theorem dX2_otherWord_152 : decode cX2_otherWord 152 = .ok (.iconst 0, 1) := dk_3 (dk_at dksX2_otherWord_6 11 rfl rfl)
theorem dX2_otherWord_153 : decode cX2_otherWord 153 = .ok (.ireturn, 1) := dk_172 (dk_at dksX2_otherWord_6 12 rfl rfl)
abbrev cX2_readTable : ByteArray := prog_17_method_21_code
def yX2_readTable : MethodName := ⟨RX2, "readTable", "()V"⟩
def dkwX2_readTable_0 : List UInt8 := [42, 6, 16, 8, 182, 0, 145, 60, 42, 180, 0, 123, 153, 0, 8, 42, 27, 182, 0, 149, 177]
abbrev dktX2_readTable_0 : List UInt8 := dkwX2_readTable_0 ++ []
theorem dksX2_readTable_0 : cX2_readTable.data.toList.drop 0 = dktX2_readTable_0 := by decide +kernel
theorem dX2_readTable_0 : decode cX2_readTable 0 = .ok (.aload_n 0, 1) := dk_42 (dk_at dksX2_readTable_0 0 rfl rfl)
theorem dX2_readTable_1 : decode cX2_readTable 1 = .ok (.iconst 3, 1) := dk_6 (dk_at dksX2_readTable_0 1 rfl rfl)
theorem dX2_readTable_2 : decode cX2_readTable 2 = .ok (.bipush 8, 2) := dk_16 8 (dk_at dksX2_readTable_0 2 rfl rfl)
theorem dX2_readTable_4 : decode cX2_readTable 4 = .ok (.invokevirtual 145, 3) := dk_182 0 145 (dk_at dksX2_readTable_0 4 rfl rfl)
theorem dX2_readTable_7 : decode cX2_readTable 7 = .ok (.istore_n 1, 1) := dk_60 (dk_at dksX2_readTable_0 7 rfl rfl)
theorem dX2_readTable_8 : decode cX2_readTable 8 = .ok (.aload_n 0, 1) := dk_42 (dk_at dksX2_readTable_0 8 rfl rfl)
theorem dX2_readTable_9 : decode cX2_readTable 9 = .ok (.getfield 123, 3) := dk_180 0 123 (dk_at dksX2_readTable_0 9 rfl rfl)
theorem dX2_readTable_12 : decode cX2_readTable 12 = .ok (.ifCond .eq 8, 3) := dk_153 0 8 (dk_at dksX2_readTable_0 12 rfl rfl)
theorem dX2_readTable_15 : decode cX2_readTable 15 = .ok (.aload_n 0, 1) := dk_42 (dk_at dksX2_readTable_0 15 rfl rfl)
theorem dX2_readTable_16 : decode cX2_readTable 16 = .ok (.iload_n 1, 1) := dk_27 (dk_at dksX2_readTable_0 16 rfl rfl)
theorem dX2_readTable_17 : decode cX2_readTable 17 = .ok (.invokevirtual 149, 3) := dk_182 0 149 (dk_at dksX2_readTable_0 17 rfl rfl)
theorem dX2_readTable_20 : decode cX2_readTable 20 = .ok (.return_, 1) := dk_177 (dk_at dksX2_readTable_0 20 rfl rfl)
abbrev cX2_number : ByteArray := prog_17_method_19_code
def yX2_number : MethodName := ⟨RX2, "number", "(II)I"⟩
def dkwX2_number_2 : List UInt8 := [29, 181, 0, 123, 29, 153, 0, 7, 42, 182, 0, 127, 21, 4, 172]
abbrev dktX2_number_2 : List UInt8 := dkwX2_number_2 ++ []
def dkwX2_number_1 : List UInt8 := [153, 0, 7, 4, 167, 0, 4, 3, 62, 29, 153, 0, 10, 42, 180, 0, 103, 167, 0, 4, 27, 54, 4, 42]
abbrev dktX2_number_1 : List UInt8 := dkwX2_number_1 ++ dktX2_number_2
def dkwX2_number_0 : List UInt8 := [42, 180, 0, 123, 153, 0, 27, 42, 180, 0, 106, 5, 160, 0, 19, 42, 180, 0, 103, 27, 28, 184, 0, 78]
abbrev dktX2_number_0 : List UInt8 := dkwX2_number_0 ++ dktX2_number_1
theorem dksX2_number_0 : cX2_number.data.toList.drop 0 = dktX2_number_0 := by decide +kernel
theorem dksX2_number_1 : cX2_number.data.toList.drop 24 = dktX2_number_1 := dk_seg dksX2_number_0 24 rfl rfl
theorem dksX2_number_2 : cX2_number.data.toList.drop 48 = dktX2_number_2 := dk_seg dksX2_number_1 24 rfl rfl
theorem dX2_number_0 : decode cX2_number 0 = .ok (.aload_n 0, 1) := dk_42 (dk_at dksX2_number_0 0 rfl rfl)
theorem dX2_number_1 : decode cX2_number 1 = .ok (.getfield 123, 3) := dk_180 0 123 (dk_at dksX2_number_0 1 rfl rfl)
theorem dX2_number_4 : decode cX2_number 4 = .ok (.ifCond .eq 27, 3) := dk_153 0 27 (dk_at dksX2_number_0 4 rfl rfl)
theorem dX2_number_7 : decode cX2_number 7 = .ok (.aload_n 0, 1) := dk_42 (dk_at dksX2_number_0 7 rfl rfl)
theorem dX2_number_8 : decode cX2_number 8 = .ok (.getfield 106, 3) := dk_180 0 106 (dk_at dksX2_number_0 8 rfl rfl)
theorem dX2_number_11 : decode cX2_number 11 = .ok (.iconst 2, 1) := dk_5 (dk_at dksX2_number_0 11 rfl rfl)
theorem dX2_number_12 : decode cX2_number 12 = .ok (.if_icmp .ne 19, 3) := dk_160 0 19 (dk_at dksX2_number_0 12 rfl rfl)
theorem dX2_number_15 : decode cX2_number 15 = .ok (.aload_n 0, 1) := dk_42 (dk_at dksX2_number_0 15 rfl rfl)
theorem dX2_number_16 : decode cX2_number 16 = .ok (.getfield 103, 3) := dk_180 0 103 (dk_at dksX2_number_0 16 rfl rfl)
theorem dX2_number_19 : decode cX2_number 19 = .ok (.iload_n 1, 1) := dk_27 (dk_at dksX2_number_0 19 rfl rfl)
theorem dX2_number_20 : decode cX2_number 20 = .ok (.iload_n 2, 1) := dk_28 (dk_at dksX2_number_0 20 rfl rfl)
theorem dX2_number_21 : decode cX2_number 21 = .ok (.invokestatic 78, 3) := dk_184 0 78 (dk_at dksX2_number_0 21 rfl rfl)
theorem dX2_number_24 : decode cX2_number 24 = .ok (.ifCond .eq 7, 3) := dk_153 0 7 (dk_at dksX2_number_1 0 rfl rfl)
theorem dX2_number_27 : decode cX2_number 27 = .ok (.iconst 1, 1) := dk_4 (dk_at dksX2_number_1 3 rfl rfl)
theorem dX2_number_28 : decode cX2_number 28 = .ok (.goto 4, 3) := dk_167 0 4 (dk_at dksX2_number_1 4 rfl rfl)
theorem dX2_number_31 : decode cX2_number 31 = .ok (.iconst 0, 1) := dk_3 (dk_at dksX2_number_1 7 rfl rfl)
theorem dX2_number_32 : decode cX2_number 32 = .ok (.istore_n 3, 1) := dk_62 (dk_at dksX2_number_1 8 rfl rfl)
theorem dX2_number_33 : decode cX2_number 33 = .ok (.iload_n 3, 1) := dk_29 (dk_at dksX2_number_1 9 rfl rfl)
theorem dX2_number_34 : decode cX2_number 34 = .ok (.ifCond .eq 10, 3) := dk_153 0 10 (dk_at dksX2_number_1 10 rfl rfl)
theorem dX2_number_37 : decode cX2_number 37 = .ok (.aload_n 0, 1) := dk_42 (dk_at dksX2_number_1 13 rfl rfl)
theorem dX2_number_38 : decode cX2_number 38 = .ok (.getfield 103, 3) := dk_180 0 103 (dk_at dksX2_number_1 14 rfl rfl)
theorem dX2_number_41 : decode cX2_number 41 = .ok (.goto 4, 3) := dk_167 0 4 (dk_at dksX2_number_1 17 rfl rfl)
theorem dX2_number_44 : decode cX2_number 44 = .ok (.iload_n 1, 1) := dk_27 (dk_at dksX2_number_1 20 rfl rfl)
theorem dX2_number_45 : decode cX2_number 45 = .ok (.istore 4, 2) := dk_54 4 (dk_at dksX2_number_1 21 rfl rfl)
theorem dX2_number_47 : decode cX2_number 47 = .ok (.aload_n 0, 1) := dk_42 (dk_at dksX2_number_1 23 rfl rfl)
theorem dX2_number_48 : decode cX2_number 48 = .ok (.iload_n 3, 1) := dk_29 (dk_at dksX2_number_2 0 rfl rfl)
theorem dX2_number_49 : decode cX2_number 49 = .ok (.putfield 123, 3) := dk_181 0 123 (dk_at dksX2_number_2 1 rfl rfl)
theorem dX2_number_52 : decode cX2_number 52 = .ok (.iload_n 3, 1) := dk_29 (dk_at dksX2_number_2 4 rfl rfl)
theorem dX2_number_53 : decode cX2_number 53 = .ok (.ifCond .eq 7, 3) := dk_153 0 7 (dk_at dksX2_number_2 5 rfl rfl)
theorem dX2_number_56 : decode cX2_number 56 = .ok (.aload_n 0, 1) := dk_42 (dk_at dksX2_number_2 8 rfl rfl)
theorem dX2_number_57 : decode cX2_number 57 = .ok (.invokevirtual 127, 3) := dk_182 0 127 (dk_at dksX2_number_2 9 rfl rfl)
theorem dX2_number_60 : decode cX2_number 60 = .ok (.iload 4, 2) := dk_21 4 (dk_at dksX2_number_2 12 rfl rfl)
theorem dX2_number_62 : decode cX2_number 62 = .ok (.ireturn, 1) := dk_172 (dk_at dksX2_number_2 14 rfl rfl)
abbrev cX2_laysTable : ByteArray := prog_17_method_20_code
def yX2_laysTable : MethodName := ⟨RX2, "laysTable", "(I)V"⟩
def dkwX2_laysTable_2 : List UInt8 := [132, 2, 1, 167, 255, 240, 42, 3, 181, 0, 136, 42, 3, 181, 0, 139, 42, 2, 181, 0, 142, 177]
abbrev dktX2_laysTable_2 : List UInt8 := dkwX2_laysTable_2 ++ []
def dkwX2_laysTable_1 : List UInt8 := [79, 132, 2, 1, 167, 255, 240, 3, 61, 28, 16, 6, 162, 0, 16, 42, 180, 0, 48, 28, 3, 79]
abbrev dktX2_laysTable_1 : List UInt8 := dkwX2_laysTable_1 ++ dktX2_laysTable_2
def dkwX2_laysTable_0 : List UInt8 := [42, 27, 181, 0, 130, 42, 3, 181, 0, 133, 3, 61, 28, 16, 16, 162, 0, 16, 42, 180, 0, 42, 28, 3]
abbrev dktX2_laysTable_0 : List UInt8 := dkwX2_laysTable_0 ++ dktX2_laysTable_1
theorem dksX2_laysTable_0 : cX2_laysTable.data.toList.drop 0 = dktX2_laysTable_0 := by decide +kernel
theorem dksX2_laysTable_1 : cX2_laysTable.data.toList.drop 24 = dktX2_laysTable_1 := dk_seg dksX2_laysTable_0 24 rfl rfl
theorem dksX2_laysTable_2 : cX2_laysTable.data.toList.drop 46 = dktX2_laysTable_2 := dk_seg dksX2_laysTable_1 22 rfl rfl
theorem dX2_laysTable_0 : decode cX2_laysTable 0 = .ok (.aload_n 0, 1) := dk_42 (dk_at dksX2_laysTable_0 0 rfl rfl)
theorem dX2_laysTable_1 : decode cX2_laysTable 1 = .ok (.iload_n 1, 1) := dk_27 (dk_at dksX2_laysTable_0 1 rfl rfl)
theorem dX2_laysTable_2 : decode cX2_laysTable 2 = .ok (.putfield 130, 3) := dk_181 0 130 (dk_at dksX2_laysTable_0 2 rfl rfl)
theorem dX2_laysTable_5 : decode cX2_laysTable 5 = .ok (.aload_n 0, 1) := dk_42 (dk_at dksX2_laysTable_0 5 rfl rfl)
theorem dX2_laysTable_6 : decode cX2_laysTable 6 = .ok (.iconst 0, 1) := dk_3 (dk_at dksX2_laysTable_0 6 rfl rfl)
theorem dX2_laysTable_7 : decode cX2_laysTable 7 = .ok (.putfield 133, 3) := dk_181 0 133 (dk_at dksX2_laysTable_0 7 rfl rfl)
theorem dX2_laysTable_10 : decode cX2_laysTable 10 = .ok (.iconst 0, 1) := dk_3 (dk_at dksX2_laysTable_0 10 rfl rfl)
theorem dX2_laysTable_11 : decode cX2_laysTable 11 = .ok (.istore_n 2, 1) := dk_61 (dk_at dksX2_laysTable_0 11 rfl rfl)
theorem dX2_laysTable_12 : decode cX2_laysTable 12 = .ok (.iload_n 2, 1) := dk_28 (dk_at dksX2_laysTable_0 12 rfl rfl)
theorem dX2_laysTable_13 : decode cX2_laysTable 13 = .ok (.bipush 16, 2) := dk_16 16 (dk_at dksX2_laysTable_0 13 rfl rfl)
theorem dX2_laysTable_15 : decode cX2_laysTable 15 = .ok (.if_icmp .ge 16, 3) := dk_162 0 16 (dk_at dksX2_laysTable_0 15 rfl rfl)
theorem dX2_laysTable_18 : decode cX2_laysTable 18 = .ok (.aload_n 0, 1) := dk_42 (dk_at dksX2_laysTable_0 18 rfl rfl)
theorem dX2_laysTable_19 : decode cX2_laysTable 19 = .ok (.getfield 42, 3) := dk_180 0 42 (dk_at dksX2_laysTable_0 19 rfl rfl)
theorem dX2_laysTable_22 : decode cX2_laysTable 22 = .ok (.iload_n 2, 1) := dk_28 (dk_at dksX2_laysTable_0 22 rfl rfl)
theorem dX2_laysTable_23 : decode cX2_laysTable 23 = .ok (.iconst 0, 1) := dk_3 (dk_at dksX2_laysTable_0 23 rfl rfl)
theorem dX2_laysTable_24 : decode cX2_laysTable 24 = .ok (.iastore, 1) := dk_79 (dk_at dksX2_laysTable_1 0 rfl rfl)
theorem dX2_laysTable_25 : decode cX2_laysTable 25 = .ok (.iinc 2 1, 3) := dk_132 2 1 (dk_at dksX2_laysTable_1 1 rfl rfl)
theorem dX2_laysTable_28 : decode cX2_laysTable 28 = .ok (.goto (-16), 3) := dk_167 255 240 (dk_at dksX2_laysTable_1 4 rfl rfl)
theorem dX2_laysTable_31 : decode cX2_laysTable 31 = .ok (.iconst 0, 1) := dk_3 (dk_at dksX2_laysTable_1 7 rfl rfl)
theorem dX2_laysTable_32 : decode cX2_laysTable 32 = .ok (.istore_n 2, 1) := dk_61 (dk_at dksX2_laysTable_1 8 rfl rfl)
theorem dX2_laysTable_33 : decode cX2_laysTable 33 = .ok (.iload_n 2, 1) := dk_28 (dk_at dksX2_laysTable_1 9 rfl rfl)
theorem dX2_laysTable_34 : decode cX2_laysTable 34 = .ok (.bipush 6, 2) := dk_16 6 (dk_at dksX2_laysTable_1 10 rfl rfl)
theorem dX2_laysTable_36 : decode cX2_laysTable 36 = .ok (.if_icmp .ge 16, 3) := dk_162 0 16 (dk_at dksX2_laysTable_1 12 rfl rfl)
theorem dX2_laysTable_39 : decode cX2_laysTable 39 = .ok (.aload_n 0, 1) := dk_42 (dk_at dksX2_laysTable_1 15 rfl rfl)
theorem dX2_laysTable_40 : decode cX2_laysTable 40 = .ok (.getfield 48, 3) := dk_180 0 48 (dk_at dksX2_laysTable_1 16 rfl rfl)
theorem dX2_laysTable_43 : decode cX2_laysTable 43 = .ok (.iload_n 2, 1) := dk_28 (dk_at dksX2_laysTable_1 19 rfl rfl)
theorem dX2_laysTable_44 : decode cX2_laysTable 44 = .ok (.iconst 0, 1) := dk_3 (dk_at dksX2_laysTable_1 20 rfl rfl)
theorem dX2_laysTable_45 : decode cX2_laysTable 45 = .ok (.iastore, 1) := dk_79 (dk_at dksX2_laysTable_1 21 rfl rfl)
theorem dX2_laysTable_46 : decode cX2_laysTable 46 = .ok (.iinc 2 1, 3) := dk_132 2 1 (dk_at dksX2_laysTable_2 0 rfl rfl)
theorem dX2_laysTable_49 : decode cX2_laysTable 49 = .ok (.goto (-16), 3) := dk_167 255 240 (dk_at dksX2_laysTable_2 3 rfl rfl)
theorem dX2_laysTable_52 : decode cX2_laysTable 52 = .ok (.aload_n 0, 1) := dk_42 (dk_at dksX2_laysTable_2 6 rfl rfl)
theorem dX2_laysTable_53 : decode cX2_laysTable 53 = .ok (.iconst 0, 1) := dk_3 (dk_at dksX2_laysTable_2 7 rfl rfl)
theorem dX2_laysTable_54 : decode cX2_laysTable 54 = .ok (.putfield 136, 3) := dk_181 0 136 (dk_at dksX2_laysTable_2 8 rfl rfl)
theorem dX2_laysTable_57 : decode cX2_laysTable 57 = .ok (.aload_n 0, 1) := dk_42 (dk_at dksX2_laysTable_2 11 rfl rfl)
theorem dX2_laysTable_58 : decode cX2_laysTable 58 = .ok (.iconst 0, 1) := dk_3 (dk_at dksX2_laysTable_2 12 rfl rfl)
theorem dX2_laysTable_59 : decode cX2_laysTable 59 = .ok (.putfield 139, 3) := dk_181 0 139 (dk_at dksX2_laysTable_2 13 rfl rfl)
theorem dX2_laysTable_62 : decode cX2_laysTable 62 = .ok (.aload_n 0, 1) := dk_42 (dk_at dksX2_laysTable_2 16 rfl rfl)
theorem dX2_laysTable_63 : decode cX2_laysTable 63 = .ok (.iconst (-1), 1) := dk_2 (dk_at dksX2_laysTable_2 17 rfl rfl)
theorem dX2_laysTable_64 : decode cX2_laysTable 64 = .ok (.putfield 142, 3) := dk_181 0 142 (dk_at dksX2_laysTable_2 18 rfl rfl)
theorem dX2_laysTable_67 : decode cX2_laysTable 67 = .ok (.return_, 1) := dk_177 (dk_at dksX2_laysTable_2 21 rfl rfl)
abbrev cX2_readName : ByteArray := prog_17_method_22_code
def yX2_readName : MethodName := ⟨RX2, "readName", "(I)V"⟩
def dkwX2_readName_2 : List UInt8 := [180, 0, 42, 5, 28, 104, 4, 96, 29, 79, 177]
abbrev dktX2_readName_2 : List UInt8 := dkwX2_readName_2 ++ []
def dkwX2_readName_1 : List UInt8 := [16, 9, 182, 0, 145, 62, 42, 180, 0, 123, 153, 0, 23, 42, 180, 0, 42, 5, 28, 104, 27, 79, 42]
abbrev dktX2_readName_1 : List UInt8 := dkwX2_readName_1 ++ dktX2_readName_2
def dkwX2_readName_0 : List UInt8 := [42, 3, 42, 180, 0, 130, 4, 100, 182, 0, 145, 61, 27, 7, 160, 0, 7, 3, 167, 0, 10, 42, 3]
abbrev dktX2_readName_0 : List UInt8 := dkwX2_readName_0 ++ dktX2_readName_1
theorem dksX2_readName_0 : cX2_readName.data.toList.drop 0 = dktX2_readName_0 := by decide +kernel
theorem dksX2_readName_1 : cX2_readName.data.toList.drop 23 = dktX2_readName_1 := dk_seg dksX2_readName_0 23 rfl rfl
theorem dksX2_readName_2 : cX2_readName.data.toList.drop 46 = dktX2_readName_2 := dk_seg dksX2_readName_1 23 rfl rfl
theorem dX2_readName_0 : decode cX2_readName 0 = .ok (.aload_n 0, 1) := dk_42 (dk_at dksX2_readName_0 0 rfl rfl)
theorem dX2_readName_1 : decode cX2_readName 1 = .ok (.iconst 0, 1) := dk_3 (dk_at dksX2_readName_0 1 rfl rfl)
theorem dX2_readName_2 : decode cX2_readName 2 = .ok (.aload_n 0, 1) := dk_42 (dk_at dksX2_readName_0 2 rfl rfl)
theorem dX2_readName_3 : decode cX2_readName 3 = .ok (.getfield 130, 3) := dk_180 0 130 (dk_at dksX2_readName_0 3 rfl rfl)
theorem dX2_readName_6 : decode cX2_readName 6 = .ok (.iconst 1, 1) := dk_4 (dk_at dksX2_readName_0 6 rfl rfl)
theorem dX2_readName_7 : decode cX2_readName 7 = .ok (.isub, 1) := dk_100 (dk_at dksX2_readName_0 7 rfl rfl)
theorem dX2_readName_8 : decode cX2_readName 8 = .ok (.invokevirtual 145, 3) := dk_182 0 145 (dk_at dksX2_readName_0 8 rfl rfl)
theorem dX2_readName_11 : decode cX2_readName 11 = .ok (.istore_n 2, 1) := dk_61 (dk_at dksX2_readName_0 11 rfl rfl)
theorem dX2_readName_12 : decode cX2_readName 12 = .ok (.iload_n 1, 1) := dk_27 (dk_at dksX2_readName_0 12 rfl rfl)
theorem dX2_readName_13 : decode cX2_readName 13 = .ok (.iconst 4, 1) := dk_7 (dk_at dksX2_readName_0 13 rfl rfl)
theorem dX2_readName_14 : decode cX2_readName 14 = .ok (.if_icmp .ne 7, 3) := dk_160 0 7 (dk_at dksX2_readName_0 14 rfl rfl)
theorem dX2_readName_17 : decode cX2_readName 17 = .ok (.iconst 0, 1) := dk_3 (dk_at dksX2_readName_0 17 rfl rfl)
theorem dX2_readName_18 : decode cX2_readName 18 = .ok (.goto 10, 3) := dk_167 0 10 (dk_at dksX2_readName_0 18 rfl rfl)
theorem dX2_readName_21 : decode cX2_readName 21 = .ok (.aload_n 0, 1) := dk_42 (dk_at dksX2_readName_0 21 rfl rfl)
theorem dX2_readName_22 : decode cX2_readName 22 = .ok (.iconst 0, 1) := dk_3 (dk_at dksX2_readName_0 22 rfl rfl)
theorem dX2_readName_23 : decode cX2_readName 23 = .ok (.bipush 9, 2) := dk_16 9 (dk_at dksX2_readName_1 0 rfl rfl)
theorem dX2_readName_25 : decode cX2_readName 25 = .ok (.invokevirtual 145, 3) := dk_182 0 145 (dk_at dksX2_readName_1 2 rfl rfl)
theorem dX2_readName_28 : decode cX2_readName 28 = .ok (.istore_n 3, 1) := dk_62 (dk_at dksX2_readName_1 5 rfl rfl)
theorem dX2_readName_29 : decode cX2_readName 29 = .ok (.aload_n 0, 1) := dk_42 (dk_at dksX2_readName_1 6 rfl rfl)
theorem dX2_readName_30 : decode cX2_readName 30 = .ok (.getfield 123, 3) := dk_180 0 123 (dk_at dksX2_readName_1 7 rfl rfl)
theorem dX2_readName_33 : decode cX2_readName 33 = .ok (.ifCond .eq 23, 3) := dk_153 0 23 (dk_at dksX2_readName_1 10 rfl rfl)
theorem dX2_readName_36 : decode cX2_readName 36 = .ok (.aload_n 0, 1) := dk_42 (dk_at dksX2_readName_1 13 rfl rfl)
theorem dX2_readName_37 : decode cX2_readName 37 = .ok (.getfield 42, 3) := dk_180 0 42 (dk_at dksX2_readName_1 14 rfl rfl)
theorem dX2_readName_40 : decode cX2_readName 40 = .ok (.iconst 2, 1) := dk_5 (dk_at dksX2_readName_1 17 rfl rfl)
theorem dX2_readName_41 : decode cX2_readName 41 = .ok (.iload_n 2, 1) := dk_28 (dk_at dksX2_readName_1 18 rfl rfl)
theorem dX2_readName_42 : decode cX2_readName 42 = .ok (.imul, 1) := dk_104 (dk_at dksX2_readName_1 19 rfl rfl)
theorem dX2_readName_43 : decode cX2_readName 43 = .ok (.iload_n 1, 1) := dk_27 (dk_at dksX2_readName_1 20 rfl rfl)
theorem dX2_readName_44 : decode cX2_readName 44 = .ok (.iastore, 1) := dk_79 (dk_at dksX2_readName_1 21 rfl rfl)
theorem dX2_readName_45 : decode cX2_readName 45 = .ok (.aload_n 0, 1) := dk_42 (dk_at dksX2_readName_1 22 rfl rfl)
theorem dX2_readName_46 : decode cX2_readName 46 = .ok (.getfield 42, 3) := dk_180 0 42 (dk_at dksX2_readName_2 0 rfl rfl)
theorem dX2_readName_49 : decode cX2_readName 49 = .ok (.iconst 2, 1) := dk_5 (dk_at dksX2_readName_2 3 rfl rfl)
theorem dX2_readName_50 : decode cX2_readName 50 = .ok (.iload_n 2, 1) := dk_28 (dk_at dksX2_readName_2 4 rfl rfl)
theorem dX2_readName_51 : decode cX2_readName 51 = .ok (.imul, 1) := dk_104 (dk_at dksX2_readName_2 5 rfl rfl)
theorem dX2_readName_52 : decode cX2_readName 52 = .ok (.iconst 1, 1) := dk_4 (dk_at dksX2_readName_2 6 rfl rfl)
theorem dX2_readName_53 : decode cX2_readName 53 = .ok (.iadd, 1) := dk_96 (dk_at dksX2_readName_2 7 rfl rfl)
theorem dX2_readName_54 : decode cX2_readName 54 = .ok (.iload_n 3, 1) := dk_29 (dk_at dksX2_readName_2 8 rfl rfl)
theorem dX2_readName_55 : decode cX2_readName 55 = .ok (.iastore, 1) := dk_79 (dk_at dksX2_readName_2 9 rfl rfl)
theorem dX2_readName_56 : decode cX2_readName 56 = .ok (.return_, 1) := dk_177 (dk_at dksX2_readName_2 10 rfl rfl)
abbrev cX2_readKnight : ByteArray := prog_17_method_23_code
def yX2_readKnight : MethodName := ⟨RX2, "readKnight", "(I)V"⟩
def dkwX2_readKnight_3 : List UInt8 := [181, 0, 133, 177]
abbrev dktX2_readKnight_3 : List UInt8 := dkwX2_readKnight_3 ++ []
def dkwX2_readKnight_2 : List UInt8 := [79, 42, 180, 0, 45, 6, 42, 180, 0, 133, 104, 5, 96, 29, 79, 42, 89, 180, 0, 133, 4, 96]
abbrev dktX2_readKnight_2 : List UInt8 := dkwX2_readKnight_2 ++ dktX2_readKnight_3
def dkwX2_readKnight_1 : List UInt8 := [180, 0, 45, 6, 42, 180, 0, 133, 104, 27, 79, 42, 180, 0, 45, 6, 42, 180, 0, 133, 104, 4, 96, 28]
abbrev dktX2_readKnight_1 : List UInt8 := dkwX2_readKnight_1 ++ dktX2_readKnight_2
def dkwX2_readKnight_0 : List UInt8 := [42, 3, 16, 9, 182, 0, 145, 61, 42, 3, 16, 9, 182, 0, 145, 62, 42, 180, 0, 123, 153, 0, 53, 42]
abbrev dktX2_readKnight_0 : List UInt8 := dkwX2_readKnight_0 ++ dktX2_readKnight_1
theorem dksX2_readKnight_0 : cX2_readKnight.data.toList.drop 0 = dktX2_readKnight_0 := by decide +kernel
theorem dksX2_readKnight_1 : cX2_readKnight.data.toList.drop 24 = dktX2_readKnight_1 := dk_seg dksX2_readKnight_0 24 rfl rfl
theorem dksX2_readKnight_2 : cX2_readKnight.data.toList.drop 48 = dktX2_readKnight_2 := dk_seg dksX2_readKnight_1 24 rfl rfl
theorem dksX2_readKnight_3 : cX2_readKnight.data.toList.drop 70 = dktX2_readKnight_3 := dk_seg dksX2_readKnight_2 22 rfl rfl
theorem dX2_readKnight_0 : decode cX2_readKnight 0 = .ok (.aload_n 0, 1) := dk_42 (dk_at dksX2_readKnight_0 0 rfl rfl)
theorem dX2_readKnight_1 : decode cX2_readKnight 1 = .ok (.iconst 0, 1) := dk_3 (dk_at dksX2_readKnight_0 1 rfl rfl)
theorem dX2_readKnight_2 : decode cX2_readKnight 2 = .ok (.bipush 9, 2) := dk_16 9 (dk_at dksX2_readKnight_0 2 rfl rfl)
theorem dX2_readKnight_4 : decode cX2_readKnight 4 = .ok (.invokevirtual 145, 3) := dk_182 0 145 (dk_at dksX2_readKnight_0 4 rfl rfl)
theorem dX2_readKnight_7 : decode cX2_readKnight 7 = .ok (.istore_n 2, 1) := dk_61 (dk_at dksX2_readKnight_0 7 rfl rfl)
theorem dX2_readKnight_8 : decode cX2_readKnight 8 = .ok (.aload_n 0, 1) := dk_42 (dk_at dksX2_readKnight_0 8 rfl rfl)
theorem dX2_readKnight_9 : decode cX2_readKnight 9 = .ok (.iconst 0, 1) := dk_3 (dk_at dksX2_readKnight_0 9 rfl rfl)
theorem dX2_readKnight_10 : decode cX2_readKnight 10 = .ok (.bipush 9, 2) := dk_16 9 (dk_at dksX2_readKnight_0 10 rfl rfl)
theorem dX2_readKnight_12 : decode cX2_readKnight 12 = .ok (.invokevirtual 145, 3) := dk_182 0 145 (dk_at dksX2_readKnight_0 12 rfl rfl)
theorem dX2_readKnight_15 : decode cX2_readKnight 15 = .ok (.istore_n 3, 1) := dk_62 (dk_at dksX2_readKnight_0 15 rfl rfl)
theorem dX2_readKnight_16 : decode cX2_readKnight 16 = .ok (.aload_n 0, 1) := dk_42 (dk_at dksX2_readKnight_0 16 rfl rfl)
theorem dX2_readKnight_17 : decode cX2_readKnight 17 = .ok (.getfield 123, 3) := dk_180 0 123 (dk_at dksX2_readKnight_0 17 rfl rfl)
theorem dX2_readKnight_20 : decode cX2_readKnight 20 = .ok (.ifCond .eq 53, 3) := dk_153 0 53 (dk_at dksX2_readKnight_0 20 rfl rfl)
theorem dX2_readKnight_23 : decode cX2_readKnight 23 = .ok (.aload_n 0, 1) := dk_42 (dk_at dksX2_readKnight_0 23 rfl rfl)
theorem dX2_readKnight_24 : decode cX2_readKnight 24 = .ok (.getfield 45, 3) := dk_180 0 45 (dk_at dksX2_readKnight_1 0 rfl rfl)
theorem dX2_readKnight_27 : decode cX2_readKnight 27 = .ok (.iconst 3, 1) := dk_6 (dk_at dksX2_readKnight_1 3 rfl rfl)
theorem dX2_readKnight_28 : decode cX2_readKnight 28 = .ok (.aload_n 0, 1) := dk_42 (dk_at dksX2_readKnight_1 4 rfl rfl)
theorem dX2_readKnight_29 : decode cX2_readKnight 29 = .ok (.getfield 133, 3) := dk_180 0 133 (dk_at dksX2_readKnight_1 5 rfl rfl)
theorem dX2_readKnight_32 : decode cX2_readKnight 32 = .ok (.imul, 1) := dk_104 (dk_at dksX2_readKnight_1 8 rfl rfl)
theorem dX2_readKnight_33 : decode cX2_readKnight 33 = .ok (.iload_n 1, 1) := dk_27 (dk_at dksX2_readKnight_1 9 rfl rfl)
theorem dX2_readKnight_34 : decode cX2_readKnight 34 = .ok (.iastore, 1) := dk_79 (dk_at dksX2_readKnight_1 10 rfl rfl)
theorem dX2_readKnight_35 : decode cX2_readKnight 35 = .ok (.aload_n 0, 1) := dk_42 (dk_at dksX2_readKnight_1 11 rfl rfl)
theorem dX2_readKnight_36 : decode cX2_readKnight 36 = .ok (.getfield 45, 3) := dk_180 0 45 (dk_at dksX2_readKnight_1 12 rfl rfl)
theorem dX2_readKnight_39 : decode cX2_readKnight 39 = .ok (.iconst 3, 1) := dk_6 (dk_at dksX2_readKnight_1 15 rfl rfl)
theorem dX2_readKnight_40 : decode cX2_readKnight 40 = .ok (.aload_n 0, 1) := dk_42 (dk_at dksX2_readKnight_1 16 rfl rfl)
theorem dX2_readKnight_41 : decode cX2_readKnight 41 = .ok (.getfield 133, 3) := dk_180 0 133 (dk_at dksX2_readKnight_1 17 rfl rfl)
theorem dX2_readKnight_44 : decode cX2_readKnight 44 = .ok (.imul, 1) := dk_104 (dk_at dksX2_readKnight_1 20 rfl rfl)
theorem dX2_readKnight_45 : decode cX2_readKnight 45 = .ok (.iconst 1, 1) := dk_4 (dk_at dksX2_readKnight_1 21 rfl rfl)
theorem dX2_readKnight_46 : decode cX2_readKnight 46 = .ok (.iadd, 1) := dk_96 (dk_at dksX2_readKnight_1 22 rfl rfl)
theorem dX2_readKnight_47 : decode cX2_readKnight 47 = .ok (.iload_n 2, 1) := dk_28 (dk_at dksX2_readKnight_1 23 rfl rfl)
theorem dX2_readKnight_48 : decode cX2_readKnight 48 = .ok (.iastore, 1) := dk_79 (dk_at dksX2_readKnight_2 0 rfl rfl)
theorem dX2_readKnight_49 : decode cX2_readKnight 49 = .ok (.aload_n 0, 1) := dk_42 (dk_at dksX2_readKnight_2 1 rfl rfl)
theorem dX2_readKnight_50 : decode cX2_readKnight 50 = .ok (.getfield 45, 3) := dk_180 0 45 (dk_at dksX2_readKnight_2 2 rfl rfl)
theorem dX2_readKnight_53 : decode cX2_readKnight 53 = .ok (.iconst 3, 1) := dk_6 (dk_at dksX2_readKnight_2 5 rfl rfl)
theorem dX2_readKnight_54 : decode cX2_readKnight 54 = .ok (.aload_n 0, 1) := dk_42 (dk_at dksX2_readKnight_2 6 rfl rfl)
theorem dX2_readKnight_55 : decode cX2_readKnight 55 = .ok (.getfield 133, 3) := dk_180 0 133 (dk_at dksX2_readKnight_2 7 rfl rfl)
theorem dX2_readKnight_58 : decode cX2_readKnight 58 = .ok (.imul, 1) := dk_104 (dk_at dksX2_readKnight_2 10 rfl rfl)
theorem dX2_readKnight_59 : decode cX2_readKnight 59 = .ok (.iconst 2, 1) := dk_5 (dk_at dksX2_readKnight_2 11 rfl rfl)
theorem dX2_readKnight_60 : decode cX2_readKnight 60 = .ok (.iadd, 1) := dk_96 (dk_at dksX2_readKnight_2 12 rfl rfl)
theorem dX2_readKnight_61 : decode cX2_readKnight 61 = .ok (.iload_n 3, 1) := dk_29 (dk_at dksX2_readKnight_2 13 rfl rfl)
theorem dX2_readKnight_62 : decode cX2_readKnight 62 = .ok (.iastore, 1) := dk_79 (dk_at dksX2_readKnight_2 14 rfl rfl)
theorem dX2_readKnight_63 : decode cX2_readKnight 63 = .ok (.aload_n 0, 1) := dk_42 (dk_at dksX2_readKnight_2 15 rfl rfl)
theorem dX2_readKnight_64 : decode cX2_readKnight 64 = .ok (.dup, 1) := dk_89 (dk_at dksX2_readKnight_2 16 rfl rfl)
theorem dX2_readKnight_65 : decode cX2_readKnight 65 = .ok (.getfield 133, 3) := dk_180 0 133 (dk_at dksX2_readKnight_2 17 rfl rfl)
theorem dX2_readKnight_68 : decode cX2_readKnight 68 = .ok (.iconst 1, 1) := dk_4 (dk_at dksX2_readKnight_2 20 rfl rfl)
theorem dX2_readKnight_69 : decode cX2_readKnight 69 = .ok (.iadd, 1) := dk_96 (dk_at dksX2_readKnight_2 21 rfl rfl)
theorem dX2_readKnight_70 : decode cX2_readKnight 70 = .ok (.putfield 133, 3) := dk_181 0 133 (dk_at dksX2_readKnight_3 0 rfl rfl)
theorem dX2_readKnight_73 : decode cX2_readKnight 73 = .ok (.return_, 1) := dk_177 (dk_at dksX2_readKnight_3 3 rfl rfl)
abbrev cX2_readEnemies : ByteArray := prog_17_method_24_code
def yX2_readEnemies : MethodName := ⟨RX2, "readEnemies", "()V"⟩
def dkwX2_readEnemies_3 : List UInt8 := [180, 0, 48, 28, 92, 46, 4, 27, 120, 128, 79, 177]
abbrev dktX2_readEnemies_3 : List UInt8 := dkwX2_readEnemies_3 ++ []
def dkwX2_readEnemies_2 : List UInt8 := [182, 0, 145, 61, 42, 180, 0, 123, 153, 0, 27, 42, 180, 0, 48, 27, 92, 46, 4, 28, 120, 128, 79, 42]
abbrev dktX2_readEnemies_2 : List UInt8 := dkwX2_readEnemies_2 ++ dktX2_readEnemies_3
def dkwX2_readEnemies_1 : List UInt8 := [160, 0, 16, 42, 180, 0, 103, 27, 160, 0, 8, 42, 3, 181, 0, 123, 42, 3, 42, 180, 0, 133, 4, 100]
abbrev dktX2_readEnemies_1 : List UInt8 := dkwX2_readEnemies_1 ++ dktX2_readEnemies_2
def dkwX2_readEnemies_0 : List UInt8 := [42, 3, 42, 180, 0, 133, 4, 100, 182, 0, 145, 60, 42, 180, 0, 123, 153, 0, 24, 42, 180, 0, 106, 5]
abbrev dktX2_readEnemies_0 : List UInt8 := dkwX2_readEnemies_0 ++ dktX2_readEnemies_1
theorem dksX2_readEnemies_0 : cX2_readEnemies.data.toList.drop 0 = dktX2_readEnemies_0 := by decide +kernel
theorem dksX2_readEnemies_1 : cX2_readEnemies.data.toList.drop 24 = dktX2_readEnemies_1 := dk_seg dksX2_readEnemies_0 24 rfl rfl
theorem dksX2_readEnemies_2 : cX2_readEnemies.data.toList.drop 48 = dktX2_readEnemies_2 := dk_seg dksX2_readEnemies_1 24 rfl rfl
theorem dksX2_readEnemies_3 : cX2_readEnemies.data.toList.drop 72 = dktX2_readEnemies_3 := dk_seg dksX2_readEnemies_2 24 rfl rfl
theorem dX2_readEnemies_0 : decode cX2_readEnemies 0 = .ok (.aload_n 0, 1) := dk_42 (dk_at dksX2_readEnemies_0 0 rfl rfl)
theorem dX2_readEnemies_1 : decode cX2_readEnemies 1 = .ok (.iconst 0, 1) := dk_3 (dk_at dksX2_readEnemies_0 1 rfl rfl)
theorem dX2_readEnemies_2 : decode cX2_readEnemies 2 = .ok (.aload_n 0, 1) := dk_42 (dk_at dksX2_readEnemies_0 2 rfl rfl)
theorem dX2_readEnemies_3 : decode cX2_readEnemies 3 = .ok (.getfield 133, 3) := dk_180 0 133 (dk_at dksX2_readEnemies_0 3 rfl rfl)
theorem dX2_readEnemies_6 : decode cX2_readEnemies 6 = .ok (.iconst 1, 1) := dk_4 (dk_at dksX2_readEnemies_0 6 rfl rfl)
theorem dX2_readEnemies_7 : decode cX2_readEnemies 7 = .ok (.isub, 1) := dk_100 (dk_at dksX2_readEnemies_0 7 rfl rfl)
theorem dX2_readEnemies_8 : decode cX2_readEnemies 8 = .ok (.invokevirtual 145, 3) := dk_182 0 145 (dk_at dksX2_readEnemies_0 8 rfl rfl)
theorem dX2_readEnemies_11 : decode cX2_readEnemies 11 = .ok (.istore_n 1, 1) := dk_60 (dk_at dksX2_readEnemies_0 11 rfl rfl)
theorem dX2_readEnemies_12 : decode cX2_readEnemies 12 = .ok (.aload_n 0, 1) := dk_42 (dk_at dksX2_readEnemies_0 12 rfl rfl)
theorem dX2_readEnemies_13 : decode cX2_readEnemies 13 = .ok (.getfield 123, 3) := dk_180 0 123 (dk_at dksX2_readEnemies_0 13 rfl rfl)
theorem dX2_readEnemies_16 : decode cX2_readEnemies 16 = .ok (.ifCond .eq 24, 3) := dk_153 0 24 (dk_at dksX2_readEnemies_0 16 rfl rfl)
theorem dX2_readEnemies_19 : decode cX2_readEnemies 19 = .ok (.aload_n 0, 1) := dk_42 (dk_at dksX2_readEnemies_0 19 rfl rfl)
theorem dX2_readEnemies_20 : decode cX2_readEnemies 20 = .ok (.getfield 106, 3) := dk_180 0 106 (dk_at dksX2_readEnemies_0 20 rfl rfl)
theorem dX2_readEnemies_23 : decode cX2_readEnemies 23 = .ok (.iconst 2, 1) := dk_5 (dk_at dksX2_readEnemies_0 23 rfl rfl)
theorem dX2_readEnemies_24 : decode cX2_readEnemies 24 = .ok (.if_icmp .ne 16, 3) := dk_160 0 16 (dk_at dksX2_readEnemies_1 0 rfl rfl)
theorem dX2_readEnemies_27 : decode cX2_readEnemies 27 = .ok (.aload_n 0, 1) := dk_42 (dk_at dksX2_readEnemies_1 3 rfl rfl)
theorem dX2_readEnemies_28 : decode cX2_readEnemies 28 = .ok (.getfield 103, 3) := dk_180 0 103 (dk_at dksX2_readEnemies_1 4 rfl rfl)
theorem dX2_readEnemies_31 : decode cX2_readEnemies 31 = .ok (.iload_n 1, 1) := dk_27 (dk_at dksX2_readEnemies_1 7 rfl rfl)
theorem dX2_readEnemies_32 : decode cX2_readEnemies 32 = .ok (.if_icmp .ne 8, 3) := dk_160 0 8 (dk_at dksX2_readEnemies_1 8 rfl rfl)
theorem dX2_readEnemies_35 : decode cX2_readEnemies 35 = .ok (.aload_n 0, 1) := dk_42 (dk_at dksX2_readEnemies_1 11 rfl rfl)
theorem dX2_readEnemies_36 : decode cX2_readEnemies 36 = .ok (.iconst 0, 1) := dk_3 (dk_at dksX2_readEnemies_1 12 rfl rfl)
theorem dX2_readEnemies_37 : decode cX2_readEnemies 37 = .ok (.putfield 123, 3) := dk_181 0 123 (dk_at dksX2_readEnemies_1 13 rfl rfl)
theorem dX2_readEnemies_40 : decode cX2_readEnemies 40 = .ok (.aload_n 0, 1) := dk_42 (dk_at dksX2_readEnemies_1 16 rfl rfl)
theorem dX2_readEnemies_41 : decode cX2_readEnemies 41 = .ok (.iconst 0, 1) := dk_3 (dk_at dksX2_readEnemies_1 17 rfl rfl)
theorem dX2_readEnemies_42 : decode cX2_readEnemies 42 = .ok (.aload_n 0, 1) := dk_42 (dk_at dksX2_readEnemies_1 18 rfl rfl)
theorem dX2_readEnemies_43 : decode cX2_readEnemies 43 = .ok (.getfield 133, 3) := dk_180 0 133 (dk_at dksX2_readEnemies_1 19 rfl rfl)
theorem dX2_readEnemies_46 : decode cX2_readEnemies 46 = .ok (.iconst 1, 1) := dk_4 (dk_at dksX2_readEnemies_1 22 rfl rfl)
theorem dX2_readEnemies_47 : decode cX2_readEnemies 47 = .ok (.isub, 1) := dk_100 (dk_at dksX2_readEnemies_1 23 rfl rfl)
theorem dX2_readEnemies_48 : decode cX2_readEnemies 48 = .ok (.invokevirtual 145, 3) := dk_182 0 145 (dk_at dksX2_readEnemies_2 0 rfl rfl)
theorem dX2_readEnemies_51 : decode cX2_readEnemies 51 = .ok (.istore_n 2, 1) := dk_61 (dk_at dksX2_readEnemies_2 3 rfl rfl)
theorem dX2_readEnemies_52 : decode cX2_readEnemies 52 = .ok (.aload_n 0, 1) := dk_42 (dk_at dksX2_readEnemies_2 4 rfl rfl)
theorem dX2_readEnemies_53 : decode cX2_readEnemies 53 = .ok (.getfield 123, 3) := dk_180 0 123 (dk_at dksX2_readEnemies_2 5 rfl rfl)
theorem dX2_readEnemies_56 : decode cX2_readEnemies 56 = .ok (.ifCond .eq 27, 3) := dk_153 0 27 (dk_at dksX2_readEnemies_2 8 rfl rfl)
theorem dX2_readEnemies_59 : decode cX2_readEnemies 59 = .ok (.aload_n 0, 1) := dk_42 (dk_at dksX2_readEnemies_2 11 rfl rfl)
theorem dX2_readEnemies_60 : decode cX2_readEnemies 60 = .ok (.getfield 48, 3) := dk_180 0 48 (dk_at dksX2_readEnemies_2 12 rfl rfl)
theorem dX2_readEnemies_63 : decode cX2_readEnemies 63 = .ok (.iload_n 1, 1) := dk_27 (dk_at dksX2_readEnemies_2 15 rfl rfl)
theorem dX2_readEnemies_64 : decode cX2_readEnemies 64 = .ok (.dup2, 1) := dk_92 (dk_at dksX2_readEnemies_2 16 rfl rfl)
theorem dX2_readEnemies_65 : decode cX2_readEnemies 65 = .ok (.iaload, 1) := dk_46 (dk_at dksX2_readEnemies_2 17 rfl rfl)
theorem dX2_readEnemies_66 : decode cX2_readEnemies 66 = .ok (.iconst 1, 1) := dk_4 (dk_at dksX2_readEnemies_2 18 rfl rfl)
theorem dX2_readEnemies_67 : decode cX2_readEnemies 67 = .ok (.iload_n 2, 1) := dk_28 (dk_at dksX2_readEnemies_2 19 rfl rfl)
theorem dX2_readEnemies_68 : decode cX2_readEnemies 68 = .ok (.ishl, 1) := dk_120 (dk_at dksX2_readEnemies_2 20 rfl rfl)
theorem dX2_readEnemies_69 : decode cX2_readEnemies 69 = .ok (.ior, 1) := dk_128 (dk_at dksX2_readEnemies_2 21 rfl rfl)
theorem dX2_readEnemies_70 : decode cX2_readEnemies 70 = .ok (.iastore, 1) := dk_79 (dk_at dksX2_readEnemies_2 22 rfl rfl)
theorem dX2_readEnemies_71 : decode cX2_readEnemies 71 = .ok (.aload_n 0, 1) := dk_42 (dk_at dksX2_readEnemies_2 23 rfl rfl)
theorem dX2_readEnemies_72 : decode cX2_readEnemies 72 = .ok (.getfield 48, 3) := dk_180 0 48 (dk_at dksX2_readEnemies_3 0 rfl rfl)
theorem dX2_readEnemies_75 : decode cX2_readEnemies 75 = .ok (.iload_n 2, 1) := dk_28 (dk_at dksX2_readEnemies_3 3 rfl rfl)
theorem dX2_readEnemies_76 : decode cX2_readEnemies 76 = .ok (.dup2, 1) := dk_92 (dk_at dksX2_readEnemies_3 4 rfl rfl)
theorem dX2_readEnemies_77 : decode cX2_readEnemies 77 = .ok (.iaload, 1) := dk_46 (dk_at dksX2_readEnemies_3 5 rfl rfl)
theorem dX2_readEnemies_78 : decode cX2_readEnemies 78 = .ok (.iconst 1, 1) := dk_4 (dk_at dksX2_readEnemies_3 6 rfl rfl)
theorem dX2_readEnemies_79 : decode cX2_readEnemies 79 = .ok (.iload_n 1, 1) := dk_27 (dk_at dksX2_readEnemies_3 7 rfl rfl)
theorem dX2_readEnemies_80 : decode cX2_readEnemies 80 = .ok (.ishl, 1) := dk_120 (dk_at dksX2_readEnemies_3 8 rfl rfl)
theorem dX2_readEnemies_81 : decode cX2_readEnemies 81 = .ok (.ior, 1) := dk_128 (dk_at dksX2_readEnemies_3 9 rfl rfl)
theorem dX2_readEnemies_82 : decode cX2_readEnemies 82 = .ok (.iastore, 1) := dk_79 (dk_at dksX2_readEnemies_3 10 rfl rfl)
theorem dX2_readEnemies_83 : decode cX2_readEnemies 83 = .ok (.return_, 1) := dk_177 (dk_at dksX2_readEnemies_3 11 rfl rfl)
abbrev cX2_readPeril : ByteArray := prog_17_method_25_code
def yX2_readPeril : MethodName := ⟨RX2, "readPeril", "()V"⟩
def dkwX2_readPeril_1 : List UInt8 := [153, 0, 13, 42, 27, 181, 0, 136, 42, 28, 181, 0, 139, 177]
abbrev dktX2_readPeril_1 : List UInt8 := dkwX2_readPeril_1 ++ []
def dkwX2_readPeril_0 : List UInt8 := [42, 3, 42, 180, 0, 130, 4, 100, 182, 0, 145, 60, 42, 3, 16, 7, 182, 0, 145, 61, 42, 180, 0, 123]
abbrev dktX2_readPeril_0 : List UInt8 := dkwX2_readPeril_0 ++ dktX2_readPeril_1
theorem dksX2_readPeril_0 : cX2_readPeril.data.toList.drop 0 = dktX2_readPeril_0 := by decide +kernel
theorem dksX2_readPeril_1 : cX2_readPeril.data.toList.drop 24 = dktX2_readPeril_1 := dk_seg dksX2_readPeril_0 24 rfl rfl
theorem dX2_readPeril_0 : decode cX2_readPeril 0 = .ok (.aload_n 0, 1) := dk_42 (dk_at dksX2_readPeril_0 0 rfl rfl)
theorem dX2_readPeril_1 : decode cX2_readPeril 1 = .ok (.iconst 0, 1) := dk_3 (dk_at dksX2_readPeril_0 1 rfl rfl)
theorem dX2_readPeril_2 : decode cX2_readPeril 2 = .ok (.aload_n 0, 1) := dk_42 (dk_at dksX2_readPeril_0 2 rfl rfl)
theorem dX2_readPeril_3 : decode cX2_readPeril 3 = .ok (.getfield 130, 3) := dk_180 0 130 (dk_at dksX2_readPeril_0 3 rfl rfl)
theorem dX2_readPeril_6 : decode cX2_readPeril 6 = .ok (.iconst 1, 1) := dk_4 (dk_at dksX2_readPeril_0 6 rfl rfl)
theorem dX2_readPeril_7 : decode cX2_readPeril 7 = .ok (.isub, 1) := dk_100 (dk_at dksX2_readPeril_0 7 rfl rfl)
theorem dX2_readPeril_8 : decode cX2_readPeril 8 = .ok (.invokevirtual 145, 3) := dk_182 0 145 (dk_at dksX2_readPeril_0 8 rfl rfl)
theorem dX2_readPeril_11 : decode cX2_readPeril 11 = .ok (.istore_n 1, 1) := dk_60 (dk_at dksX2_readPeril_0 11 rfl rfl)
theorem dX2_readPeril_12 : decode cX2_readPeril 12 = .ok (.aload_n 0, 1) := dk_42 (dk_at dksX2_readPeril_0 12 rfl rfl)
theorem dX2_readPeril_13 : decode cX2_readPeril 13 = .ok (.iconst 0, 1) := dk_3 (dk_at dksX2_readPeril_0 13 rfl rfl)
theorem dX2_readPeril_14 : decode cX2_readPeril 14 = .ok (.bipush 7, 2) := dk_16 7 (dk_at dksX2_readPeril_0 14 rfl rfl)
theorem dX2_readPeril_16 : decode cX2_readPeril 16 = .ok (.invokevirtual 145, 3) := dk_182 0 145 (dk_at dksX2_readPeril_0 16 rfl rfl)
theorem dX2_readPeril_19 : decode cX2_readPeril 19 = .ok (.istore_n 2, 1) := dk_61 (dk_at dksX2_readPeril_0 19 rfl rfl)
theorem dX2_readPeril_20 : decode cX2_readPeril 20 = .ok (.aload_n 0, 1) := dk_42 (dk_at dksX2_readPeril_0 20 rfl rfl)
theorem dX2_readPeril_21 : decode cX2_readPeril 21 = .ok (.getfield 123, 3) := dk_180 0 123 (dk_at dksX2_readPeril_0 21 rfl rfl)
theorem dX2_readPeril_24 : decode cX2_readPeril 24 = .ok (.ifCond .eq 13, 3) := dk_153 0 13 (dk_at dksX2_readPeril_1 0 rfl rfl)
theorem dX2_readPeril_27 : decode cX2_readPeril 27 = .ok (.aload_n 0, 1) := dk_42 (dk_at dksX2_readPeril_1 3 rfl rfl)
theorem dX2_readPeril_28 : decode cX2_readPeril 28 = .ok (.iload_n 1, 1) := dk_27 (dk_at dksX2_readPeril_1 4 rfl rfl)
theorem dX2_readPeril_29 : decode cX2_readPeril 29 = .ok (.putfield 136, 3) := dk_181 0 136 (dk_at dksX2_readPeril_1 5 rfl rfl)
theorem dX2_readPeril_32 : decode cX2_readPeril 32 = .ok (.aload_n 0, 1) := dk_42 (dk_at dksX2_readPeril_1 8 rfl rfl)
theorem dX2_readPeril_33 : decode cX2_readPeril 33 = .ok (.iload_n 2, 1) := dk_28 (dk_at dksX2_readPeril_1 9 rfl rfl)
theorem dX2_readPeril_34 : decode cX2_readPeril 34 = .ok (.putfield 139, 3) := dk_181 0 139 (dk_at dksX2_readPeril_1 10 rfl rfl)
theorem dX2_readPeril_37 : decode cX2_readPeril 37 = .ok (.return_, 1) := dk_177 (dk_at dksX2_readPeril_1 13 rfl rfl)
abbrev cX2_table : ByteArray := prog_17_method_29_code
def yX2_table : MethodName := ⟨RX2, "table", "()I"⟩
def dkwX2_table_6 : List UInt8 := [180, 0, 177, 172]
abbrev dktX2_table_6 : List UInt8 := dkwX2_table_6 ++ []
def dkwX2_table_5 : List UInt8 := [180, 0, 139, 181, 0, 174, 42, 42, 180, 0, 142, 181, 0, 19, 42, 3, 181, 0, 90, 42, 182, 0, 63, 42]
abbrev dktX2_table_5 : List UInt8 := dkwX2_table_5 ++ dktX2_table_6
def dkwX2_table_4 : List UInt8 := [27, 42, 180, 0, 48, 27, 46, 79, 132, 1, 1, 167, 255, 235, 42, 42, 180, 0, 136, 181, 0, 171, 42, 42]
abbrev dktX2_table_4 : List UInt8 := dkwX2_table_4 ++ dktX2_table_5
def dkwX2_table_3 : List UInt8 := [180, 0, 45, 27, 46, 79, 132, 1, 1, 167, 255, 235, 3, 60, 27, 16, 6, 162, 0, 21, 42, 180, 0, 16]
abbrev dktX2_table_3 : List UInt8 := dkwX2_table_3 ++ dktX2_table_4
def dkwX2_table_2 : List UInt8 := [46, 79, 132, 1, 1, 167, 255, 235, 3, 60, 27, 16, 18, 162, 0, 21, 42, 180, 0, 13, 27, 42]
abbrev dktX2_table_2 : List UInt8 := dkwX2_table_2 ++ dktX2_table_3
def dkwX2_table_1 : List UInt8 := [180, 0, 133, 181, 0, 66, 3, 60, 27, 16, 16, 162, 0, 21, 42, 180, 0, 7, 27, 42, 180, 0, 42, 27]
abbrev dktX2_table_1 : List UInt8 := dkwX2_table_1 ++ dktX2_table_2
def dkwX2_table_0 : List UInt8 := [42, 182, 0, 183, 42, 180, 0, 123, 154, 0, 6, 16, 252, 172, 42, 42, 180, 0, 130, 181, 0, 75, 42, 42]
abbrev dktX2_table_0 : List UInt8 := dkwX2_table_0 ++ dktX2_table_1
theorem dksX2_table_0 : cX2_table.data.toList.drop 0 = dktX2_table_0 := by decide +kernel
theorem dksX2_table_1 : cX2_table.data.toList.drop 24 = dktX2_table_1 := dk_seg dksX2_table_0 24 rfl rfl
theorem dksX2_table_2 : cX2_table.data.toList.drop 48 = dktX2_table_2 := dk_seg dksX2_table_1 24 rfl rfl
theorem dksX2_table_3 : cX2_table.data.toList.drop 70 = dktX2_table_3 := dk_seg dksX2_table_2 22 rfl rfl
theorem dksX2_table_4 : cX2_table.data.toList.drop 94 = dktX2_table_4 := dk_seg dksX2_table_3 24 rfl rfl
theorem dksX2_table_5 : cX2_table.data.toList.drop 118 = dktX2_table_5 := dk_seg dksX2_table_4 24 rfl rfl
theorem dksX2_table_6 : cX2_table.data.toList.drop 142 = dktX2_table_6 := dk_seg dksX2_table_5 24 rfl rfl
theorem dX2_table_0 : decode cX2_table 0 = .ok (.aload_n 0, 1) := dk_42 (dk_at dksX2_table_0 0 rfl rfl)
theorem dX2_table_1 : decode cX2_table 1 = .ok (.invokevirtual 183, 3) := dk_182 0 183 (dk_at dksX2_table_0 1 rfl rfl)
theorem dX2_table_4 : decode cX2_table 4 = .ok (.aload_n 0, 1) := dk_42 (dk_at dksX2_table_0 4 rfl rfl)
theorem dX2_table_5 : decode cX2_table 5 = .ok (.getfield 123, 3) := dk_180 0 123 (dk_at dksX2_table_0 5 rfl rfl)
theorem dX2_table_8 : decode cX2_table 8 = .ok (.ifCond .ne 6, 3) := dk_154 0 6 (dk_at dksX2_table_0 8 rfl rfl)
theorem dX2_table_11 : decode cX2_table 11 = .ok (.bipush (-4), 2) := dk_16 252 (dk_at dksX2_table_0 11 rfl rfl)
theorem dX2_table_13 : decode cX2_table 13 = .ok (.ireturn, 1) := dk_172 (dk_at dksX2_table_0 13 rfl rfl)
theorem dX2_table_14 : decode cX2_table 14 = .ok (.aload_n 0, 1) := dk_42 (dk_at dksX2_table_0 14 rfl rfl)
theorem dX2_table_15 : decode cX2_table 15 = .ok (.aload_n 0, 1) := dk_42 (dk_at dksX2_table_0 15 rfl rfl)
theorem dX2_table_16 : decode cX2_table 16 = .ok (.getfield 130, 3) := dk_180 0 130 (dk_at dksX2_table_0 16 rfl rfl)
theorem dX2_table_19 : decode cX2_table 19 = .ok (.putfield 75, 3) := dk_181 0 75 (dk_at dksX2_table_0 19 rfl rfl)
theorem dX2_table_22 : decode cX2_table 22 = .ok (.aload_n 0, 1) := dk_42 (dk_at dksX2_table_0 22 rfl rfl)
theorem dX2_table_23 : decode cX2_table 23 = .ok (.aload_n 0, 1) := dk_42 (dk_at dksX2_table_0 23 rfl rfl)
theorem dX2_table_24 : decode cX2_table 24 = .ok (.getfield 133, 3) := dk_180 0 133 (dk_at dksX2_table_1 0 rfl rfl)
theorem dX2_table_27 : decode cX2_table 27 = .ok (.putfield 66, 3) := dk_181 0 66 (dk_at dksX2_table_1 3 rfl rfl)
theorem dX2_table_30 : decode cX2_table 30 = .ok (.iconst 0, 1) := dk_3 (dk_at dksX2_table_1 6 rfl rfl)
theorem dX2_table_31 : decode cX2_table 31 = .ok (.istore_n 1, 1) := dk_60 (dk_at dksX2_table_1 7 rfl rfl)
theorem dX2_table_32 : decode cX2_table 32 = .ok (.iload_n 1, 1) := dk_27 (dk_at dksX2_table_1 8 rfl rfl)
theorem dX2_table_33 : decode cX2_table 33 = .ok (.bipush 16, 2) := dk_16 16 (dk_at dksX2_table_1 9 rfl rfl)
theorem dX2_table_35 : decode cX2_table 35 = .ok (.if_icmp .ge 21, 3) := dk_162 0 21 (dk_at dksX2_table_1 11 rfl rfl)
theorem dX2_table_38 : decode cX2_table 38 = .ok (.aload_n 0, 1) := dk_42 (dk_at dksX2_table_1 14 rfl rfl)
theorem dX2_table_39 : decode cX2_table 39 = .ok (.getfield 7, 3) := dk_180 0 7 (dk_at dksX2_table_1 15 rfl rfl)
theorem dX2_table_42 : decode cX2_table 42 = .ok (.iload_n 1, 1) := dk_27 (dk_at dksX2_table_1 18 rfl rfl)
theorem dX2_table_43 : decode cX2_table 43 = .ok (.aload_n 0, 1) := dk_42 (dk_at dksX2_table_1 19 rfl rfl)
theorem dX2_table_44 : decode cX2_table 44 = .ok (.getfield 42, 3) := dk_180 0 42 (dk_at dksX2_table_1 20 rfl rfl)
theorem dX2_table_47 : decode cX2_table 47 = .ok (.iload_n 1, 1) := dk_27 (dk_at dksX2_table_1 23 rfl rfl)
theorem dX2_table_48 : decode cX2_table 48 = .ok (.iaload, 1) := dk_46 (dk_at dksX2_table_2 0 rfl rfl)
theorem dX2_table_49 : decode cX2_table 49 = .ok (.iastore, 1) := dk_79 (dk_at dksX2_table_2 1 rfl rfl)
theorem dX2_table_50 : decode cX2_table 50 = .ok (.iinc 1 1, 3) := dk_132 1 1 (dk_at dksX2_table_2 2 rfl rfl)
theorem dX2_table_53 : decode cX2_table 53 = .ok (.goto (-21), 3) := dk_167 255 235 (dk_at dksX2_table_2 5 rfl rfl)
theorem dX2_table_56 : decode cX2_table 56 = .ok (.iconst 0, 1) := dk_3 (dk_at dksX2_table_2 8 rfl rfl)
theorem dX2_table_57 : decode cX2_table 57 = .ok (.istore_n 1, 1) := dk_60 (dk_at dksX2_table_2 9 rfl rfl)
theorem dX2_table_58 : decode cX2_table 58 = .ok (.iload_n 1, 1) := dk_27 (dk_at dksX2_table_2 10 rfl rfl)
theorem dX2_table_59 : decode cX2_table 59 = .ok (.bipush 18, 2) := dk_16 18 (dk_at dksX2_table_2 11 rfl rfl)
theorem dX2_table_61 : decode cX2_table 61 = .ok (.if_icmp .ge 21, 3) := dk_162 0 21 (dk_at dksX2_table_2 13 rfl rfl)
theorem dX2_table_64 : decode cX2_table 64 = .ok (.aload_n 0, 1) := dk_42 (dk_at dksX2_table_2 16 rfl rfl)
theorem dX2_table_65 : decode cX2_table 65 = .ok (.getfield 13, 3) := dk_180 0 13 (dk_at dksX2_table_2 17 rfl rfl)
theorem dX2_table_68 : decode cX2_table 68 = .ok (.iload_n 1, 1) := dk_27 (dk_at dksX2_table_2 20 rfl rfl)
theorem dX2_table_69 : decode cX2_table 69 = .ok (.aload_n 0, 1) := dk_42 (dk_at dksX2_table_2 21 rfl rfl)
theorem dX2_table_70 : decode cX2_table 70 = .ok (.getfield 45, 3) := dk_180 0 45 (dk_at dksX2_table_3 0 rfl rfl)
theorem dX2_table_73 : decode cX2_table 73 = .ok (.iload_n 1, 1) := dk_27 (dk_at dksX2_table_3 3 rfl rfl)
theorem dX2_table_74 : decode cX2_table 74 = .ok (.iaload, 1) := dk_46 (dk_at dksX2_table_3 4 rfl rfl)
theorem dX2_table_75 : decode cX2_table 75 = .ok (.iastore, 1) := dk_79 (dk_at dksX2_table_3 5 rfl rfl)
theorem dX2_table_76 : decode cX2_table 76 = .ok (.iinc 1 1, 3) := dk_132 1 1 (dk_at dksX2_table_3 6 rfl rfl)
theorem dX2_table_79 : decode cX2_table 79 = .ok (.goto (-21), 3) := dk_167 255 235 (dk_at dksX2_table_3 9 rfl rfl)
theorem dX2_table_82 : decode cX2_table 82 = .ok (.iconst 0, 1) := dk_3 (dk_at dksX2_table_3 12 rfl rfl)
theorem dX2_table_83 : decode cX2_table 83 = .ok (.istore_n 1, 1) := dk_60 (dk_at dksX2_table_3 13 rfl rfl)
theorem dX2_table_84 : decode cX2_table 84 = .ok (.iload_n 1, 1) := dk_27 (dk_at dksX2_table_3 14 rfl rfl)
theorem dX2_table_85 : decode cX2_table 85 = .ok (.bipush 6, 2) := dk_16 6 (dk_at dksX2_table_3 15 rfl rfl)
theorem dX2_table_87 : decode cX2_table 87 = .ok (.if_icmp .ge 21, 3) := dk_162 0 21 (dk_at dksX2_table_3 17 rfl rfl)
theorem dX2_table_90 : decode cX2_table 90 = .ok (.aload_n 0, 1) := dk_42 (dk_at dksX2_table_3 20 rfl rfl)
theorem dX2_table_91 : decode cX2_table 91 = .ok (.getfield 16, 3) := dk_180 0 16 (dk_at dksX2_table_3 21 rfl rfl)
theorem dX2_table_94 : decode cX2_table 94 = .ok (.iload_n 1, 1) := dk_27 (dk_at dksX2_table_4 0 rfl rfl)
theorem dX2_table_95 : decode cX2_table 95 = .ok (.aload_n 0, 1) := dk_42 (dk_at dksX2_table_4 1 rfl rfl)
theorem dX2_table_96 : decode cX2_table 96 = .ok (.getfield 48, 3) := dk_180 0 48 (dk_at dksX2_table_4 2 rfl rfl)
theorem dX2_table_99 : decode cX2_table 99 = .ok (.iload_n 1, 1) := dk_27 (dk_at dksX2_table_4 5 rfl rfl)
theorem dX2_table_100 : decode cX2_table 100 = .ok (.iaload, 1) := dk_46 (dk_at dksX2_table_4 6 rfl rfl)
theorem dX2_table_101 : decode cX2_table 101 = .ok (.iastore, 1) := dk_79 (dk_at dksX2_table_4 7 rfl rfl)
theorem dX2_table_102 : decode cX2_table 102 = .ok (.iinc 1 1, 3) := dk_132 1 1 (dk_at dksX2_table_4 8 rfl rfl)
theorem dX2_table_105 : decode cX2_table 105 = .ok (.goto (-21), 3) := dk_167 255 235 (dk_at dksX2_table_4 11 rfl rfl)
theorem dX2_table_108 : decode cX2_table 108 = .ok (.aload_n 0, 1) := dk_42 (dk_at dksX2_table_4 14 rfl rfl)
theorem dX2_table_109 : decode cX2_table 109 = .ok (.aload_n 0, 1) := dk_42 (dk_at dksX2_table_4 15 rfl rfl)
theorem dX2_table_110 : decode cX2_table 110 = .ok (.getfield 136, 3) := dk_180 0 136 (dk_at dksX2_table_4 16 rfl rfl)
theorem dX2_table_113 : decode cX2_table 113 = .ok (.putfield 171, 3) := dk_181 0 171 (dk_at dksX2_table_4 19 rfl rfl)
theorem dX2_table_116 : decode cX2_table 116 = .ok (.aload_n 0, 1) := dk_42 (dk_at dksX2_table_4 22 rfl rfl)
theorem dX2_table_117 : decode cX2_table 117 = .ok (.aload_n 0, 1) := dk_42 (dk_at dksX2_table_4 23 rfl rfl)
theorem dX2_table_118 : decode cX2_table 118 = .ok (.getfield 139, 3) := dk_180 0 139 (dk_at dksX2_table_5 0 rfl rfl)
theorem dX2_table_121 : decode cX2_table 121 = .ok (.putfield 174, 3) := dk_181 0 174 (dk_at dksX2_table_5 3 rfl rfl)
theorem dX2_table_124 : decode cX2_table 124 = .ok (.aload_n 0, 1) := dk_42 (dk_at dksX2_table_5 6 rfl rfl)
theorem dX2_table_125 : decode cX2_table 125 = .ok (.aload_n 0, 1) := dk_42 (dk_at dksX2_table_5 7 rfl rfl)
theorem dX2_table_126 : decode cX2_table 126 = .ok (.getfield 142, 3) := dk_180 0 142 (dk_at dksX2_table_5 8 rfl rfl)
theorem dX2_table_129 : decode cX2_table 129 = .ok (.putfield 19, 3) := dk_181 0 19 (dk_at dksX2_table_5 11 rfl rfl)
theorem dX2_table_132 : decode cX2_table 132 = .ok (.aload_n 0, 1) := dk_42 (dk_at dksX2_table_5 14 rfl rfl)
theorem dX2_table_133 : decode cX2_table 133 = .ok (.iconst 0, 1) := dk_3 (dk_at dksX2_table_5 15 rfl rfl)
theorem dX2_table_134 : decode cX2_table 134 = .ok (.putfield 90, 3) := dk_181 0 90 (dk_at dksX2_table_5 16 rfl rfl)
theorem dX2_table_137 : decode cX2_table 137 = .ok (.aload_n 0, 1) := dk_42 (dk_at dksX2_table_5 19 rfl rfl)
theorem dX2_table_138 : decode cX2_table 138 = .ok (.invokevirtual 63, 3) := dk_182 0 63 (dk_at dksX2_table_5 20 rfl rfl)
theorem dX2_table_141 : decode cX2_table 141 = .ok (.aload_n 0, 1) := dk_42 (dk_at dksX2_table_5 23 rfl rfl)
theorem dX2_table_142 : decode cX2_table 142 = .ok (.getfield 177, 3) := dk_180 0 177 (dk_at dksX2_table_6 0 rfl rfl)
theorem dX2_table_145 : decode cX2_table 145 = .ok (.ireturn, 1) := dk_172 (dk_at dksX2_table_6 3 rfl rfl)
abbrev cX2_seat : ByteArray := prog_17_method_35_code
def yX2_seat : MethodName := ⟨RX2, "seat", "(II)I"⟩
def dkwX2_seat_3 : List UInt8 := [160, 0, 7, 4, 167, 0, 4, 3, 172, 16, 253, 172]
abbrev dktX2_seat_3 : List UInt8 := dkwX2_seat_3 ++ []
def dkwX2_seat_2 : List UInt8 := [42, 180, 0, 7, 5, 27, 104, 28, 96, 46, 172, 42, 27, 182, 0, 198, 172, 27, 42, 182, 0, 192]
abbrev dktX2_seat_2 : List UInt8 := dkwX2_seat_2 ++ dktX2_seat_3
def dkwX2_seat_1 : List UInt8 := [170, 0, 0, 0, 0, 0, 0, 63, 0, 0, 0, 0, 0, 0, 0, 3, 0, 0, 0, 32, 0, 0, 0, 32, 0, 0, 0, 43, 0, 0, 0, 49]
abbrev dktX2_seat_1 : List UInt8 := dkwX2_seat_1 ++ dktX2_seat_2
def dkwX2_seat_0 : List UInt8 := [42, 27, 182, 0, 195, 154, 0, 6, 16, 254, 172, 28]
abbrev dktX2_seat_0 : List UInt8 := dkwX2_seat_0 ++ dktX2_seat_1
theorem dksX2_seat_0 : cX2_seat.data.toList.drop 0 = dktX2_seat_0 := by decide +kernel
theorem dksX2_seat_1 : cX2_seat.data.toList.drop 12 = dktX2_seat_1 := dk_seg dksX2_seat_0 12 rfl rfl
theorem dksX2_seat_2 : cX2_seat.data.toList.drop 44 = dktX2_seat_2 := dk_seg dksX2_seat_1 32 rfl rfl
theorem dksX2_seat_3 : cX2_seat.data.toList.drop 66 = dktX2_seat_3 := dk_seg dksX2_seat_2 22 rfl rfl
theorem dX2_seat_0 : decode cX2_seat 0 = .ok (.aload_n 0, 1) := dk_42 (dk_at dksX2_seat_0 0 rfl rfl)
theorem dX2_seat_1 : decode cX2_seat 1 = .ok (.iload_n 1, 1) := dk_27 (dk_at dksX2_seat_0 1 rfl rfl)
theorem dX2_seat_2 : decode cX2_seat 2 = .ok (.invokevirtual 195, 3) := dk_182 0 195 (dk_at dksX2_seat_0 2 rfl rfl)
theorem dX2_seat_5 : decode cX2_seat 5 = .ok (.ifCond .ne 6, 3) := dk_154 0 6 (dk_at dksX2_seat_0 5 rfl rfl)
theorem dX2_seat_8 : decode cX2_seat 8 = .ok (.bipush (-2), 2) := dk_16 254 (dk_at dksX2_seat_0 8 rfl rfl)
theorem dX2_seat_10 : decode cX2_seat 10 = .ok (.ireturn, 1) := dk_172 (dk_at dksX2_seat_0 10 rfl rfl)
theorem dX2_seat_11 : decode cX2_seat 11 = .ok (.iload_n 2, 1) := dk_28 (dk_at dksX2_seat_0 11 rfl rfl)
theorem dX2_seat_12 : decode cX2_seat 12 = .ok (.tableswitch 63 0 3 #[32, 32, 43, 49], 32) := by decide +kernel
theorem dX2_seat_44 : decode cX2_seat 44 = .ok (.aload_n 0, 1) := dk_42 (dk_at dksX2_seat_2 0 rfl rfl)
theorem dX2_seat_45 : decode cX2_seat 45 = .ok (.getfield 7, 3) := dk_180 0 7 (dk_at dksX2_seat_2 1 rfl rfl)
theorem dX2_seat_48 : decode cX2_seat 48 = .ok (.iconst 2, 1) := dk_5 (dk_at dksX2_seat_2 4 rfl rfl)
theorem dX2_seat_49 : decode cX2_seat 49 = .ok (.iload_n 1, 1) := dk_27 (dk_at dksX2_seat_2 5 rfl rfl)
theorem dX2_seat_50 : decode cX2_seat 50 = .ok (.imul, 1) := dk_104 (dk_at dksX2_seat_2 6 rfl rfl)
theorem dX2_seat_51 : decode cX2_seat 51 = .ok (.iload_n 2, 1) := dk_28 (dk_at dksX2_seat_2 7 rfl rfl)
theorem dX2_seat_52 : decode cX2_seat 52 = .ok (.iadd, 1) := dk_96 (dk_at dksX2_seat_2 8 rfl rfl)
theorem dX2_seat_53 : decode cX2_seat 53 = .ok (.iaload, 1) := dk_46 (dk_at dksX2_seat_2 9 rfl rfl)
theorem dX2_seat_54 : decode cX2_seat 54 = .ok (.ireturn, 1) := dk_172 (dk_at dksX2_seat_2 10 rfl rfl)
theorem dX2_seat_55 : decode cX2_seat 55 = .ok (.aload_n 0, 1) := dk_42 (dk_at dksX2_seat_2 11 rfl rfl)
theorem dX2_seat_56 : decode cX2_seat 56 = .ok (.iload_n 1, 1) := dk_27 (dk_at dksX2_seat_2 12 rfl rfl)
theorem dX2_seat_57 : decode cX2_seat 57 = .ok (.invokevirtual 198, 3) := dk_182 0 198 (dk_at dksX2_seat_2 13 rfl rfl)
theorem dX2_seat_60 : decode cX2_seat 60 = .ok (.ireturn, 1) := dk_172 (dk_at dksX2_seat_2 16 rfl rfl)
theorem dX2_seat_61 : decode cX2_seat 61 = .ok (.iload_n 1, 1) := dk_27 (dk_at dksX2_seat_2 17 rfl rfl)
theorem dX2_seat_62 : decode cX2_seat 62 = .ok (.aload_n 0, 1) := dk_42 (dk_at dksX2_seat_2 18 rfl rfl)
theorem dX2_seat_63 : decode cX2_seat 63 = .ok (.invokevirtual 192, 3) := dk_182 0 192 (dk_at dksX2_seat_2 19 rfl rfl)
theorem dX2_seat_66 : decode cX2_seat 66 = .ok (.if_icmp .ne 7, 3) := dk_160 0 7 (dk_at dksX2_seat_3 0 rfl rfl)
theorem dX2_seat_69 : decode cX2_seat 69 = .ok (.iconst 1, 1) := dk_4 (dk_at dksX2_seat_3 3 rfl rfl)
theorem dX2_seat_70 : decode cX2_seat 70 = .ok (.goto 4, 3) := dk_167 0 4 (dk_at dksX2_seat_3 4 rfl rfl)
theorem dX2_seat_73 : decode cX2_seat 73 = .ok (.iconst 0, 1) := dk_3 (dk_at dksX2_seat_3 7 rfl rfl)
theorem dX2_seat_74 : decode cX2_seat 74 = .ok (.ireturn, 1) := dk_172 (dk_at dksX2_seat_3 8 rfl rfl)
theorem dX2_seat_75 : decode cX2_seat 75 = .ok (.bipush (-3), 2) := dk_16 253 (dk_at dksX2_seat_3 9 rfl rfl)
theorem dX2_seat_77 : decode cX2_seat 77 = .ok (.ireturn, 1) := dk_172 (dk_at dksX2_seat_3 11 rfl rfl)
abbrev cX2_isSeat : ByteArray := prog_17_method_7_code
def yX2_isSeat : MethodName := ⟨RX2, "isSeat", "(I)Z"⟩
def dkwX2_isSeat_0 : List UInt8 := [27, 3, 42, 180, 0, 75, 4, 100, 184, 0, 78, 172]
abbrev dktX2_isSeat_0 : List UInt8 := dkwX2_isSeat_0 ++ []
theorem dksX2_isSeat_0 : cX2_isSeat.data.toList.drop 0 = dktX2_isSeat_0 := by decide +kernel
theorem dX2_isSeat_0 : decode cX2_isSeat 0 = .ok (.iload_n 1, 1) := dk_27 (dk_at dksX2_isSeat_0 0 rfl rfl)
theorem dX2_isSeat_1 : decode cX2_isSeat 1 = .ok (.iconst 0, 1) := dk_3 (dk_at dksX2_isSeat_0 1 rfl rfl)
theorem dX2_isSeat_2 : decode cX2_isSeat 2 = .ok (.aload_n 0, 1) := dk_42 (dk_at dksX2_isSeat_0 2 rfl rfl)
theorem dX2_isSeat_3 : decode cX2_isSeat 3 = .ok (.getfield 75, 3) := dk_180 0 75 (dk_at dksX2_isSeat_0 3 rfl rfl)
theorem dX2_isSeat_6 : decode cX2_isSeat 6 = .ok (.iconst 1, 1) := dk_4 (dk_at dksX2_isSeat_0 6 rfl rfl)
theorem dX2_isSeat_7 : decode cX2_isSeat 7 = .ok (.isub, 1) := dk_100 (dk_at dksX2_isSeat_0 7 rfl rfl)
theorem dX2_isSeat_8 : decode cX2_isSeat 8 = .ok (.invokestatic 78, 3) := dk_184 0 78 (dk_at dksX2_isSeat_0 8 rfl rfl)
theorem dX2_isSeat_11 : decode cX2_isSeat 11 = .ok (.ireturn, 1) := dk_172 (dk_at dksX2_isSeat_0 11 rfl rfl)
abbrev cX2_sitter : ByteArray := prog_17_method_34_code
def yX2_sitter : MethodName := ⟨RX2, "sitter", "(I)I"⟩
def dkwX2_sitter_1 : List UInt8 := [160, 0, 7, 29, 167, 0, 4, 28, 61, 132, 3, 1, 167, 255, 226, 28, 172]
abbrev dktX2_sitter_1 : List UInt8 := dkwX2_sitter_1 ++ []
def dkwX2_sitter_0 : List UInt8 := [2, 61, 3, 62, 29, 42, 180, 0, 66, 162, 0, 28, 42, 180, 0, 23, 16, 14, 29, 96, 46, 27]
abbrev dktX2_sitter_0 : List UInt8 := dkwX2_sitter_0 ++ dktX2_sitter_1
theorem dksX2_sitter_0 : cX2_sitter.data.toList.drop 0 = dktX2_sitter_0 := by decide +kernel
theorem dksX2_sitter_1 : cX2_sitter.data.toList.drop 22 = dktX2_sitter_1 := dk_seg dksX2_sitter_0 22 rfl rfl
theorem dX2_sitter_0 : decode cX2_sitter 0 = .ok (.iconst (-1), 1) := dk_2 (dk_at dksX2_sitter_0 0 rfl rfl)
theorem dX2_sitter_1 : decode cX2_sitter 1 = .ok (.istore_n 2, 1) := dk_61 (dk_at dksX2_sitter_0 1 rfl rfl)
theorem dX2_sitter_2 : decode cX2_sitter 2 = .ok (.iconst 0, 1) := dk_3 (dk_at dksX2_sitter_0 2 rfl rfl)
theorem dX2_sitter_3 : decode cX2_sitter 3 = .ok (.istore_n 3, 1) := dk_62 (dk_at dksX2_sitter_0 3 rfl rfl)
theorem dX2_sitter_4 : decode cX2_sitter 4 = .ok (.iload_n 3, 1) := dk_29 (dk_at dksX2_sitter_0 4 rfl rfl)
theorem dX2_sitter_5 : decode cX2_sitter 5 = .ok (.aload_n 0, 1) := dk_42 (dk_at dksX2_sitter_0 5 rfl rfl)
theorem dX2_sitter_6 : decode cX2_sitter 6 = .ok (.getfield 66, 3) := dk_180 0 66 (dk_at dksX2_sitter_0 6 rfl rfl)
theorem dX2_sitter_9 : decode cX2_sitter 9 = .ok (.if_icmp .ge 28, 3) := dk_162 0 28 (dk_at dksX2_sitter_0 9 rfl rfl)
theorem dX2_sitter_12 : decode cX2_sitter 12 = .ok (.aload_n 0, 1) := dk_42 (dk_at dksX2_sitter_0 12 rfl rfl)
theorem dX2_sitter_13 : decode cX2_sitter 13 = .ok (.getfield 23, 3) := dk_180 0 23 (dk_at dksX2_sitter_0 13 rfl rfl)
theorem dX2_sitter_16 : decode cX2_sitter 16 = .ok (.bipush 14, 2) := dk_16 14 (dk_at dksX2_sitter_0 16 rfl rfl)
theorem dX2_sitter_18 : decode cX2_sitter 18 = .ok (.iload_n 3, 1) := dk_29 (dk_at dksX2_sitter_0 18 rfl rfl)
theorem dX2_sitter_19 : decode cX2_sitter 19 = .ok (.iadd, 1) := dk_96 (dk_at dksX2_sitter_0 19 rfl rfl)
theorem dX2_sitter_20 : decode cX2_sitter 20 = .ok (.iaload, 1) := dk_46 (dk_at dksX2_sitter_0 20 rfl rfl)
theorem dX2_sitter_21 : decode cX2_sitter 21 = .ok (.iload_n 1, 1) := dk_27 (dk_at dksX2_sitter_0 21 rfl rfl)
theorem dX2_sitter_22 : decode cX2_sitter 22 = .ok (.if_icmp .ne 7, 3) := dk_160 0 7 (dk_at dksX2_sitter_1 0 rfl rfl)
theorem dX2_sitter_25 : decode cX2_sitter 25 = .ok (.iload_n 3, 1) := dk_29 (dk_at dksX2_sitter_1 3 rfl rfl)
theorem dX2_sitter_26 : decode cX2_sitter 26 = .ok (.goto 4, 3) := dk_167 0 4 (dk_at dksX2_sitter_1 4 rfl rfl)
theorem dX2_sitter_29 : decode cX2_sitter 29 = .ok (.iload_n 2, 1) := dk_28 (dk_at dksX2_sitter_1 7 rfl rfl)
theorem dX2_sitter_30 : decode cX2_sitter 30 = .ok (.istore_n 2, 1) := dk_61 (dk_at dksX2_sitter_1 8 rfl rfl)
theorem dX2_sitter_31 : decode cX2_sitter 31 = .ok (.iinc 3 1, 3) := dk_132 3 1 (dk_at dksX2_sitter_1 9 rfl rfl)
theorem dX2_sitter_34 : decode cX2_sitter 34 = .ok (.goto (-30), 3) := dk_167 255 226 (dk_at dksX2_sitter_1 12 rfl rfl)
theorem dX2_sitter_37 : decode cX2_sitter 37 = .ok (.iload_n 2, 1) := dk_28 (dk_at dksX2_sitter_1 15 rfl rfl)
theorem dX2_sitter_38 : decode cX2_sitter 38 = .ok (.ireturn, 1) := dk_172 (dk_at dksX2_sitter_1 16 rfl rfl)
abbrev cX2_perilOn : ByteArray := prog_17_method_32_code
def yX2_perilOn : MethodName := ⟨RX2, "perilOn", "()I"⟩
def dkwX2_perilOn_1 : List UInt8 := [46, 104, 96, 42, 180, 0, 75, 112, 172]
abbrev dktX2_perilOn_1 : List UInt8 := dkwX2_perilOn_1 ++ []
def dkwX2_perilOn_0 : List UInt8 := [42, 180, 0, 75, 154, 0, 7, 2, 167, 0, 24, 42, 180, 0, 171, 42, 180, 0, 174, 42, 180, 0, 23, 3]
abbrev dktX2_perilOn_0 : List UInt8 := dkwX2_perilOn_0 ++ dktX2_perilOn_1
theorem dksX2_perilOn_0 : cX2_perilOn.data.toList.drop 0 = dktX2_perilOn_0 := by decide +kernel
theorem dksX2_perilOn_1 : cX2_perilOn.data.toList.drop 24 = dktX2_perilOn_1 := dk_seg dksX2_perilOn_0 24 rfl rfl
theorem dX2_perilOn_0 : decode cX2_perilOn 0 = .ok (.aload_n 0, 1) := dk_42 (dk_at dksX2_perilOn_0 0 rfl rfl)
theorem dX2_perilOn_1 : decode cX2_perilOn 1 = .ok (.getfield 75, 3) := dk_180 0 75 (dk_at dksX2_perilOn_0 1 rfl rfl)
theorem dX2_perilOn_4 : decode cX2_perilOn 4 = .ok (.ifCond .ne 7, 3) := dk_154 0 7 (dk_at dksX2_perilOn_0 4 rfl rfl)
theorem dX2_perilOn_7 : decode cX2_perilOn 7 = .ok (.iconst (-1), 1) := dk_2 (dk_at dksX2_perilOn_0 7 rfl rfl)
theorem dX2_perilOn_8 : decode cX2_perilOn 8 = .ok (.goto 24, 3) := dk_167 0 24 (dk_at dksX2_perilOn_0 8 rfl rfl)
theorem dX2_perilOn_11 : decode cX2_perilOn 11 = .ok (.aload_n 0, 1) := dk_42 (dk_at dksX2_perilOn_0 11 rfl rfl)
theorem dX2_perilOn_12 : decode cX2_perilOn 12 = .ok (.getfield 171, 3) := dk_180 0 171 (dk_at dksX2_perilOn_0 12 rfl rfl)
theorem dX2_perilOn_15 : decode cX2_perilOn 15 = .ok (.aload_n 0, 1) := dk_42 (dk_at dksX2_perilOn_0 15 rfl rfl)
theorem dX2_perilOn_16 : decode cX2_perilOn 16 = .ok (.getfield 174, 3) := dk_180 0 174 (dk_at dksX2_perilOn_0 16 rfl rfl)
theorem dX2_perilOn_19 : decode cX2_perilOn 19 = .ok (.aload_n 0, 1) := dk_42 (dk_at dksX2_perilOn_0 19 rfl rfl)
theorem dX2_perilOn_20 : decode cX2_perilOn 20 = .ok (.getfield 23, 3) := dk_180 0 23 (dk_at dksX2_perilOn_0 20 rfl rfl)
theorem dX2_perilOn_23 : decode cX2_perilOn 23 = .ok (.iconst 0, 1) := dk_3 (dk_at dksX2_perilOn_0 23 rfl rfl)
theorem dX2_perilOn_24 : decode cX2_perilOn 24 = .ok (.iaload, 1) := dk_46 (dk_at dksX2_perilOn_1 0 rfl rfl)
theorem dX2_perilOn_25 : decode cX2_perilOn 25 = .ok (.imul, 1) := dk_104 (dk_at dksX2_perilOn_1 1 rfl rfl)
theorem dX2_perilOn_26 : decode cX2_perilOn 26 = .ok (.iadd, 1) := dk_96 (dk_at dksX2_perilOn_1 2 rfl rfl)
theorem dX2_perilOn_27 : decode cX2_perilOn 27 = .ok (.aload_n 0, 1) := dk_42 (dk_at dksX2_perilOn_1 3 rfl rfl)
theorem dX2_perilOn_28 : decode cX2_perilOn 28 = .ok (.getfield 75, 3) := dk_180 0 75 (dk_at dksX2_perilOn_1 4 rfl rfl)
theorem dX2_perilOn_31 : decode cX2_perilOn 31 = .ok (.irem, 1) := dk_112 (dk_at dksX2_perilOn_1 7 rfl rfl)
theorem dX2_perilOn_32 : decode cX2_perilOn 32 = .ok (.ireturn, 1) := dk_172 (dk_at dksX2_perilOn_1 8 rfl rfl)
abbrev cX2_knight : ByteArray := prog_17_method_36_code
def yX2_knight : MethodName := ⟨RX2, "knight", "(II)I"⟩
def dkwX2_knight_5 : List UInt8 := [16, 14, 27, 96, 46, 172, 16, 253, 172]
abbrev dktX2_knight_5 : List UInt8 := dkwX2_knight_5 ++ []
def dkwX2_knight_4 : List UInt8 := [153, 0, 7, 4, 167, 0, 4, 3, 172, 42, 180, 0, 23, 16, 8, 27, 96, 46, 172, 42, 180, 0, 23]
abbrev dktX2_knight_4 : List UInt8 := dkwX2_knight_4 ++ dktX2_knight_5
def dkwX2_knight_3 : List UInt8 := [104, 5, 96, 46, 172, 42, 180, 0, 16, 27, 46, 172, 42, 180, 0, 23, 4, 46, 27, 184, 0, 86]
abbrev dktX2_knight_3 : List UInt8 := dkwX2_knight_3 ++ dktX2_knight_4
def dkwX2_knight_2 : List UInt8 := [42, 180, 0, 13, 6, 27, 104, 46, 172, 42, 180, 0, 23, 5, 27, 96, 46, 172, 42, 180, 0, 13, 6, 27]
abbrev dktX2_knight_2 : List UInt8 := dkwX2_knight_2 ++ dktX2_knight_3
def dkwX2_knight_1 : List UInt8 := [170, 0, 0, 0, 0, 0, 0, 119, 0, 0, 0, 0, 0, 0, 0, 6, 0, 0, 0, 44, 0, 0, 0, 53, 0, 0, 0, 62, 0, 0, 0, 73, 0, 0, 0, 80, 0, 0, 0, 99, 0, 0, 0, 109]
abbrev dktX2_knight_1 : List UInt8 := dkwX2_knight_1 ++ dktX2_knight_2
def dkwX2_knight_0 : List UInt8 := [42, 27, 182, 0, 82, 154, 0, 6, 16, 254, 172, 28]
abbrev dktX2_knight_0 : List UInt8 := dkwX2_knight_0 ++ dktX2_knight_1
theorem dksX2_knight_0 : cX2_knight.data.toList.drop 0 = dktX2_knight_0 := by decide +kernel
theorem dksX2_knight_1 : cX2_knight.data.toList.drop 12 = dktX2_knight_1 := dk_seg dksX2_knight_0 12 rfl rfl
theorem dksX2_knight_2 : cX2_knight.data.toList.drop 56 = dktX2_knight_2 := dk_seg dksX2_knight_1 44 rfl rfl
theorem dksX2_knight_3 : cX2_knight.data.toList.drop 80 = dktX2_knight_3 := dk_seg dksX2_knight_2 24 rfl rfl
theorem dksX2_knight_4 : cX2_knight.data.toList.drop 102 = dktX2_knight_4 := dk_seg dksX2_knight_3 22 rfl rfl
theorem dksX2_knight_5 : cX2_knight.data.toList.drop 125 = dktX2_knight_5 := dk_seg dksX2_knight_4 23 rfl rfl
theorem dX2_knight_0 : decode cX2_knight 0 = .ok (.aload_n 0, 1) := dk_42 (dk_at dksX2_knight_0 0 rfl rfl)
theorem dX2_knight_1 : decode cX2_knight 1 = .ok (.iload_n 1, 1) := dk_27 (dk_at dksX2_knight_0 1 rfl rfl)
theorem dX2_knight_2 : decode cX2_knight 2 = .ok (.invokevirtual 82, 3) := dk_182 0 82 (dk_at dksX2_knight_0 2 rfl rfl)
theorem dX2_knight_5 : decode cX2_knight 5 = .ok (.ifCond .ne 6, 3) := dk_154 0 6 (dk_at dksX2_knight_0 5 rfl rfl)
theorem dX2_knight_8 : decode cX2_knight 8 = .ok (.bipush (-2), 2) := dk_16 254 (dk_at dksX2_knight_0 8 rfl rfl)
theorem dX2_knight_10 : decode cX2_knight 10 = .ok (.ireturn, 1) := dk_172 (dk_at dksX2_knight_0 10 rfl rfl)
theorem dX2_knight_11 : decode cX2_knight 11 = .ok (.iload_n 2, 1) := dk_28 (dk_at dksX2_knight_0 11 rfl rfl)
theorem dX2_knight_12 : decode cX2_knight 12 = .ok (.tableswitch 119 0 6 #[44, 53, 62, 73, 80, 99, 109], 44) := by decide +kernel
theorem dX2_knight_56 : decode cX2_knight 56 = .ok (.aload_n 0, 1) := dk_42 (dk_at dksX2_knight_2 0 rfl rfl)
theorem dX2_knight_57 : decode cX2_knight 57 = .ok (.getfield 13, 3) := dk_180 0 13 (dk_at dksX2_knight_2 1 rfl rfl)
theorem dX2_knight_60 : decode cX2_knight 60 = .ok (.iconst 3, 1) := dk_6 (dk_at dksX2_knight_2 4 rfl rfl)
theorem dX2_knight_61 : decode cX2_knight 61 = .ok (.iload_n 1, 1) := dk_27 (dk_at dksX2_knight_2 5 rfl rfl)
theorem dX2_knight_62 : decode cX2_knight 62 = .ok (.imul, 1) := dk_104 (dk_at dksX2_knight_2 6 rfl rfl)
theorem dX2_knight_63 : decode cX2_knight 63 = .ok (.iaload, 1) := dk_46 (dk_at dksX2_knight_2 7 rfl rfl)
theorem dX2_knight_64 : decode cX2_knight 64 = .ok (.ireturn, 1) := dk_172 (dk_at dksX2_knight_2 8 rfl rfl)
theorem dX2_knight_65 : decode cX2_knight 65 = .ok (.aload_n 0, 1) := dk_42 (dk_at dksX2_knight_2 9 rfl rfl)
theorem dX2_knight_66 : decode cX2_knight 66 = .ok (.getfield 23, 3) := dk_180 0 23 (dk_at dksX2_knight_2 10 rfl rfl)
theorem dX2_knight_69 : decode cX2_knight 69 = .ok (.iconst 2, 1) := dk_5 (dk_at dksX2_knight_2 13 rfl rfl)
theorem dX2_knight_70 : decode cX2_knight 70 = .ok (.iload_n 1, 1) := dk_27 (dk_at dksX2_knight_2 14 rfl rfl)
theorem dX2_knight_71 : decode cX2_knight 71 = .ok (.iadd, 1) := dk_96 (dk_at dksX2_knight_2 15 rfl rfl)
theorem dX2_knight_72 : decode cX2_knight 72 = .ok (.iaload, 1) := dk_46 (dk_at dksX2_knight_2 16 rfl rfl)
theorem dX2_knight_73 : decode cX2_knight 73 = .ok (.ireturn, 1) := dk_172 (dk_at dksX2_knight_2 17 rfl rfl)
theorem dX2_knight_74 : decode cX2_knight 74 = .ok (.aload_n 0, 1) := dk_42 (dk_at dksX2_knight_2 18 rfl rfl)
theorem dX2_knight_75 : decode cX2_knight 75 = .ok (.getfield 13, 3) := dk_180 0 13 (dk_at dksX2_knight_2 19 rfl rfl)
theorem dX2_knight_78 : decode cX2_knight 78 = .ok (.iconst 3, 1) := dk_6 (dk_at dksX2_knight_2 22 rfl rfl)
theorem dX2_knight_79 : decode cX2_knight 79 = .ok (.iload_n 1, 1) := dk_27 (dk_at dksX2_knight_2 23 rfl rfl)
theorem dX2_knight_80 : decode cX2_knight 80 = .ok (.imul, 1) := dk_104 (dk_at dksX2_knight_3 0 rfl rfl)
theorem dX2_knight_81 : decode cX2_knight 81 = .ok (.iconst 2, 1) := dk_5 (dk_at dksX2_knight_3 1 rfl rfl)
theorem dX2_knight_82 : decode cX2_knight 82 = .ok (.iadd, 1) := dk_96 (dk_at dksX2_knight_3 2 rfl rfl)
theorem dX2_knight_83 : decode cX2_knight 83 = .ok (.iaload, 1) := dk_46 (dk_at dksX2_knight_3 3 rfl rfl)
theorem dX2_knight_84 : decode cX2_knight 84 = .ok (.ireturn, 1) := dk_172 (dk_at dksX2_knight_3 4 rfl rfl)
theorem dX2_knight_85 : decode cX2_knight 85 = .ok (.aload_n 0, 1) := dk_42 (dk_at dksX2_knight_3 5 rfl rfl)
theorem dX2_knight_86 : decode cX2_knight 86 = .ok (.getfield 16, 3) := dk_180 0 16 (dk_at dksX2_knight_3 6 rfl rfl)
theorem dX2_knight_89 : decode cX2_knight 89 = .ok (.iload_n 1, 1) := dk_27 (dk_at dksX2_knight_3 9 rfl rfl)
theorem dX2_knight_90 : decode cX2_knight 90 = .ok (.iaload, 1) := dk_46 (dk_at dksX2_knight_3 10 rfl rfl)
theorem dX2_knight_91 : decode cX2_knight 91 = .ok (.ireturn, 1) := dk_172 (dk_at dksX2_knight_3 11 rfl rfl)
theorem dX2_knight_92 : decode cX2_knight 92 = .ok (.aload_n 0, 1) := dk_42 (dk_at dksX2_knight_3 12 rfl rfl)
theorem dX2_knight_93 : decode cX2_knight 93 = .ok (.getfield 23, 3) := dk_180 0 23 (dk_at dksX2_knight_3 13 rfl rfl)
theorem dX2_knight_96 : decode cX2_knight 96 = .ok (.iconst 1, 1) := dk_4 (dk_at dksX2_knight_3 16 rfl rfl)
theorem dX2_knight_97 : decode cX2_knight 97 = .ok (.iaload, 1) := dk_46 (dk_at dksX2_knight_3 17 rfl rfl)
theorem dX2_knight_98 : decode cX2_knight 98 = .ok (.iload_n 1, 1) := dk_27 (dk_at dksX2_knight_3 18 rfl rfl)
theorem dX2_knight_99 : decode cX2_knight 99 = .ok (.invokestatic 86, 3) := dk_184 0 86 (dk_at dksX2_knight_3 19 rfl rfl)
theorem dX2_knight_102 : decode cX2_knight 102 = .ok (.ifCond .eq 7, 3) := dk_153 0 7 (dk_at dksX2_knight_4 0 rfl rfl)
theorem dX2_knight_105 : decode cX2_knight 105 = .ok (.iconst 1, 1) := dk_4 (dk_at dksX2_knight_4 3 rfl rfl)
theorem dX2_knight_106 : decode cX2_knight 106 = .ok (.goto 4, 3) := dk_167 0 4 (dk_at dksX2_knight_4 4 rfl rfl)
theorem dX2_knight_109 : decode cX2_knight 109 = .ok (.iconst 0, 1) := dk_3 (dk_at dksX2_knight_4 7 rfl rfl)
theorem dX2_knight_110 : decode cX2_knight 110 = .ok (.ireturn, 1) := dk_172 (dk_at dksX2_knight_4 8 rfl rfl)
theorem dX2_knight_111 : decode cX2_knight 111 = .ok (.aload_n 0, 1) := dk_42 (dk_at dksX2_knight_4 9 rfl rfl)
theorem dX2_knight_112 : decode cX2_knight 112 = .ok (.getfield 23, 3) := dk_180 0 23 (dk_at dksX2_knight_4 10 rfl rfl)
theorem dX2_knight_115 : decode cX2_knight 115 = .ok (.bipush 8, 2) := dk_16 8 (dk_at dksX2_knight_4 13 rfl rfl)
theorem dX2_knight_117 : decode cX2_knight 117 = .ok (.iload_n 1, 1) := dk_27 (dk_at dksX2_knight_4 15 rfl rfl)
theorem dX2_knight_118 : decode cX2_knight 118 = .ok (.iadd, 1) := dk_96 (dk_at dksX2_knight_4 16 rfl rfl)
theorem dX2_knight_119 : decode cX2_knight 119 = .ok (.iaload, 1) := dk_46 (dk_at dksX2_knight_4 17 rfl rfl)
theorem dX2_knight_120 : decode cX2_knight 120 = .ok (.ireturn, 1) := dk_172 (dk_at dksX2_knight_4 18 rfl rfl)
theorem dX2_knight_121 : decode cX2_knight 121 = .ok (.aload_n 0, 1) := dk_42 (dk_at dksX2_knight_4 19 rfl rfl)
theorem dX2_knight_122 : decode cX2_knight 122 = .ok (.getfield 23, 3) := dk_180 0 23 (dk_at dksX2_knight_4 20 rfl rfl)
theorem dX2_knight_125 : decode cX2_knight 125 = .ok (.bipush 14, 2) := dk_16 14 (dk_at dksX2_knight_5 0 rfl rfl)
theorem dX2_knight_127 : decode cX2_knight 127 = .ok (.iload_n 1, 1) := dk_27 (dk_at dksX2_knight_5 2 rfl rfl)
theorem dX2_knight_128 : decode cX2_knight 128 = .ok (.iadd, 1) := dk_96 (dk_at dksX2_knight_5 3 rfl rfl)
theorem dX2_knight_129 : decode cX2_knight 129 = .ok (.iaload, 1) := dk_46 (dk_at dksX2_knight_5 4 rfl rfl)
theorem dX2_knight_130 : decode cX2_knight 130 = .ok (.ireturn, 1) := dk_172 (dk_at dksX2_knight_5 5 rfl rfl)
theorem dX2_knight_131 : decode cX2_knight 131 = .ok (.bipush (-3), 2) := dk_16 253 (dk_at dksX2_knight_5 6 rfl rfl)
theorem dX2_knight_133 : decode cX2_knight 133 = .ok (.ireturn, 1) := dk_172 (dk_at dksX2_knight_5 8 rfl rfl)
abbrev cX2_isKnight : ByteArray := prog_17_method_8_code
def yX2_isKnight : MethodName := ⟨RX2, "isKnight", "(I)Z"⟩
def dkwX2_isKnight_0 : List UInt8 := [27, 3, 42, 180, 0, 66, 4, 100, 184, 0, 78, 172]
abbrev dktX2_isKnight_0 : List UInt8 := dkwX2_isKnight_0 ++ []
theorem dksX2_isKnight_0 : cX2_isKnight.data.toList.drop 0 = dktX2_isKnight_0 := by decide +kernel
theorem dX2_isKnight_0 : decode cX2_isKnight 0 = .ok (.iload_n 1, 1) := dk_27 (dk_at dksX2_isKnight_0 0 rfl rfl)
theorem dX2_isKnight_1 : decode cX2_isKnight 1 = .ok (.iconst 0, 1) := dk_3 (dk_at dksX2_isKnight_0 1 rfl rfl)
theorem dX2_isKnight_2 : decode cX2_isKnight 2 = .ok (.aload_n 0, 1) := dk_42 (dk_at dksX2_isKnight_0 2 rfl rfl)
theorem dX2_isKnight_3 : decode cX2_isKnight 3 = .ok (.getfield 66, 3) := dk_180 0 66 (dk_at dksX2_isKnight_0 3 rfl rfl)
theorem dX2_isKnight_6 : decode cX2_isKnight 6 = .ok (.iconst 1, 1) := dk_4 (dk_at dksX2_isKnight_0 6 rfl rfl)
theorem dX2_isKnight_7 : decode cX2_isKnight 7 = .ok (.isub, 1) := dk_100 (dk_at dksX2_isKnight_0 7 rfl rfl)
theorem dX2_isKnight_8 : decode cX2_isKnight 8 = .ok (.invokestatic 78, 3) := dk_184 0 78 (dk_at dksX2_isKnight_0 8 rfl rfl)
theorem dX2_isKnight_11 : decode cX2_isKnight 11 = .ok (.ireturn, 1) := dk_172 (dk_at dksX2_isKnight_0 11 rfl rfl)
abbrev cX2_has : ByteArray := prog_17_method_5_code
def yX2_has : MethodName := ⟨RX2, "has", "(II)Z"⟩
def dkwX2_has_0 : List UInt8 := [26, 27, 122, 4, 126, 4, 160, 0, 7, 4, 167, 0, 4, 3, 172]
abbrev dktX2_has_0 : List UInt8 := dkwX2_has_0 ++ []
theorem dksX2_has_0 : cX2_has.data.toList.drop 0 = dktX2_has_0 := by decide +kernel
theorem dX2_has_0 : decode cX2_has 0 = .ok (.iload_n 0, 1) := dk_26 (dk_at dksX2_has_0 0 rfl rfl)
theorem dX2_has_1 : decode cX2_has 1 = .ok (.iload_n 1, 1) := dk_27 (dk_at dksX2_has_0 1 rfl rfl)
theorem dX2_has_2 : decode cX2_has 2 = .ok (.ishr, 1) := dk_122 (dk_at dksX2_has_0 2 rfl rfl)
theorem dX2_has_3 : decode cX2_has 3 = .ok (.iconst 1, 1) := dk_4 (dk_at dksX2_has_0 3 rfl rfl)
theorem dX2_has_4 : decode cX2_has 4 = .ok (.iand, 1) := dk_126 (dk_at dksX2_has_0 4 rfl rfl)
theorem dX2_has_5 : decode cX2_has 5 = .ok (.iconst 1, 1) := dk_4 (dk_at dksX2_has_0 5 rfl rfl)
theorem dX2_has_6 : decode cX2_has 6 = .ok (.if_icmp .ne 7, 3) := dk_160 0 7 (dk_at dksX2_has_0 6 rfl rfl)
theorem dX2_has_9 : decode cX2_has 9 = .ok (.iconst 1, 1) := dk_4 (dk_at dksX2_has_0 9 rfl rfl)
theorem dX2_has_10 : decode cX2_has 10 = .ok (.goto 4, 3) := dk_167 0 4 (dk_at dksX2_has_0 10 rfl rfl)
theorem dX2_has_13 : decode cX2_has 13 = .ok (.iconst 0, 1) := dk_3 (dk_at dksX2_has_0 13 rfl rfl)
theorem dX2_has_14 : decode cX2_has 14 = .ok (.ireturn, 1) := dk_172 (dk_at dksX2_has_0 14 rfl rfl)
abbrev cX2_as : ByteArray := prog_17_method_37_code
def yX2_as : MethodName := ⟨RX2, "as", "(II)I"⟩
def dkwX2_as_4 : List UInt8 := [132, 5, 1, 167, 255, 221, 21, 4, 172]
abbrev dktX2_as_4 : List UInt8 := dkwX2_as_4 ++ []
def dkwX2_as_3 : List UInt8 := [21, 4, 42, 27, 21, 5, 182, 0, 189, 153, 0, 10, 4, 21, 5, 120, 167, 0, 4, 3, 128, 54, 4]
abbrev dktX2_as_3 : List UInt8 := dkwX2_as_3 ++ dktX2_as_4
def dkwX2_as_2 : List UInt8 := [29, 5, 159, 0, 6, 16, 252, 172, 3, 54, 4, 3, 54, 5, 21, 5, 42, 180, 0, 75, 162, 0, 32]
abbrev dktX2_as_2 : List UInt8 := dkwX2_as_2 ++ dktX2_as_3
def dkwX2_as_1 : List UInt8 := [180, 0, 13, 6, 27, 104, 46, 62, 28, 153, 0, 23, 28, 29, 4, 96, 159, 0, 16, 28, 4, 160, 0, 8]
abbrev dktX2_as_1 : List UInt8 := dkwX2_as_1 ++ dktX2_as_2
def dkwX2_as_0 : List UInt8 := [42, 27, 182, 0, 82, 154, 0, 6, 16, 254, 172, 28, 3, 6, 184, 0, 78, 154, 0, 6, 16, 253, 172, 42]
abbrev dktX2_as_0 : List UInt8 := dkwX2_as_0 ++ dktX2_as_1
theorem dksX2_as_0 : cX2_as.data.toList.drop 0 = dktX2_as_0 := by decide +kernel
theorem dksX2_as_1 : cX2_as.data.toList.drop 24 = dktX2_as_1 := dk_seg dksX2_as_0 24 rfl rfl
theorem dksX2_as_2 : cX2_as.data.toList.drop 48 = dktX2_as_2 := dk_seg dksX2_as_1 24 rfl rfl
theorem dksX2_as_3 : cX2_as.data.toList.drop 71 = dktX2_as_3 := dk_seg dksX2_as_2 23 rfl rfl
theorem dksX2_as_4 : cX2_as.data.toList.drop 94 = dktX2_as_4 := dk_seg dksX2_as_3 23 rfl rfl
theorem dX2_as_0 : decode cX2_as 0 = .ok (.aload_n 0, 1) := dk_42 (dk_at dksX2_as_0 0 rfl rfl)
theorem dX2_as_1 : decode cX2_as 1 = .ok (.iload_n 1, 1) := dk_27 (dk_at dksX2_as_0 1 rfl rfl)
theorem dX2_as_2 : decode cX2_as 2 = .ok (.invokevirtual 82, 3) := dk_182 0 82 (dk_at dksX2_as_0 2 rfl rfl)
theorem dX2_as_5 : decode cX2_as 5 = .ok (.ifCond .ne 6, 3) := dk_154 0 6 (dk_at dksX2_as_0 5 rfl rfl)
theorem dX2_as_8 : decode cX2_as 8 = .ok (.bipush (-2), 2) := dk_16 254 (dk_at dksX2_as_0 8 rfl rfl)
theorem dX2_as_10 : decode cX2_as 10 = .ok (.ireturn, 1) := dk_172 (dk_at dksX2_as_0 10 rfl rfl)
theorem dX2_as_11 : decode cX2_as 11 = .ok (.iload_n 2, 1) := dk_28 (dk_at dksX2_as_0 11 rfl rfl)
theorem dX2_as_12 : decode cX2_as 12 = .ok (.iconst 0, 1) := dk_3 (dk_at dksX2_as_0 12 rfl rfl)
theorem dX2_as_13 : decode cX2_as 13 = .ok (.iconst 3, 1) := dk_6 (dk_at dksX2_as_0 13 rfl rfl)
theorem dX2_as_14 : decode cX2_as 14 = .ok (.invokestatic 78, 3) := dk_184 0 78 (dk_at dksX2_as_0 14 rfl rfl)
theorem dX2_as_17 : decode cX2_as 17 = .ok (.ifCond .ne 6, 3) := dk_154 0 6 (dk_at dksX2_as_0 17 rfl rfl)
theorem dX2_as_20 : decode cX2_as 20 = .ok (.bipush (-3), 2) := dk_16 253 (dk_at dksX2_as_0 20 rfl rfl)
theorem dX2_as_22 : decode cX2_as 22 = .ok (.ireturn, 1) := dk_172 (dk_at dksX2_as_0 22 rfl rfl)
theorem dX2_as_23 : decode cX2_as 23 = .ok (.aload_n 0, 1) := dk_42 (dk_at dksX2_as_0 23 rfl rfl)
theorem dX2_as_24 : decode cX2_as 24 = .ok (.getfield 13, 3) := dk_180 0 13 (dk_at dksX2_as_1 0 rfl rfl)
theorem dX2_as_27 : decode cX2_as 27 = .ok (.iconst 3, 1) := dk_6 (dk_at dksX2_as_1 3 rfl rfl)
theorem dX2_as_28 : decode cX2_as 28 = .ok (.iload_n 1, 1) := dk_27 (dk_at dksX2_as_1 4 rfl rfl)
theorem dX2_as_29 : decode cX2_as 29 = .ok (.imul, 1) := dk_104 (dk_at dksX2_as_1 5 rfl rfl)
theorem dX2_as_30 : decode cX2_as 30 = .ok (.iaload, 1) := dk_46 (dk_at dksX2_as_1 6 rfl rfl)
theorem dX2_as_31 : decode cX2_as 31 = .ok (.istore_n 3, 1) := dk_62 (dk_at dksX2_as_1 7 rfl rfl)
theorem dX2_as_32 : decode cX2_as 32 = .ok (.iload_n 2, 1) := dk_28 (dk_at dksX2_as_1 8 rfl rfl)
theorem dX2_as_33 : decode cX2_as 33 = .ok (.ifCond .eq 23, 3) := dk_153 0 23 (dk_at dksX2_as_1 9 rfl rfl)
theorem dX2_as_36 : decode cX2_as 36 = .ok (.iload_n 2, 1) := dk_28 (dk_at dksX2_as_1 12 rfl rfl)
theorem dX2_as_37 : decode cX2_as 37 = .ok (.iload_n 3, 1) := dk_29 (dk_at dksX2_as_1 13 rfl rfl)
theorem dX2_as_38 : decode cX2_as 38 = .ok (.iconst 1, 1) := dk_4 (dk_at dksX2_as_1 14 rfl rfl)
theorem dX2_as_39 : decode cX2_as 39 = .ok (.iadd, 1) := dk_96 (dk_at dksX2_as_1 15 rfl rfl)
theorem dX2_as_40 : decode cX2_as 40 = .ok (.if_icmp .eq 16, 3) := dk_159 0 16 (dk_at dksX2_as_1 16 rfl rfl)
theorem dX2_as_43 : decode cX2_as 43 = .ok (.iload_n 2, 1) := dk_28 (dk_at dksX2_as_1 19 rfl rfl)
theorem dX2_as_44 : decode cX2_as 44 = .ok (.iconst 1, 1) := dk_4 (dk_at dksX2_as_1 20 rfl rfl)
theorem dX2_as_45 : decode cX2_as 45 = .ok (.if_icmp .ne 8, 3) := dk_160 0 8 (dk_at dksX2_as_1 21 rfl rfl)
theorem dX2_as_48 : decode cX2_as 48 = .ok (.iload_n 3, 1) := dk_29 (dk_at dksX2_as_2 0 rfl rfl)
theorem dX2_as_49 : decode cX2_as 49 = .ok (.iconst 2, 1) := dk_5 (dk_at dksX2_as_2 1 rfl rfl)
theorem dX2_as_50 : decode cX2_as 50 = .ok (.if_icmp .eq 6, 3) := dk_159 0 6 (dk_at dksX2_as_2 2 rfl rfl)
theorem dX2_as_53 : decode cX2_as 53 = .ok (.bipush (-4), 2) := dk_16 252 (dk_at dksX2_as_2 5 rfl rfl)
theorem dX2_as_55 : decode cX2_as 55 = .ok (.ireturn, 1) := dk_172 (dk_at dksX2_as_2 7 rfl rfl)
theorem dX2_as_56 : decode cX2_as 56 = .ok (.iconst 0, 1) := dk_3 (dk_at dksX2_as_2 8 rfl rfl)
theorem dX2_as_57 : decode cX2_as 57 = .ok (.istore 4, 2) := dk_54 4 (dk_at dksX2_as_2 9 rfl rfl)
theorem dX2_as_59 : decode cX2_as 59 = .ok (.iconst 0, 1) := dk_3 (dk_at dksX2_as_2 11 rfl rfl)
theorem dX2_as_60 : decode cX2_as 60 = .ok (.istore 5, 2) := dk_54 5 (dk_at dksX2_as_2 12 rfl rfl)
theorem dX2_as_62 : decode cX2_as 62 = .ok (.iload 5, 2) := dk_21 5 (dk_at dksX2_as_2 14 rfl rfl)
theorem dX2_as_64 : decode cX2_as 64 = .ok (.aload_n 0, 1) := dk_42 (dk_at dksX2_as_2 16 rfl rfl)
theorem dX2_as_65 : decode cX2_as 65 = .ok (.getfield 75, 3) := dk_180 0 75 (dk_at dksX2_as_2 17 rfl rfl)
theorem dX2_as_68 : decode cX2_as 68 = .ok (.if_icmp .ge 32, 3) := dk_162 0 32 (dk_at dksX2_as_2 20 rfl rfl)
theorem dX2_as_71 : decode cX2_as 71 = .ok (.iload 4, 2) := dk_21 4 (dk_at dksX2_as_3 0 rfl rfl)
theorem dX2_as_73 : decode cX2_as 73 = .ok (.aload_n 0, 1) := dk_42 (dk_at dksX2_as_3 2 rfl rfl)
theorem dX2_as_74 : decode cX2_as 74 = .ok (.iload_n 1, 1) := dk_27 (dk_at dksX2_as_3 3 rfl rfl)
theorem dX2_as_75 : decode cX2_as 75 = .ok (.iload 5, 2) := dk_21 5 (dk_at dksX2_as_3 4 rfl rfl)
theorem dX2_as_77 : decode cX2_as 77 = .ok (.invokevirtual 189, 3) := dk_182 0 189 (dk_at dksX2_as_3 6 rfl rfl)
theorem dX2_as_80 : decode cX2_as 80 = .ok (.ifCond .eq 10, 3) := dk_153 0 10 (dk_at dksX2_as_3 9 rfl rfl)
theorem dX2_as_83 : decode cX2_as 83 = .ok (.iconst 1, 1) := dk_4 (dk_at dksX2_as_3 12 rfl rfl)
theorem dX2_as_84 : decode cX2_as 84 = .ok (.iload 5, 2) := dk_21 5 (dk_at dksX2_as_3 13 rfl rfl)
theorem dX2_as_86 : decode cX2_as 86 = .ok (.ishl, 1) := dk_120 (dk_at dksX2_as_3 15 rfl rfl)
theorem dX2_as_87 : decode cX2_as 87 = .ok (.goto 4, 3) := dk_167 0 4 (dk_at dksX2_as_3 16 rfl rfl)
theorem dX2_as_90 : decode cX2_as 90 = .ok (.iconst 0, 1) := dk_3 (dk_at dksX2_as_3 19 rfl rfl)
theorem dX2_as_91 : decode cX2_as 91 = .ok (.ior, 1) := dk_128 (dk_at dksX2_as_3 20 rfl rfl)
theorem dX2_as_92 : decode cX2_as 92 = .ok (.istore 4, 2) := dk_54 4 (dk_at dksX2_as_3 21 rfl rfl)
theorem dX2_as_94 : decode cX2_as 94 = .ok (.iinc 5 1, 3) := dk_132 5 1 (dk_at dksX2_as_4 0 rfl rfl)
theorem dX2_as_97 : decode cX2_as 97 = .ok (.goto (-35), 3) := dk_167 255 221 (dk_at dksX2_as_4 3 rfl rfl)
theorem dX2_as_100 : decode cX2_as 100 = .ok (.iload 4, 2) := dk_21 4 (dk_at dksX2_as_4 6 rfl rfl)
theorem dX2_as_102 : decode cX2_as 102 = .ok (.ireturn, 1) := dk_172 (dk_at dksX2_as_4 8 rfl rfl)
abbrev cX2_fits : ByteArray := prog_17_method_31_code
def yX2_fits : MethodName := ⟨RX2, "fits", "(II)Z"⟩
def dkwX2_fits_0 : List UInt8 := [42, 27, 28, 42, 180, 0, 23, 5, 27, 96, 46, 182, 0, 186, 172]
abbrev dktX2_fits_0 : List UInt8 := dkwX2_fits_0 ++ []
theorem dksX2_fits_0 : cX2_fits.data.toList.drop 0 = dktX2_fits_0 := by decide +kernel
theorem dX2_fits_0 : decode cX2_fits 0 = .ok (.aload_n 0, 1) := dk_42 (dk_at dksX2_fits_0 0 rfl rfl)
theorem dX2_fits_1 : decode cX2_fits 1 = .ok (.iload_n 1, 1) := dk_27 (dk_at dksX2_fits_0 1 rfl rfl)
theorem dX2_fits_2 : decode cX2_fits 2 = .ok (.iload_n 2, 1) := dk_28 (dk_at dksX2_fits_0 2 rfl rfl)
theorem dX2_fits_3 : decode cX2_fits 3 = .ok (.aload_n 0, 1) := dk_42 (dk_at dksX2_fits_0 3 rfl rfl)
theorem dX2_fits_4 : decode cX2_fits 4 = .ok (.getfield 23, 3) := dk_180 0 23 (dk_at dksX2_fits_0 4 rfl rfl)
theorem dX2_fits_7 : decode cX2_fits 7 = .ok (.iconst 2, 1) := dk_5 (dk_at dksX2_fits_0 7 rfl rfl)
theorem dX2_fits_8 : decode cX2_fits 8 = .ok (.iload_n 1, 1) := dk_27 (dk_at dksX2_fits_0 8 rfl rfl)
theorem dX2_fits_9 : decode cX2_fits 9 = .ok (.iadd, 1) := dk_96 (dk_at dksX2_fits_0 9 rfl rfl)
theorem dX2_fits_10 : decode cX2_fits 10 = .ok (.iaload, 1) := dk_46 (dk_at dksX2_fits_0 10 rfl rfl)
theorem dX2_fits_11 : decode cX2_fits 11 = .ok (.invokevirtual 186, 3) := dk_182 0 186 (dk_at dksX2_fits_0 11 rfl rfl)
theorem dX2_fits_14 : decode cX2_fits 14 = .ok (.ireturn, 1) := dk_172 (dk_at dksX2_fits_0 14 rfl rfl)
abbrev cX2_fitsBy : ByteArray := prog_17_method_30_code
def yX2_fitsBy : MethodName := ⟨RX2, "fitsBy", "(III)Z"⟩
def dkwX2_fitsBy_4 : List UInt8 := [180, 0, 13, 6, 27, 104, 5, 96, 46, 21, 5, 160, 0, 7, 4, 167, 0, 4, 3, 172]
abbrev dktX2_fitsBy_4 : List UInt8 := dkwX2_fitsBy_4 ++ []
def dkwX2_fitsBy_3 : List UInt8 := [160, 0, 17, 29, 21, 5, 163, 0, 7, 4, 167, 0, 33, 3, 167, 0, 29, 21, 4, 6, 160, 0, 22, 42]
abbrev dktX2_fitsBy_3 : List UInt8 := dkwX2_fitsBy_3 ++ dktX2_fitsBy_4
def dkwX2_fitsBy_2 : List UInt8 := [21, 4, 4, 160, 0, 17, 29, 21, 5, 161, 0, 7, 4, 167, 0, 53, 3, 167, 0, 49, 21, 4, 5]
abbrev dktX2_fitsBy_2 : List UInt8 := dkwX2_fitsBy_2 ++ dktX2_fitsBy_3
def dkwX2_fitsBy_1 : List UInt8 := [153, 0, 21, 21, 4, 7, 159, 0, 17, 42, 180, 0, 13, 6, 27, 104, 46, 5, 160, 0, 5, 4, 172]
abbrev dktX2_fitsBy_1 : List UInt8 := dkwX2_fitsBy_1 ++ dktX2_fitsBy_2
def dkwX2_fitsBy_0 : List UInt8 := [42, 180, 0, 7, 5, 28, 104, 46, 54, 4, 42, 180, 0, 7, 5, 28, 104, 4, 96, 46, 54, 5, 21, 4]
abbrev dktX2_fitsBy_0 : List UInt8 := dkwX2_fitsBy_0 ++ dktX2_fitsBy_1
theorem dksX2_fitsBy_0 : cX2_fitsBy.data.toList.drop 0 = dktX2_fitsBy_0 := by decide +kernel
theorem dksX2_fitsBy_1 : cX2_fitsBy.data.toList.drop 24 = dktX2_fitsBy_1 := dk_seg dksX2_fitsBy_0 24 rfl rfl
theorem dksX2_fitsBy_2 : cX2_fitsBy.data.toList.drop 47 = dktX2_fitsBy_2 := dk_seg dksX2_fitsBy_1 23 rfl rfl
theorem dksX2_fitsBy_3 : cX2_fitsBy.data.toList.drop 70 = dktX2_fitsBy_3 := dk_seg dksX2_fitsBy_2 23 rfl rfl
theorem dksX2_fitsBy_4 : cX2_fitsBy.data.toList.drop 94 = dktX2_fitsBy_4 := dk_seg dksX2_fitsBy_3 24 rfl rfl
theorem dX2_fitsBy_0 : decode cX2_fitsBy 0 = .ok (.aload_n 0, 1) := dk_42 (dk_at dksX2_fitsBy_0 0 rfl rfl)
theorem dX2_fitsBy_1 : decode cX2_fitsBy 1 = .ok (.getfield 7, 3) := dk_180 0 7 (dk_at dksX2_fitsBy_0 1 rfl rfl)
theorem dX2_fitsBy_4 : decode cX2_fitsBy 4 = .ok (.iconst 2, 1) := dk_5 (dk_at dksX2_fitsBy_0 4 rfl rfl)
theorem dX2_fitsBy_5 : decode cX2_fitsBy 5 = .ok (.iload_n 2, 1) := dk_28 (dk_at dksX2_fitsBy_0 5 rfl rfl)
theorem dX2_fitsBy_6 : decode cX2_fitsBy 6 = .ok (.imul, 1) := dk_104 (dk_at dksX2_fitsBy_0 6 rfl rfl)
theorem dX2_fitsBy_7 : decode cX2_fitsBy 7 = .ok (.iaload, 1) := dk_46 (dk_at dksX2_fitsBy_0 7 rfl rfl)
theorem dX2_fitsBy_8 : decode cX2_fitsBy 8 = .ok (.istore 4, 2) := dk_54 4 (dk_at dksX2_fitsBy_0 8 rfl rfl)
theorem dX2_fitsBy_10 : decode cX2_fitsBy 10 = .ok (.aload_n 0, 1) := dk_42 (dk_at dksX2_fitsBy_0 10 rfl rfl)
theorem dX2_fitsBy_11 : decode cX2_fitsBy 11 = .ok (.getfield 7, 3) := dk_180 0 7 (dk_at dksX2_fitsBy_0 11 rfl rfl)
theorem dX2_fitsBy_14 : decode cX2_fitsBy 14 = .ok (.iconst 2, 1) := dk_5 (dk_at dksX2_fitsBy_0 14 rfl rfl)
theorem dX2_fitsBy_15 : decode cX2_fitsBy 15 = .ok (.iload_n 2, 1) := dk_28 (dk_at dksX2_fitsBy_0 15 rfl rfl)
theorem dX2_fitsBy_16 : decode cX2_fitsBy 16 = .ok (.imul, 1) := dk_104 (dk_at dksX2_fitsBy_0 16 rfl rfl)
theorem dX2_fitsBy_17 : decode cX2_fitsBy 17 = .ok (.iconst 1, 1) := dk_4 (dk_at dksX2_fitsBy_0 17 rfl rfl)
theorem dX2_fitsBy_18 : decode cX2_fitsBy 18 = .ok (.iadd, 1) := dk_96 (dk_at dksX2_fitsBy_0 18 rfl rfl)
theorem dX2_fitsBy_19 : decode cX2_fitsBy 19 = .ok (.iaload, 1) := dk_46 (dk_at dksX2_fitsBy_0 19 rfl rfl)
theorem dX2_fitsBy_20 : decode cX2_fitsBy 20 = .ok (.istore 5, 2) := dk_54 5 (dk_at dksX2_fitsBy_0 20 rfl rfl)
theorem dX2_fitsBy_22 : decode cX2_fitsBy 22 = .ok (.iload 4, 2) := dk_21 4 (dk_at dksX2_fitsBy_0 22 rfl rfl)
theorem dX2_fitsBy_24 : decode cX2_fitsBy 24 = .ok (.ifCond .eq 21, 3) := dk_153 0 21 (dk_at dksX2_fitsBy_1 0 rfl rfl)
theorem dX2_fitsBy_27 : decode cX2_fitsBy 27 = .ok (.iload 4, 2) := dk_21 4 (dk_at dksX2_fitsBy_1 3 rfl rfl)
theorem dX2_fitsBy_29 : decode cX2_fitsBy 29 = .ok (.iconst 4, 1) := dk_7 (dk_at dksX2_fitsBy_1 5 rfl rfl)
theorem dX2_fitsBy_30 : decode cX2_fitsBy 30 = .ok (.if_icmp .eq 17, 3) := dk_159 0 17 (dk_at dksX2_fitsBy_1 6 rfl rfl)
theorem dX2_fitsBy_33 : decode cX2_fitsBy 33 = .ok (.aload_n 0, 1) := dk_42 (dk_at dksX2_fitsBy_1 9 rfl rfl)
theorem dX2_fitsBy_34 : decode cX2_fitsBy 34 = .ok (.getfield 13, 3) := dk_180 0 13 (dk_at dksX2_fitsBy_1 10 rfl rfl)
theorem dX2_fitsBy_37 : decode cX2_fitsBy 37 = .ok (.iconst 3, 1) := dk_6 (dk_at dksX2_fitsBy_1 13 rfl rfl)
theorem dX2_fitsBy_38 : decode cX2_fitsBy 38 = .ok (.iload_n 1, 1) := dk_27 (dk_at dksX2_fitsBy_1 14 rfl rfl)
theorem dX2_fitsBy_39 : decode cX2_fitsBy 39 = .ok (.imul, 1) := dk_104 (dk_at dksX2_fitsBy_1 15 rfl rfl)
theorem dX2_fitsBy_40 : decode cX2_fitsBy 40 = .ok (.iaload, 1) := dk_46 (dk_at dksX2_fitsBy_1 16 rfl rfl)
theorem dX2_fitsBy_41 : decode cX2_fitsBy 41 = .ok (.iconst 2, 1) := dk_5 (dk_at dksX2_fitsBy_1 17 rfl rfl)
theorem dX2_fitsBy_42 : decode cX2_fitsBy 42 = .ok (.if_icmp .ne 5, 3) := dk_160 0 5 (dk_at dksX2_fitsBy_1 18 rfl rfl)
theorem dX2_fitsBy_45 : decode cX2_fitsBy 45 = .ok (.iconst 1, 1) := dk_4 (dk_at dksX2_fitsBy_1 21 rfl rfl)
theorem dX2_fitsBy_46 : decode cX2_fitsBy 46 = .ok (.ireturn, 1) := dk_172 (dk_at dksX2_fitsBy_1 22 rfl rfl)
theorem dX2_fitsBy_47 : decode cX2_fitsBy 47 = .ok (.iload 4, 2) := dk_21 4 (dk_at dksX2_fitsBy_2 0 rfl rfl)
theorem dX2_fitsBy_49 : decode cX2_fitsBy 49 = .ok (.iconst 1, 1) := dk_4 (dk_at dksX2_fitsBy_2 2 rfl rfl)
theorem dX2_fitsBy_50 : decode cX2_fitsBy 50 = .ok (.if_icmp .ne 17, 3) := dk_160 0 17 (dk_at dksX2_fitsBy_2 3 rfl rfl)
theorem dX2_fitsBy_53 : decode cX2_fitsBy 53 = .ok (.iload_n 3, 1) := dk_29 (dk_at dksX2_fitsBy_2 6 rfl rfl)
theorem dX2_fitsBy_54 : decode cX2_fitsBy 54 = .ok (.iload 5, 2) := dk_21 5 (dk_at dksX2_fitsBy_2 7 rfl rfl)
theorem dX2_fitsBy_56 : decode cX2_fitsBy 56 = .ok (.if_icmp .lt 7, 3) := dk_161 0 7 (dk_at dksX2_fitsBy_2 9 rfl rfl)
theorem dX2_fitsBy_59 : decode cX2_fitsBy 59 = .ok (.iconst 1, 1) := dk_4 (dk_at dksX2_fitsBy_2 12 rfl rfl)
theorem dX2_fitsBy_60 : decode cX2_fitsBy 60 = .ok (.goto 53, 3) := dk_167 0 53 (dk_at dksX2_fitsBy_2 13 rfl rfl)
theorem dX2_fitsBy_63 : decode cX2_fitsBy 63 = .ok (.iconst 0, 1) := dk_3 (dk_at dksX2_fitsBy_2 16 rfl rfl)
theorem dX2_fitsBy_64 : decode cX2_fitsBy 64 = .ok (.goto 49, 3) := dk_167 0 49 (dk_at dksX2_fitsBy_2 17 rfl rfl)
theorem dX2_fitsBy_67 : decode cX2_fitsBy 67 = .ok (.iload 4, 2) := dk_21 4 (dk_at dksX2_fitsBy_2 20 rfl rfl)
theorem dX2_fitsBy_69 : decode cX2_fitsBy 69 = .ok (.iconst 2, 1) := dk_5 (dk_at dksX2_fitsBy_2 22 rfl rfl)
theorem dX2_fitsBy_70 : decode cX2_fitsBy 70 = .ok (.if_icmp .ne 17, 3) := dk_160 0 17 (dk_at dksX2_fitsBy_3 0 rfl rfl)
theorem dX2_fitsBy_73 : decode cX2_fitsBy 73 = .ok (.iload_n 3, 1) := dk_29 (dk_at dksX2_fitsBy_3 3 rfl rfl)
theorem dX2_fitsBy_74 : decode cX2_fitsBy 74 = .ok (.iload 5, 2) := dk_21 5 (dk_at dksX2_fitsBy_3 4 rfl rfl)
theorem dX2_fitsBy_76 : decode cX2_fitsBy 76 = .ok (.if_icmp .gt 7, 3) := dk_163 0 7 (dk_at dksX2_fitsBy_3 6 rfl rfl)
theorem dX2_fitsBy_79 : decode cX2_fitsBy 79 = .ok (.iconst 1, 1) := dk_4 (dk_at dksX2_fitsBy_3 9 rfl rfl)
theorem dX2_fitsBy_80 : decode cX2_fitsBy 80 = .ok (.goto 33, 3) := dk_167 0 33 (dk_at dksX2_fitsBy_3 10 rfl rfl)
theorem dX2_fitsBy_83 : decode cX2_fitsBy 83 = .ok (.iconst 0, 1) := dk_3 (dk_at dksX2_fitsBy_3 13 rfl rfl)
theorem dX2_fitsBy_84 : decode cX2_fitsBy 84 = .ok (.goto 29, 3) := dk_167 0 29 (dk_at dksX2_fitsBy_3 14 rfl rfl)
theorem dX2_fitsBy_87 : decode cX2_fitsBy 87 = .ok (.iload 4, 2) := dk_21 4 (dk_at dksX2_fitsBy_3 17 rfl rfl)
theorem dX2_fitsBy_89 : decode cX2_fitsBy 89 = .ok (.iconst 3, 1) := dk_6 (dk_at dksX2_fitsBy_3 19 rfl rfl)
theorem dX2_fitsBy_90 : decode cX2_fitsBy 90 = .ok (.if_icmp .ne 22, 3) := dk_160 0 22 (dk_at dksX2_fitsBy_3 20 rfl rfl)
theorem dX2_fitsBy_93 : decode cX2_fitsBy 93 = .ok (.aload_n 0, 1) := dk_42 (dk_at dksX2_fitsBy_3 23 rfl rfl)
theorem dX2_fitsBy_94 : decode cX2_fitsBy 94 = .ok (.getfield 13, 3) := dk_180 0 13 (dk_at dksX2_fitsBy_4 0 rfl rfl)
theorem dX2_fitsBy_97 : decode cX2_fitsBy 97 = .ok (.iconst 3, 1) := dk_6 (dk_at dksX2_fitsBy_4 3 rfl rfl)
theorem dX2_fitsBy_98 : decode cX2_fitsBy 98 = .ok (.iload_n 1, 1) := dk_27 (dk_at dksX2_fitsBy_4 4 rfl rfl)
theorem dX2_fitsBy_99 : decode cX2_fitsBy 99 = .ok (.imul, 1) := dk_104 (dk_at dksX2_fitsBy_4 5 rfl rfl)
theorem dX2_fitsBy_100 : decode cX2_fitsBy 100 = .ok (.iconst 2, 1) := dk_5 (dk_at dksX2_fitsBy_4 6 rfl rfl)
theorem dX2_fitsBy_101 : decode cX2_fitsBy 101 = .ok (.iadd, 1) := dk_96 (dk_at dksX2_fitsBy_4 7 rfl rfl)
theorem dX2_fitsBy_102 : decode cX2_fitsBy 102 = .ok (.iaload, 1) := dk_46 (dk_at dksX2_fitsBy_4 8 rfl rfl)
theorem dX2_fitsBy_103 : decode cX2_fitsBy 103 = .ok (.iload 5, 2) := dk_21 5 (dk_at dksX2_fitsBy_4 9 rfl rfl)
theorem dX2_fitsBy_105 : decode cX2_fitsBy 105 = .ok (.if_icmp .ne 7, 3) := dk_160 0 7 (dk_at dksX2_fitsBy_4 11 rfl rfl)
theorem dX2_fitsBy_108 : decode cX2_fitsBy 108 = .ok (.iconst 1, 1) := dk_4 (dk_at dksX2_fitsBy_4 14 rfl rfl)
theorem dX2_fitsBy_109 : decode cX2_fitsBy 109 = .ok (.goto 4, 3) := dk_167 0 4 (dk_at dksX2_fitsBy_4 15 rfl rfl)
theorem dX2_fitsBy_112 : decode cX2_fitsBy 112 = .ok (.iconst 0, 1) := dk_3 (dk_at dksX2_fitsBy_4 18 rfl rfl)
theorem dX2_fitsBy_113 : decode cX2_fitsBy 113 = .ok (.ireturn, 1) := dk_172 (dk_at dksX2_fitsBy_4 19 rfl rfl)
abbrev cX2_seatAs : ByteArray := prog_17_method_38_code
def yX2_seatAs : MethodName := ⟨RX2, "seatAs", "(II)I"⟩
def dkwX2_seatAs_4 : List UInt8 := [4, 21, 5, 120, 167, 0, 4, 3, 128, 54, 4, 132, 5, 1, 167, 255, 212, 21, 4, 172]
abbrev dktX2_seatAs_4 : List UInt8 := dkwX2_seatAs_4 ++ []
def dkwX2_seatAs_3 : List UInt8 := [162, 0, 41, 21, 4, 42, 21, 5, 182, 0, 201, 153, 0, 20, 42, 21, 5, 27, 182, 0, 189, 153, 0, 10]
abbrev dktX2_seatAs_3 : List UInt8 := dkwX2_seatAs_3 ++ dktX2_seatAs_4
def dkwX2_seatAs_2 : List UInt8 := [29, 4, 5, 184, 0, 78, 154, 0, 6, 16, 252, 172, 3, 54, 4, 3, 54, 5, 21, 5, 42, 180, 0, 66]
abbrev dktX2_seatAs_2 : List UInt8 := dkwX2_seatAs_2 ++ dktX2_seatAs_3
def dkwX2_seatAs_1 : List UInt8 := [180, 0, 7, 5, 27, 104, 46, 62, 28, 153, 0, 27, 28, 29, 4, 96, 159, 0, 20, 28, 4, 160, 0, 12]
abbrev dktX2_seatAs_1 : List UInt8 := dkwX2_seatAs_1 ++ dktX2_seatAs_2
def dkwX2_seatAs_0 : List UInt8 := [42, 27, 182, 0, 195, 154, 0, 6, 16, 254, 172, 28, 3, 8, 184, 0, 78, 154, 0, 6, 16, 253, 172, 42]
abbrev dktX2_seatAs_0 : List UInt8 := dkwX2_seatAs_0 ++ dktX2_seatAs_1
theorem dksX2_seatAs_0 : cX2_seatAs.data.toList.drop 0 = dktX2_seatAs_0 := by decide +kernel
theorem dksX2_seatAs_1 : cX2_seatAs.data.toList.drop 24 = dktX2_seatAs_1 := dk_seg dksX2_seatAs_0 24 rfl rfl
theorem dksX2_seatAs_2 : cX2_seatAs.data.toList.drop 48 = dktX2_seatAs_2 := dk_seg dksX2_seatAs_1 24 rfl rfl
theorem dksX2_seatAs_3 : cX2_seatAs.data.toList.drop 72 = dktX2_seatAs_3 := dk_seg dksX2_seatAs_2 24 rfl rfl
theorem dksX2_seatAs_4 : cX2_seatAs.data.toList.drop 96 = dktX2_seatAs_4 := dk_seg dksX2_seatAs_3 24 rfl rfl
theorem dX2_seatAs_0 : decode cX2_seatAs 0 = .ok (.aload_n 0, 1) := dk_42 (dk_at dksX2_seatAs_0 0 rfl rfl)
theorem dX2_seatAs_1 : decode cX2_seatAs 1 = .ok (.iload_n 1, 1) := dk_27 (dk_at dksX2_seatAs_0 1 rfl rfl)
theorem dX2_seatAs_2 : decode cX2_seatAs 2 = .ok (.invokevirtual 195, 3) := dk_182 0 195 (dk_at dksX2_seatAs_0 2 rfl rfl)
theorem dX2_seatAs_5 : decode cX2_seatAs 5 = .ok (.ifCond .ne 6, 3) := dk_154 0 6 (dk_at dksX2_seatAs_0 5 rfl rfl)
theorem dX2_seatAs_8 : decode cX2_seatAs 8 = .ok (.bipush (-2), 2) := dk_16 254 (dk_at dksX2_seatAs_0 8 rfl rfl)
theorem dX2_seatAs_10 : decode cX2_seatAs 10 = .ok (.ireturn, 1) := dk_172 (dk_at dksX2_seatAs_0 10 rfl rfl)
theorem dX2_seatAs_11 : decode cX2_seatAs 11 = .ok (.iload_n 2, 1) := dk_28 (dk_at dksX2_seatAs_0 11 rfl rfl)
theorem dX2_seatAs_12 : decode cX2_seatAs 12 = .ok (.iconst 0, 1) := dk_3 (dk_at dksX2_seatAs_0 12 rfl rfl)
theorem dX2_seatAs_13 : decode cX2_seatAs 13 = .ok (.iconst 5, 1) := dk_8 (dk_at dksX2_seatAs_0 13 rfl rfl)
theorem dX2_seatAs_14 : decode cX2_seatAs 14 = .ok (.invokestatic 78, 3) := dk_184 0 78 (dk_at dksX2_seatAs_0 14 rfl rfl)
theorem dX2_seatAs_17 : decode cX2_seatAs 17 = .ok (.ifCond .ne 6, 3) := dk_154 0 6 (dk_at dksX2_seatAs_0 17 rfl rfl)
theorem dX2_seatAs_20 : decode cX2_seatAs 20 = .ok (.bipush (-3), 2) := dk_16 253 (dk_at dksX2_seatAs_0 20 rfl rfl)
theorem dX2_seatAs_22 : decode cX2_seatAs 22 = .ok (.ireturn, 1) := dk_172 (dk_at dksX2_seatAs_0 22 rfl rfl)
theorem dX2_seatAs_23 : decode cX2_seatAs 23 = .ok (.aload_n 0, 1) := dk_42 (dk_at dksX2_seatAs_0 23 rfl rfl)
theorem dX2_seatAs_24 : decode cX2_seatAs 24 = .ok (.getfield 7, 3) := dk_180 0 7 (dk_at dksX2_seatAs_1 0 rfl rfl)
theorem dX2_seatAs_27 : decode cX2_seatAs 27 = .ok (.iconst 2, 1) := dk_5 (dk_at dksX2_seatAs_1 3 rfl rfl)
theorem dX2_seatAs_28 : decode cX2_seatAs 28 = .ok (.iload_n 1, 1) := dk_27 (dk_at dksX2_seatAs_1 4 rfl rfl)
theorem dX2_seatAs_29 : decode cX2_seatAs 29 = .ok (.imul, 1) := dk_104 (dk_at dksX2_seatAs_1 5 rfl rfl)
theorem dX2_seatAs_30 : decode cX2_seatAs 30 = .ok (.iaload, 1) := dk_46 (dk_at dksX2_seatAs_1 6 rfl rfl)
theorem dX2_seatAs_31 : decode cX2_seatAs 31 = .ok (.istore_n 3, 1) := dk_62 (dk_at dksX2_seatAs_1 7 rfl rfl)
theorem dX2_seatAs_32 : decode cX2_seatAs 32 = .ok (.iload_n 2, 1) := dk_28 (dk_at dksX2_seatAs_1 8 rfl rfl)
theorem dX2_seatAs_33 : decode cX2_seatAs 33 = .ok (.ifCond .eq 27, 3) := dk_153 0 27 (dk_at dksX2_seatAs_1 9 rfl rfl)
theorem dX2_seatAs_36 : decode cX2_seatAs 36 = .ok (.iload_n 2, 1) := dk_28 (dk_at dksX2_seatAs_1 12 rfl rfl)
theorem dX2_seatAs_37 : decode cX2_seatAs 37 = .ok (.iload_n 3, 1) := dk_29 (dk_at dksX2_seatAs_1 13 rfl rfl)
theorem dX2_seatAs_38 : decode cX2_seatAs 38 = .ok (.iconst 1, 1) := dk_4 (dk_at dksX2_seatAs_1 14 rfl rfl)
theorem dX2_seatAs_39 : decode cX2_seatAs 39 = .ok (.iadd, 1) := dk_96 (dk_at dksX2_seatAs_1 15 rfl rfl)
theorem dX2_seatAs_40 : decode cX2_seatAs 40 = .ok (.if_icmp .eq 20, 3) := dk_159 0 20 (dk_at dksX2_seatAs_1 16 rfl rfl)
theorem dX2_seatAs_43 : decode cX2_seatAs 43 = .ok (.iload_n 2, 1) := dk_28 (dk_at dksX2_seatAs_1 19 rfl rfl)
theorem dX2_seatAs_44 : decode cX2_seatAs 44 = .ok (.iconst 1, 1) := dk_4 (dk_at dksX2_seatAs_1 20 rfl rfl)
theorem dX2_seatAs_45 : decode cX2_seatAs 45 = .ok (.if_icmp .ne 12, 3) := dk_160 0 12 (dk_at dksX2_seatAs_1 21 rfl rfl)
theorem dX2_seatAs_48 : decode cX2_seatAs 48 = .ok (.iload_n 3, 1) := dk_29 (dk_at dksX2_seatAs_2 0 rfl rfl)
theorem dX2_seatAs_49 : decode cX2_seatAs 49 = .ok (.iconst 1, 1) := dk_4 (dk_at dksX2_seatAs_2 1 rfl rfl)
theorem dX2_seatAs_50 : decode cX2_seatAs 50 = .ok (.iconst 2, 1) := dk_5 (dk_at dksX2_seatAs_2 2 rfl rfl)
theorem dX2_seatAs_51 : decode cX2_seatAs 51 = .ok (.invokestatic 78, 3) := dk_184 0 78 (dk_at dksX2_seatAs_2 3 rfl rfl)
theorem dX2_seatAs_54 : decode cX2_seatAs 54 = .ok (.ifCond .ne 6, 3) := dk_154 0 6 (dk_at dksX2_seatAs_2 6 rfl rfl)
theorem dX2_seatAs_57 : decode cX2_seatAs 57 = .ok (.bipush (-4), 2) := dk_16 252 (dk_at dksX2_seatAs_2 9 rfl rfl)
theorem dX2_seatAs_59 : decode cX2_seatAs 59 = .ok (.ireturn, 1) := dk_172 (dk_at dksX2_seatAs_2 11 rfl rfl)
theorem dX2_seatAs_60 : decode cX2_seatAs 60 = .ok (.iconst 0, 1) := dk_3 (dk_at dksX2_seatAs_2 12 rfl rfl)
theorem dX2_seatAs_61 : decode cX2_seatAs 61 = .ok (.istore 4, 2) := dk_54 4 (dk_at dksX2_seatAs_2 13 rfl rfl)
theorem dX2_seatAs_63 : decode cX2_seatAs 63 = .ok (.iconst 0, 1) := dk_3 (dk_at dksX2_seatAs_2 15 rfl rfl)
theorem dX2_seatAs_64 : decode cX2_seatAs 64 = .ok (.istore 5, 2) := dk_54 5 (dk_at dksX2_seatAs_2 16 rfl rfl)
theorem dX2_seatAs_66 : decode cX2_seatAs 66 = .ok (.iload 5, 2) := dk_21 5 (dk_at dksX2_seatAs_2 18 rfl rfl)
theorem dX2_seatAs_68 : decode cX2_seatAs 68 = .ok (.aload_n 0, 1) := dk_42 (dk_at dksX2_seatAs_2 20 rfl rfl)
theorem dX2_seatAs_69 : decode cX2_seatAs 69 = .ok (.getfield 66, 3) := dk_180 0 66 (dk_at dksX2_seatAs_2 21 rfl rfl)
theorem dX2_seatAs_72 : decode cX2_seatAs 72 = .ok (.if_icmp .ge 41, 3) := dk_162 0 41 (dk_at dksX2_seatAs_3 0 rfl rfl)
theorem dX2_seatAs_75 : decode cX2_seatAs 75 = .ok (.iload 4, 2) := dk_21 4 (dk_at dksX2_seatAs_3 3 rfl rfl)
theorem dX2_seatAs_77 : decode cX2_seatAs 77 = .ok (.aload_n 0, 1) := dk_42 (dk_at dksX2_seatAs_3 5 rfl rfl)
theorem dX2_seatAs_78 : decode cX2_seatAs 78 = .ok (.iload 5, 2) := dk_21 5 (dk_at dksX2_seatAs_3 6 rfl rfl)
theorem dX2_seatAs_80 : decode cX2_seatAs 80 = .ok (.invokevirtual 201, 3) := dk_182 0 201 (dk_at dksX2_seatAs_3 8 rfl rfl)
theorem dX2_seatAs_83 : decode cX2_seatAs 83 = .ok (.ifCond .eq 20, 3) := dk_153 0 20 (dk_at dksX2_seatAs_3 11 rfl rfl)
theorem dX2_seatAs_86 : decode cX2_seatAs 86 = .ok (.aload_n 0, 1) := dk_42 (dk_at dksX2_seatAs_3 14 rfl rfl)
theorem dX2_seatAs_87 : decode cX2_seatAs 87 = .ok (.iload 5, 2) := dk_21 5 (dk_at dksX2_seatAs_3 15 rfl rfl)
theorem dX2_seatAs_89 : decode cX2_seatAs 89 = .ok (.iload_n 1, 1) := dk_27 (dk_at dksX2_seatAs_3 17 rfl rfl)
theorem dX2_seatAs_90 : decode cX2_seatAs 90 = .ok (.invokevirtual 189, 3) := dk_182 0 189 (dk_at dksX2_seatAs_3 18 rfl rfl)
theorem dX2_seatAs_93 : decode cX2_seatAs 93 = .ok (.ifCond .eq 10, 3) := dk_153 0 10 (dk_at dksX2_seatAs_3 21 rfl rfl)
theorem dX2_seatAs_96 : decode cX2_seatAs 96 = .ok (.iconst 1, 1) := dk_4 (dk_at dksX2_seatAs_4 0 rfl rfl)
theorem dX2_seatAs_97 : decode cX2_seatAs 97 = .ok (.iload 5, 2) := dk_21 5 (dk_at dksX2_seatAs_4 1 rfl rfl)
theorem dX2_seatAs_99 : decode cX2_seatAs 99 = .ok (.ishl, 1) := dk_120 (dk_at dksX2_seatAs_4 3 rfl rfl)
theorem dX2_seatAs_100 : decode cX2_seatAs 100 = .ok (.goto 4, 3) := dk_167 0 4 (dk_at dksX2_seatAs_4 4 rfl rfl)
theorem dX2_seatAs_103 : decode cX2_seatAs 103 = .ok (.iconst 0, 1) := dk_3 (dk_at dksX2_seatAs_4 7 rfl rfl)
theorem dX2_seatAs_104 : decode cX2_seatAs 104 = .ok (.ior, 1) := dk_128 (dk_at dksX2_seatAs_4 8 rfl rfl)
theorem dX2_seatAs_105 : decode cX2_seatAs 105 = .ok (.istore 4, 2) := dk_54 4 (dk_at dksX2_seatAs_4 9 rfl rfl)
theorem dX2_seatAs_107 : decode cX2_seatAs 107 = .ok (.iinc 5 1, 3) := dk_132 5 1 (dk_at dksX2_seatAs_4 11 rfl rfl)
theorem dX2_seatAs_110 : decode cX2_seatAs 110 = .ok (.goto (-44), 3) := dk_167 255 212 (dk_at dksX2_seatAs_4 14 rfl rfl)
theorem dX2_seatAs_113 : decode cX2_seatAs 113 = .ok (.iload 4, 2) := dk_21 4 (dk_at dksX2_seatAs_4 17 rfl rfl)
theorem dX2_seatAs_115 : decode cX2_seatAs 115 = .ok (.ireturn, 1) := dk_172 (dk_at dksX2_seatAs_4 19 rfl rfl)
abbrev cX2_isThere : ByteArray := prog_17_method_9_code
def yX2_isThere : MethodName := ⟨RX2, "isThere", "(I)Z"⟩
def dkwX2_isThere_1 : List UInt8 := [167, 0, 4, 3, 172]
abbrev dktX2_isThere_1 : List UInt8 := dkwX2_isThere_1 ++ []
def dkwX2_isThere_0 : List UInt8 := [42, 27, 182, 0, 82, 153, 0, 20, 42, 180, 0, 23, 4, 46, 27, 184, 0, 86, 153, 0, 7, 4]
abbrev dktX2_isThere_0 : List UInt8 := dkwX2_isThere_0 ++ dktX2_isThere_1
theorem dksX2_isThere_0 : cX2_isThere.data.toList.drop 0 = dktX2_isThere_0 := by decide +kernel
theorem dksX2_isThere_1 : cX2_isThere.data.toList.drop 22 = dktX2_isThere_1 := dk_seg dksX2_isThere_0 22 rfl rfl
theorem dX2_isThere_0 : decode cX2_isThere 0 = .ok (.aload_n 0, 1) := dk_42 (dk_at dksX2_isThere_0 0 rfl rfl)
theorem dX2_isThere_1 : decode cX2_isThere 1 = .ok (.iload_n 1, 1) := dk_27 (dk_at dksX2_isThere_0 1 rfl rfl)
theorem dX2_isThere_2 : decode cX2_isThere 2 = .ok (.invokevirtual 82, 3) := dk_182 0 82 (dk_at dksX2_isThere_0 2 rfl rfl)
theorem dX2_isThere_5 : decode cX2_isThere 5 = .ok (.ifCond .eq 20, 3) := dk_153 0 20 (dk_at dksX2_isThere_0 5 rfl rfl)
theorem dX2_isThere_8 : decode cX2_isThere 8 = .ok (.aload_n 0, 1) := dk_42 (dk_at dksX2_isThere_0 8 rfl rfl)
theorem dX2_isThere_9 : decode cX2_isThere 9 = .ok (.getfield 23, 3) := dk_180 0 23 (dk_at dksX2_isThere_0 9 rfl rfl)
theorem dX2_isThere_12 : decode cX2_isThere 12 = .ok (.iconst 1, 1) := dk_4 (dk_at dksX2_isThere_0 12 rfl rfl)
theorem dX2_isThere_13 : decode cX2_isThere 13 = .ok (.iaload, 1) := dk_46 (dk_at dksX2_isThere_0 13 rfl rfl)
theorem dX2_isThere_14 : decode cX2_isThere 14 = .ok (.iload_n 1, 1) := dk_27 (dk_at dksX2_isThere_0 14 rfl rfl)
theorem dX2_isThere_15 : decode cX2_isThere 15 = .ok (.invokestatic 86, 3) := dk_184 0 86 (dk_at dksX2_isThere_0 15 rfl rfl)
theorem dX2_isThere_18 : decode cX2_isThere 18 = .ok (.ifCond .eq 7, 3) := dk_153 0 7 (dk_at dksX2_isThere_0 18 rfl rfl)
theorem dX2_isThere_21 : decode cX2_isThere 21 = .ok (.iconst 1, 1) := dk_4 (dk_at dksX2_isThere_0 21 rfl rfl)
theorem dX2_isThere_22 : decode cX2_isThere 22 = .ok (.goto 4, 3) := dk_167 0 4 (dk_at dksX2_isThere_1 0 rfl rfl)
theorem dX2_isThere_25 : decode cX2_isThere 25 = .ok (.iconst 0, 1) := dk_3 (dk_at dksX2_isThere_1 3 rfl rfl)
theorem dX2_isThere_26 : decode cX2_isThere 26 = .ok (.ireturn, 1) := dk_172 (dk_at dksX2_isThere_1 4 rfl rfl)
abbrev cX2_sit : ByteArray := prog_17_method_42_code
def yX2_sit : MethodName := ⟨RX2, "sit", "(II)I"⟩
def dkwX2_sit_3 : List UInt8 := [184, 0, 210, 172]
abbrev dktX2_sit_3 : List UInt8 := dkwX2_sit_3 ++ []
def dkwX2_sit_2 : List UInt8 := [159, 0, 6, 16, 252, 172, 42, 182, 0, 204, 42, 180, 0, 23, 16, 14, 27, 96, 28, 79, 42, 182, 0, 207]
abbrev dktX2_sit_2 : List UInt8 := dkwX2_sit_2 ++ dktX2_sit_3
def dkwX2_sit_1 : List UInt8 := [153, 0, 25, 42, 180, 0, 23, 16, 14, 27, 96, 46, 2, 160, 0, 12, 42, 28, 182, 0, 198, 2]
abbrev dktX2_sit_1 : List UInt8 := dkwX2_sit_1 ++ dktX2_sit_2
def dkwX2_sit_0 : List UInt8 := [42, 27, 182, 0, 82, 153, 0, 11, 42, 28, 182, 0, 195, 154, 0, 6, 16, 254, 172, 42, 27, 182, 0, 201]
abbrev dktX2_sit_0 : List UInt8 := dkwX2_sit_0 ++ dktX2_sit_1
theorem dksX2_sit_0 : cX2_sit.data.toList.drop 0 = dktX2_sit_0 := by decide +kernel
theorem dksX2_sit_1 : cX2_sit.data.toList.drop 24 = dktX2_sit_1 := dk_seg dksX2_sit_0 24 rfl rfl
theorem dksX2_sit_2 : cX2_sit.data.toList.drop 46 = dktX2_sit_2 := dk_seg dksX2_sit_1 22 rfl rfl
theorem dksX2_sit_3 : cX2_sit.data.toList.drop 70 = dktX2_sit_3 := dk_seg dksX2_sit_2 24 rfl rfl
theorem dX2_sit_0 : decode cX2_sit 0 = .ok (.aload_n 0, 1) := dk_42 (dk_at dksX2_sit_0 0 rfl rfl)
theorem dX2_sit_1 : decode cX2_sit 1 = .ok (.iload_n 1, 1) := dk_27 (dk_at dksX2_sit_0 1 rfl rfl)
theorem dX2_sit_2 : decode cX2_sit 2 = .ok (.invokevirtual 82, 3) := dk_182 0 82 (dk_at dksX2_sit_0 2 rfl rfl)
theorem dX2_sit_5 : decode cX2_sit 5 = .ok (.ifCond .eq 11, 3) := dk_153 0 11 (dk_at dksX2_sit_0 5 rfl rfl)
theorem dX2_sit_8 : decode cX2_sit 8 = .ok (.aload_n 0, 1) := dk_42 (dk_at dksX2_sit_0 8 rfl rfl)
theorem dX2_sit_9 : decode cX2_sit 9 = .ok (.iload_n 2, 1) := dk_28 (dk_at dksX2_sit_0 9 rfl rfl)
theorem dX2_sit_10 : decode cX2_sit 10 = .ok (.invokevirtual 195, 3) := dk_182 0 195 (dk_at dksX2_sit_0 10 rfl rfl)
theorem dX2_sit_13 : decode cX2_sit 13 = .ok (.ifCond .ne 6, 3) := dk_154 0 6 (dk_at dksX2_sit_0 13 rfl rfl)
theorem dX2_sit_16 : decode cX2_sit 16 = .ok (.bipush (-2), 2) := dk_16 254 (dk_at dksX2_sit_0 16 rfl rfl)
theorem dX2_sit_18 : decode cX2_sit 18 = .ok (.ireturn, 1) := dk_172 (dk_at dksX2_sit_0 18 rfl rfl)
theorem dX2_sit_19 : decode cX2_sit 19 = .ok (.aload_n 0, 1) := dk_42 (dk_at dksX2_sit_0 19 rfl rfl)
theorem dX2_sit_20 : decode cX2_sit 20 = .ok (.iload_n 1, 1) := dk_27 (dk_at dksX2_sit_0 20 rfl rfl)
theorem dX2_sit_21 : decode cX2_sit 21 = .ok (.invokevirtual 201, 3) := dk_182 0 201 (dk_at dksX2_sit_0 21 rfl rfl)
theorem dX2_sit_24 : decode cX2_sit 24 = .ok (.ifCond .eq 25, 3) := dk_153 0 25 (dk_at dksX2_sit_1 0 rfl rfl)
theorem dX2_sit_27 : decode cX2_sit 27 = .ok (.aload_n 0, 1) := dk_42 (dk_at dksX2_sit_1 3 rfl rfl)
theorem dX2_sit_28 : decode cX2_sit 28 = .ok (.getfield 23, 3) := dk_180 0 23 (dk_at dksX2_sit_1 4 rfl rfl)
theorem dX2_sit_31 : decode cX2_sit 31 = .ok (.bipush 14, 2) := dk_16 14 (dk_at dksX2_sit_1 7 rfl rfl)
theorem dX2_sit_33 : decode cX2_sit 33 = .ok (.iload_n 1, 1) := dk_27 (dk_at dksX2_sit_1 9 rfl rfl)
theorem dX2_sit_34 : decode cX2_sit 34 = .ok (.iadd, 1) := dk_96 (dk_at dksX2_sit_1 10 rfl rfl)
theorem dX2_sit_35 : decode cX2_sit 35 = .ok (.iaload, 1) := dk_46 (dk_at dksX2_sit_1 11 rfl rfl)
theorem dX2_sit_36 : decode cX2_sit 36 = .ok (.iconst (-1), 1) := dk_2 (dk_at dksX2_sit_1 12 rfl rfl)
theorem dX2_sit_37 : decode cX2_sit 37 = .ok (.if_icmp .ne 12, 3) := dk_160 0 12 (dk_at dksX2_sit_1 13 rfl rfl)
theorem dX2_sit_40 : decode cX2_sit 40 = .ok (.aload_n 0, 1) := dk_42 (dk_at dksX2_sit_1 16 rfl rfl)
theorem dX2_sit_41 : decode cX2_sit 41 = .ok (.iload_n 2, 1) := dk_28 (dk_at dksX2_sit_1 17 rfl rfl)
theorem dX2_sit_42 : decode cX2_sit 42 = .ok (.invokevirtual 198, 3) := dk_182 0 198 (dk_at dksX2_sit_1 18 rfl rfl)
theorem dX2_sit_45 : decode cX2_sit 45 = .ok (.iconst (-1), 1) := dk_2 (dk_at dksX2_sit_1 21 rfl rfl)
theorem dX2_sit_46 : decode cX2_sit 46 = .ok (.if_icmp .eq 6, 3) := dk_159 0 6 (dk_at dksX2_sit_2 0 rfl rfl)
theorem dX2_sit_49 : decode cX2_sit 49 = .ok (.bipush (-4), 2) := dk_16 252 (dk_at dksX2_sit_2 3 rfl rfl)
theorem dX2_sit_51 : decode cX2_sit 51 = .ok (.ireturn, 1) := dk_172 (dk_at dksX2_sit_2 5 rfl rfl)
theorem dX2_sit_52 : decode cX2_sit 52 = .ok (.aload_n 0, 1) := dk_42 (dk_at dksX2_sit_2 6 rfl rfl)
theorem dX2_sit_53 : decode cX2_sit 53 = .ok (.invokevirtual 204, 3) := dk_182 0 204 (dk_at dksX2_sit_2 7 rfl rfl)
theorem dX2_sit_56 : decode cX2_sit 56 = .ok (.aload_n 0, 1) := dk_42 (dk_at dksX2_sit_2 10 rfl rfl)
theorem dX2_sit_57 : decode cX2_sit 57 = .ok (.getfield 23, 3) := dk_180 0 23 (dk_at dksX2_sit_2 11 rfl rfl)
theorem dX2_sit_60 : decode cX2_sit 60 = .ok (.bipush 14, 2) := dk_16 14 (dk_at dksX2_sit_2 14 rfl rfl)
theorem dX2_sit_62 : decode cX2_sit 62 = .ok (.iload_n 1, 1) := dk_27 (dk_at dksX2_sit_2 16 rfl rfl)
theorem dX2_sit_63 : decode cX2_sit 63 = .ok (.iadd, 1) := dk_96 (dk_at dksX2_sit_2 17 rfl rfl)
theorem dX2_sit_64 : decode cX2_sit 64 = .ok (.iload_n 2, 1) := dk_28 (dk_at dksX2_sit_2 18 rfl rfl)
theorem dX2_sit_65 : decode cX2_sit 65 = .ok (.iastore, 1) := dk_79 (dk_at dksX2_sit_2 19 rfl rfl)
theorem dX2_sit_66 : decode cX2_sit 66 = .ok (.aload_n 0, 1) := dk_42 (dk_at dksX2_sit_2 20 rfl rfl)
theorem dX2_sit_67 : decode cX2_sit 67 = .ok (.invokevirtual 207, 3) := dk_182 0 207 (dk_at dksX2_sit_2 21 rfl rfl)
theorem dX2_sit_70 : decode cX2_sit 70 = .ok (.invokestatic 210, 3) := dk_184 0 210 (dk_at dksX2_sit_3 0 rfl rfl)
theorem dX2_sit_73 : decode cX2_sit 73 = .ok (.ireturn, 1) := dk_172 (dk_at dksX2_sit_3 3 rfl rfl)
abbrev cX2_remembers : ByteArray := prog_17_method_39_code
def yX2_remembers : MethodName := ⟨RX2, "remembers", "()V"⟩
def dkwX2_remembers_3 : List UInt8 := [42, 180, 0, 23, 27, 46, 79, 132, 1, 1, 167, 255, 227, 42, 89, 180, 0, 69, 4, 96, 181, 0, 69, 177]
abbrev dktX2_remembers_3 : List UInt8 := dkwX2_remembers_3 ++ []
def dkwX2_remembers_2 : List UInt8 := [181, 0, 69, 3, 60, 27, 16, 20, 162, 0, 29, 42, 180, 0, 26, 16, 20, 42, 180, 0, 69, 104, 27, 96]
abbrev dktX2_remembers_2 : List UInt8 := dkwX2_remembers_2 ++ dktX2_remembers_3
def dkwX2_remembers_1 : List UInt8 := [180, 0, 26, 27, 16, 20, 96, 46, 79, 132, 1, 1, 167, 255, 231, 42, 89, 180, 0, 69, 4, 100]
abbrev dktX2_remembers_1 : List UInt8 := dkwX2_remembers_1 ++ dktX2_remembers_2
def dkwX2_remembers_0 : List UInt8 := [42, 180, 0, 69, 16, 8, 160, 0, 43, 3, 60, 27, 17, 0, 140, 162, 0, 24, 42, 180, 0, 26, 27, 42]
abbrev dktX2_remembers_0 : List UInt8 := dkwX2_remembers_0 ++ dktX2_remembers_1
theorem dksX2_remembers_0 : cX2_remembers.data.toList.drop 0 = dktX2_remembers_0 := by decide +kernel
theorem dksX2_remembers_1 : cX2_remembers.data.toList.drop 24 = dktX2_remembers_1 := dk_seg dksX2_remembers_0 24 rfl rfl
theorem dksX2_remembers_2 : cX2_remembers.data.toList.drop 46 = dktX2_remembers_2 := dk_seg dksX2_remembers_1 22 rfl rfl
theorem dksX2_remembers_3 : cX2_remembers.data.toList.drop 70 = dktX2_remembers_3 := dk_seg dksX2_remembers_2 24 rfl rfl
theorem dX2_remembers_0 : decode cX2_remembers 0 = .ok (.aload_n 0, 1) := dk_42 (dk_at dksX2_remembers_0 0 rfl rfl)
theorem dX2_remembers_1 : decode cX2_remembers 1 = .ok (.getfield 69, 3) := dk_180 0 69 (dk_at dksX2_remembers_0 1 rfl rfl)
theorem dX2_remembers_4 : decode cX2_remembers 4 = .ok (.bipush 8, 2) := dk_16 8 (dk_at dksX2_remembers_0 4 rfl rfl)
theorem dX2_remembers_6 : decode cX2_remembers 6 = .ok (.if_icmp .ne 43, 3) := dk_160 0 43 (dk_at dksX2_remembers_0 6 rfl rfl)
theorem dX2_remembers_9 : decode cX2_remembers 9 = .ok (.iconst 0, 1) := dk_3 (dk_at dksX2_remembers_0 9 rfl rfl)
theorem dX2_remembers_10 : decode cX2_remembers 10 = .ok (.istore_n 1, 1) := dk_60 (dk_at dksX2_remembers_0 10 rfl rfl)
theorem dX2_remembers_11 : decode cX2_remembers 11 = .ok (.iload_n 1, 1) := dk_27 (dk_at dksX2_remembers_0 11 rfl rfl)
theorem dX2_remembers_12 : decode cX2_remembers 12 = .ok (.sipush 140, 3) := dk_17 0 140 (dk_at dksX2_remembers_0 12 rfl rfl)
theorem dX2_remembers_15 : decode cX2_remembers 15 = .ok (.if_icmp .ge 24, 3) := dk_162 0 24 (dk_at dksX2_remembers_0 15 rfl rfl)
theorem dX2_remembers_18 : decode cX2_remembers 18 = .ok (.aload_n 0, 1) := dk_42 (dk_at dksX2_remembers_0 18 rfl rfl)
theorem dX2_remembers_19 : decode cX2_remembers 19 = .ok (.getfield 26, 3) := dk_180 0 26 (dk_at dksX2_remembers_0 19 rfl rfl)
theorem dX2_remembers_22 : decode cX2_remembers 22 = .ok (.iload_n 1, 1) := dk_27 (dk_at dksX2_remembers_0 22 rfl rfl)
theorem dX2_remembers_23 : decode cX2_remembers 23 = .ok (.aload_n 0, 1) := dk_42 (dk_at dksX2_remembers_0 23 rfl rfl)
theorem dX2_remembers_24 : decode cX2_remembers 24 = .ok (.getfield 26, 3) := dk_180 0 26 (dk_at dksX2_remembers_1 0 rfl rfl)
theorem dX2_remembers_27 : decode cX2_remembers 27 = .ok (.iload_n 1, 1) := dk_27 (dk_at dksX2_remembers_1 3 rfl rfl)
theorem dX2_remembers_28 : decode cX2_remembers 28 = .ok (.bipush 20, 2) := dk_16 20 (dk_at dksX2_remembers_1 4 rfl rfl)
theorem dX2_remembers_30 : decode cX2_remembers 30 = .ok (.iadd, 1) := dk_96 (dk_at dksX2_remembers_1 6 rfl rfl)
theorem dX2_remembers_31 : decode cX2_remembers 31 = .ok (.iaload, 1) := dk_46 (dk_at dksX2_remembers_1 7 rfl rfl)
theorem dX2_remembers_32 : decode cX2_remembers 32 = .ok (.iastore, 1) := dk_79 (dk_at dksX2_remembers_1 8 rfl rfl)
theorem dX2_remembers_33 : decode cX2_remembers 33 = .ok (.iinc 1 1, 3) := dk_132 1 1 (dk_at dksX2_remembers_1 9 rfl rfl)
theorem dX2_remembers_36 : decode cX2_remembers 36 = .ok (.goto (-25), 3) := dk_167 255 231 (dk_at dksX2_remembers_1 12 rfl rfl)
theorem dX2_remembers_39 : decode cX2_remembers 39 = .ok (.aload_n 0, 1) := dk_42 (dk_at dksX2_remembers_1 15 rfl rfl)
theorem dX2_remembers_40 : decode cX2_remembers 40 = .ok (.dup, 1) := dk_89 (dk_at dksX2_remembers_1 16 rfl rfl)
theorem dX2_remembers_41 : decode cX2_remembers 41 = .ok (.getfield 69, 3) := dk_180 0 69 (dk_at dksX2_remembers_1 17 rfl rfl)
theorem dX2_remembers_44 : decode cX2_remembers 44 = .ok (.iconst 1, 1) := dk_4 (dk_at dksX2_remembers_1 20 rfl rfl)
theorem dX2_remembers_45 : decode cX2_remembers 45 = .ok (.isub, 1) := dk_100 (dk_at dksX2_remembers_1 21 rfl rfl)
theorem dX2_remembers_46 : decode cX2_remembers 46 = .ok (.putfield 69, 3) := dk_181 0 69 (dk_at dksX2_remembers_2 0 rfl rfl)
theorem dX2_remembers_49 : decode cX2_remembers 49 = .ok (.iconst 0, 1) := dk_3 (dk_at dksX2_remembers_2 3 rfl rfl)
theorem dX2_remembers_50 : decode cX2_remembers 50 = .ok (.istore_n 1, 1) := dk_60 (dk_at dksX2_remembers_2 4 rfl rfl)
theorem dX2_remembers_51 : decode cX2_remembers 51 = .ok (.iload_n 1, 1) := dk_27 (dk_at dksX2_remembers_2 5 rfl rfl)
theorem dX2_remembers_52 : decode cX2_remembers 52 = .ok (.bipush 20, 2) := dk_16 20 (dk_at dksX2_remembers_2 6 rfl rfl)
theorem dX2_remembers_54 : decode cX2_remembers 54 = .ok (.if_icmp .ge 29, 3) := dk_162 0 29 (dk_at dksX2_remembers_2 8 rfl rfl)
theorem dX2_remembers_57 : decode cX2_remembers 57 = .ok (.aload_n 0, 1) := dk_42 (dk_at dksX2_remembers_2 11 rfl rfl)
theorem dX2_remembers_58 : decode cX2_remembers 58 = .ok (.getfield 26, 3) := dk_180 0 26 (dk_at dksX2_remembers_2 12 rfl rfl)
theorem dX2_remembers_61 : decode cX2_remembers 61 = .ok (.bipush 20, 2) := dk_16 20 (dk_at dksX2_remembers_2 15 rfl rfl)
theorem dX2_remembers_63 : decode cX2_remembers 63 = .ok (.aload_n 0, 1) := dk_42 (dk_at dksX2_remembers_2 17 rfl rfl)
theorem dX2_remembers_64 : decode cX2_remembers 64 = .ok (.getfield 69, 3) := dk_180 0 69 (dk_at dksX2_remembers_2 18 rfl rfl)
theorem dX2_remembers_67 : decode cX2_remembers 67 = .ok (.imul, 1) := dk_104 (dk_at dksX2_remembers_2 21 rfl rfl)
theorem dX2_remembers_68 : decode cX2_remembers 68 = .ok (.iload_n 1, 1) := dk_27 (dk_at dksX2_remembers_2 22 rfl rfl)
theorem dX2_remembers_69 : decode cX2_remembers 69 = .ok (.iadd, 1) := dk_96 (dk_at dksX2_remembers_2 23 rfl rfl)
theorem dX2_remembers_70 : decode cX2_remembers 70 = .ok (.aload_n 0, 1) := dk_42 (dk_at dksX2_remembers_3 0 rfl rfl)
theorem dX2_remembers_71 : decode cX2_remembers 71 = .ok (.getfield 23, 3) := dk_180 0 23 (dk_at dksX2_remembers_3 1 rfl rfl)
theorem dX2_remembers_74 : decode cX2_remembers 74 = .ok (.iload_n 1, 1) := dk_27 (dk_at dksX2_remembers_3 4 rfl rfl)
theorem dX2_remembers_75 : decode cX2_remembers 75 = .ok (.iaload, 1) := dk_46 (dk_at dksX2_remembers_3 5 rfl rfl)
theorem dX2_remembers_76 : decode cX2_remembers 76 = .ok (.iastore, 1) := dk_79 (dk_at dksX2_remembers_3 6 rfl rfl)
theorem dX2_remembers_77 : decode cX2_remembers 77 = .ok (.iinc 1 1, 3) := dk_132 1 1 (dk_at dksX2_remembers_3 7 rfl rfl)
theorem dX2_remembers_80 : decode cX2_remembers 80 = .ok (.goto (-29), 3) := dk_167 255 227 (dk_at dksX2_remembers_3 10 rfl rfl)
theorem dX2_remembers_83 : decode cX2_remembers 83 = .ok (.aload_n 0, 1) := dk_42 (dk_at dksX2_remembers_3 13 rfl rfl)
theorem dX2_remembers_84 : decode cX2_remembers 84 = .ok (.dup, 1) := dk_89 (dk_at dksX2_remembers_3 14 rfl rfl)
theorem dX2_remembers_85 : decode cX2_remembers 85 = .ok (.getfield 69, 3) := dk_180 0 69 (dk_at dksX2_remembers_3 15 rfl rfl)
theorem dX2_remembers_88 : decode cX2_remembers 88 = .ok (.iconst 1, 1) := dk_4 (dk_at dksX2_remembers_3 18 rfl rfl)
theorem dX2_remembers_89 : decode cX2_remembers 89 = .ok (.iadd, 1) := dk_96 (dk_at dksX2_remembers_3 19 rfl rfl)
theorem dX2_remembers_90 : decode cX2_remembers 90 = .ok (.putfield 69, 3) := dk_181 0 69 (dk_at dksX2_remembers_3 20 rfl rfl)
theorem dX2_remembers_93 : decode cX2_remembers 93 = .ok (.return_, 1) := dk_177 (dk_at dksX2_remembers_3 23 rfl rfl)
abbrev cX2_sitting : ByteArray := prog_17_method_40_code
def yX2_sitting : MethodName := ⟨RX2, "sitting", "()I"⟩
def dkwX2_sitting_1 : List UInt8 := [160, 0, 7, 3, 167, 0, 6, 4, 28, 120, 128, 60, 132, 2, 1, 167, 255, 222, 27, 172]
abbrev dktX2_sitting_1 : List UInt8 := dkwX2_sitting_1 ++ []
def dkwX2_sitting_0 : List UInt8 := [3, 60, 3, 61, 28, 42, 180, 0, 66, 162, 0, 32, 27, 42, 180, 0, 23, 16, 14, 28, 96, 46, 2]
abbrev dktX2_sitting_0 : List UInt8 := dkwX2_sitting_0 ++ dktX2_sitting_1
theorem dksX2_sitting_0 : cX2_sitting.data.toList.drop 0 = dktX2_sitting_0 := by decide +kernel
theorem dksX2_sitting_1 : cX2_sitting.data.toList.drop 23 = dktX2_sitting_1 := dk_seg dksX2_sitting_0 23 rfl rfl
theorem dX2_sitting_0 : decode cX2_sitting 0 = .ok (.iconst 0, 1) := dk_3 (dk_at dksX2_sitting_0 0 rfl rfl)
theorem dX2_sitting_1 : decode cX2_sitting 1 = .ok (.istore_n 1, 1) := dk_60 (dk_at dksX2_sitting_0 1 rfl rfl)
theorem dX2_sitting_2 : decode cX2_sitting 2 = .ok (.iconst 0, 1) := dk_3 (dk_at dksX2_sitting_0 2 rfl rfl)
theorem dX2_sitting_3 : decode cX2_sitting 3 = .ok (.istore_n 2, 1) := dk_61 (dk_at dksX2_sitting_0 3 rfl rfl)
theorem dX2_sitting_4 : decode cX2_sitting 4 = .ok (.iload_n 2, 1) := dk_28 (dk_at dksX2_sitting_0 4 rfl rfl)
theorem dX2_sitting_5 : decode cX2_sitting 5 = .ok (.aload_n 0, 1) := dk_42 (dk_at dksX2_sitting_0 5 rfl rfl)
theorem dX2_sitting_6 : decode cX2_sitting 6 = .ok (.getfield 66, 3) := dk_180 0 66 (dk_at dksX2_sitting_0 6 rfl rfl)
theorem dX2_sitting_9 : decode cX2_sitting 9 = .ok (.if_icmp .ge 32, 3) := dk_162 0 32 (dk_at dksX2_sitting_0 9 rfl rfl)
theorem dX2_sitting_12 : decode cX2_sitting 12 = .ok (.iload_n 1, 1) := dk_27 (dk_at dksX2_sitting_0 12 rfl rfl)
theorem dX2_sitting_13 : decode cX2_sitting 13 = .ok (.aload_n 0, 1) := dk_42 (dk_at dksX2_sitting_0 13 rfl rfl)
theorem dX2_sitting_14 : decode cX2_sitting 14 = .ok (.getfield 23, 3) := dk_180 0 23 (dk_at dksX2_sitting_0 14 rfl rfl)
theorem dX2_sitting_17 : decode cX2_sitting 17 = .ok (.bipush 14, 2) := dk_16 14 (dk_at dksX2_sitting_0 17 rfl rfl)
theorem dX2_sitting_19 : decode cX2_sitting 19 = .ok (.iload_n 2, 1) := dk_28 (dk_at dksX2_sitting_0 19 rfl rfl)
theorem dX2_sitting_20 : decode cX2_sitting 20 = .ok (.iadd, 1) := dk_96 (dk_at dksX2_sitting_0 20 rfl rfl)
theorem dX2_sitting_21 : decode cX2_sitting 21 = .ok (.iaload, 1) := dk_46 (dk_at dksX2_sitting_0 21 rfl rfl)
theorem dX2_sitting_22 : decode cX2_sitting 22 = .ok (.iconst (-1), 1) := dk_2 (dk_at dksX2_sitting_0 22 rfl rfl)
theorem dX2_sitting_23 : decode cX2_sitting 23 = .ok (.if_icmp .ne 7, 3) := dk_160 0 7 (dk_at dksX2_sitting_1 0 rfl rfl)
theorem dX2_sitting_26 : decode cX2_sitting 26 = .ok (.iconst 0, 1) := dk_3 (dk_at dksX2_sitting_1 3 rfl rfl)
theorem dX2_sitting_27 : decode cX2_sitting 27 = .ok (.goto 6, 3) := dk_167 0 6 (dk_at dksX2_sitting_1 4 rfl rfl)
theorem dX2_sitting_30 : decode cX2_sitting 30 = .ok (.iconst 1, 1) := dk_4 (dk_at dksX2_sitting_1 7 rfl rfl)
theorem dX2_sitting_31 : decode cX2_sitting 31 = .ok (.iload_n 2, 1) := dk_28 (dk_at dksX2_sitting_1 8 rfl rfl)
theorem dX2_sitting_32 : decode cX2_sitting 32 = .ok (.ishl, 1) := dk_120 (dk_at dksX2_sitting_1 9 rfl rfl)
theorem dX2_sitting_33 : decode cX2_sitting 33 = .ok (.ior, 1) := dk_128 (dk_at dksX2_sitting_1 10 rfl rfl)
theorem dX2_sitting_34 : decode cX2_sitting 34 = .ok (.istore_n 1, 1) := dk_60 (dk_at dksX2_sitting_1 11 rfl rfl)
theorem dX2_sitting_35 : decode cX2_sitting 35 = .ok (.iinc 2 1, 3) := dk_132 2 1 (dk_at dksX2_sitting_1 12 rfl rfl)
theorem dX2_sitting_38 : decode cX2_sitting 38 = .ok (.goto (-34), 3) := dk_167 255 222 (dk_at dksX2_sitting_1 15 rfl rfl)
theorem dX2_sitting_41 : decode cX2_sitting 41 = .ok (.iload_n 1, 1) := dk_27 (dk_at dksX2_sitting_1 18 rfl rfl)
theorem dX2_sitting_42 : decode cX2_sitting 42 = .ok (.ireturn, 1) := dk_172 (dk_at dksX2_sitting_1 19 rfl rfl)
abbrev cX2_bits : ByteArray := prog_17_method_6_code
def yX2_bits : MethodName := ⟨RX2, "bits", "(I)I"⟩
def dkwX2_bits_0 : List UInt8 := [3, 60, 26, 61, 28, 158, 0, 15, 132, 1, 1, 28, 28, 4, 100, 126, 61, 167, 255, 243, 27, 172]
abbrev dktX2_bits_0 : List UInt8 := dkwX2_bits_0 ++ []
theorem dksX2_bits_0 : cX2_bits.data.toList.drop 0 = dktX2_bits_0 := by decide +kernel
theorem dX2_bits_0 : decode cX2_bits 0 = .ok (.iconst 0, 1) := dk_3 (dk_at dksX2_bits_0 0 rfl rfl)
theorem dX2_bits_1 : decode cX2_bits 1 = .ok (.istore_n 1, 1) := dk_60 (dk_at dksX2_bits_0 1 rfl rfl)
theorem dX2_bits_2 : decode cX2_bits 2 = .ok (.iload_n 0, 1) := dk_26 (dk_at dksX2_bits_0 2 rfl rfl)
theorem dX2_bits_3 : decode cX2_bits 3 = .ok (.istore_n 2, 1) := dk_61 (dk_at dksX2_bits_0 3 rfl rfl)
theorem dX2_bits_4 : decode cX2_bits 4 = .ok (.iload_n 2, 1) := dk_28 (dk_at dksX2_bits_0 4 rfl rfl)
theorem dX2_bits_5 : decode cX2_bits 5 = .ok (.ifCond .le 15, 3) := dk_158 0 15 (dk_at dksX2_bits_0 5 rfl rfl)
theorem dX2_bits_8 : decode cX2_bits 8 = .ok (.iinc 1 1, 3) := dk_132 1 1 (dk_at dksX2_bits_0 8 rfl rfl)
theorem dX2_bits_11 : decode cX2_bits 11 = .ok (.iload_n 2, 1) := dk_28 (dk_at dksX2_bits_0 11 rfl rfl)
theorem dX2_bits_12 : decode cX2_bits 12 = .ok (.iload_n 2, 1) := dk_28 (dk_at dksX2_bits_0 12 rfl rfl)
theorem dX2_bits_13 : decode cX2_bits 13 = .ok (.iconst 1, 1) := dk_4 (dk_at dksX2_bits_0 13 rfl rfl)
theorem dX2_bits_14 : decode cX2_bits 14 = .ok (.isub, 1) := dk_100 (dk_at dksX2_bits_0 14 rfl rfl)
theorem dX2_bits_15 : decode cX2_bits 15 = .ok (.iand, 1) := dk_126 (dk_at dksX2_bits_0 15 rfl rfl)
theorem dX2_bits_16 : decode cX2_bits 16 = .ok (.istore_n 2, 1) := dk_61 (dk_at dksX2_bits_0 16 rfl rfl)
theorem dX2_bits_17 : decode cX2_bits 17 = .ok (.goto (-13), 3) := dk_167 255 243 (dk_at dksX2_bits_0 17 rfl rfl)
theorem dX2_bits_20 : decode cX2_bits 20 = .ok (.iload_n 1, 1) := dk_27 (dk_at dksX2_bits_0 20 rfl rfl)
theorem dX2_bits_21 : decode cX2_bits 21 = .ok (.ireturn, 1) := dk_172 (dk_at dksX2_bits_0 21 rfl rfl)
abbrev cX2_rise : ByteArray := prog_17_method_43_code
def yX2_rise : MethodName := ⟨RX2, "rise", "()I"⟩
def dkwX2_rise_0 : List UInt8 := [42, 182, 0, 204, 42, 182, 0, 207, 184, 0, 210, 60, 42, 182, 0, 213, 27, 172]
abbrev dktX2_rise_0 : List UInt8 := dkwX2_rise_0 ++ []
theorem dksX2_rise_0 : cX2_rise.data.toList.drop 0 = dktX2_rise_0 := by decide +kernel
theorem dX2_rise_0 : decode cX2_rise 0 = .ok (.aload_n 0, 1) := dk_42 (dk_at dksX2_rise_0 0 rfl rfl)
theorem dX2_rise_1 : decode cX2_rise 1 = .ok (.invokevirtual 204, 3) := dk_182 0 204 (dk_at dksX2_rise_0 1 rfl rfl)
theorem dX2_rise_4 : decode cX2_rise 4 = .ok (.aload_n 0, 1) := dk_42 (dk_at dksX2_rise_0 4 rfl rfl)
theorem dX2_rise_5 : decode cX2_rise 5 = .ok (.invokevirtual 207, 3) := dk_182 0 207 (dk_at dksX2_rise_0 5 rfl rfl)
theorem dX2_rise_8 : decode cX2_rise 8 = .ok (.invokestatic 210, 3) := dk_184 0 210 (dk_at dksX2_rise_0 8 rfl rfl)
theorem dX2_rise_11 : decode cX2_rise 11 = .ok (.istore_n 1, 1) := dk_60 (dk_at dksX2_rise_0 11 rfl rfl)
theorem dX2_rise_12 : decode cX2_rise 12 = .ok (.aload_n 0, 1) := dk_42 (dk_at dksX2_rise_0 12 rfl rfl)
theorem dX2_rise_13 : decode cX2_rise 13 = .ok (.invokevirtual 213, 3) := dk_182 0 213 (dk_at dksX2_rise_0 13 rfl rfl)
theorem dX2_rise_16 : decode cX2_rise 16 = .ok (.iload_n 1, 1) := dk_27 (dk_at dksX2_rise_0 16 rfl rfl)
theorem dX2_rise_17 : decode cX2_rise 17 = .ok (.ireturn, 1) := dk_172 (dk_at dksX2_rise_0 17 rfl rfl)
abbrev cX2_allRise : ByteArray := prog_17_method_41_code
def yX2_allRise : MethodName := ⟨RX2, "allRise", "()V"⟩
def dkwX2_allRise_1 : List UInt8 := [177]
abbrev dktX2_allRise_1 : List UInt8 := dkwX2_allRise_1 ++ []
def dkwX2_allRise_0 : List UInt8 := [3, 60, 27, 16, 6, 162, 0, 19, 42, 180, 0, 23, 16, 14, 27, 96, 2, 79, 132, 1, 1, 167, 255, 237]
abbrev dktX2_allRise_0 : List UInt8 := dkwX2_allRise_0 ++ dktX2_allRise_1
theorem dksX2_allRise_0 : cX2_allRise.data.toList.drop 0 = dktX2_allRise_0 := by decide +kernel
theorem dksX2_allRise_1 : cX2_allRise.data.toList.drop 24 = dktX2_allRise_1 := dk_seg dksX2_allRise_0 24 rfl rfl
theorem dX2_allRise_0 : decode cX2_allRise 0 = .ok (.iconst 0, 1) := dk_3 (dk_at dksX2_allRise_0 0 rfl rfl)
theorem dX2_allRise_1 : decode cX2_allRise 1 = .ok (.istore_n 1, 1) := dk_60 (dk_at dksX2_allRise_0 1 rfl rfl)
theorem dX2_allRise_2 : decode cX2_allRise 2 = .ok (.iload_n 1, 1) := dk_27 (dk_at dksX2_allRise_0 2 rfl rfl)
theorem dX2_allRise_3 : decode cX2_allRise 3 = .ok (.bipush 6, 2) := dk_16 6 (dk_at dksX2_allRise_0 3 rfl rfl)
theorem dX2_allRise_5 : decode cX2_allRise 5 = .ok (.if_icmp .ge 19, 3) := dk_162 0 19 (dk_at dksX2_allRise_0 5 rfl rfl)
theorem dX2_allRise_8 : decode cX2_allRise 8 = .ok (.aload_n 0, 1) := dk_42 (dk_at dksX2_allRise_0 8 rfl rfl)
theorem dX2_allRise_9 : decode cX2_allRise 9 = .ok (.getfield 23, 3) := dk_180 0 23 (dk_at dksX2_allRise_0 9 rfl rfl)
theorem dX2_allRise_12 : decode cX2_allRise 12 = .ok (.bipush 14, 2) := dk_16 14 (dk_at dksX2_allRise_0 12 rfl rfl)
theorem dX2_allRise_14 : decode cX2_allRise 14 = .ok (.iload_n 1, 1) := dk_27 (dk_at dksX2_allRise_0 14 rfl rfl)
theorem dX2_allRise_15 : decode cX2_allRise 15 = .ok (.iadd, 1) := dk_96 (dk_at dksX2_allRise_0 15 rfl rfl)
theorem dX2_allRise_16 : decode cX2_allRise 16 = .ok (.iconst (-1), 1) := dk_2 (dk_at dksX2_allRise_0 16 rfl rfl)
theorem dX2_allRise_17 : decode cX2_allRise 17 = .ok (.iastore, 1) := dk_79 (dk_at dksX2_allRise_0 17 rfl rfl)
theorem dX2_allRise_18 : decode cX2_allRise 18 = .ok (.iinc 1 1, 3) := dk_132 1 1 (dk_at dksX2_allRise_0 18 rfl rfl)
theorem dX2_allRise_21 : decode cX2_allRise 21 = .ok (.goto (-19), 3) := dk_167 255 237 (dk_at dksX2_allRise_0 21 rfl rfl)
theorem dX2_allRise_24 : decode cX2_allRise 24 = .ok (.return_, 1) := dk_177 (dk_at dksX2_allRise_1 0 rfl rfl)
abbrev cX2_tell : ByteArray := prog_17_method_44_code
def yX2_tell : MethodName := ⟨RX2, "tell", "(II)I"⟩
def dkwX2_tell_2 : List UInt8 := [4, 28, 120, 128, 79, 42, 180, 0, 23, 16, 8, 27, 96, 46, 172]
abbrev dktX2_tell_2 : List UInt8 := dkwX2_tell_2 ++ []
def dkwX2_tell_1 : List UInt8 := [27, 182, 0, 201, 154, 0, 6, 16, 252, 172, 42, 182, 0, 204, 42, 180, 0, 23, 16, 8, 27, 96, 92, 46]
abbrev dktX2_tell_1 : List UInt8 := dkwX2_tell_1 ++ dktX2_tell_2
def dkwX2_tell_0 : List UInt8 := [42, 27, 182, 0, 82, 154, 0, 6, 16, 254, 172, 28, 3, 6, 184, 0, 78, 154, 0, 6, 16, 253, 172, 42]
abbrev dktX2_tell_0 : List UInt8 := dkwX2_tell_0 ++ dktX2_tell_1
theorem dksX2_tell_0 : cX2_tell.data.toList.drop 0 = dktX2_tell_0 := by decide +kernel
theorem dksX2_tell_1 : cX2_tell.data.toList.drop 24 = dktX2_tell_1 := dk_seg dksX2_tell_0 24 rfl rfl
theorem dksX2_tell_2 : cX2_tell.data.toList.drop 48 = dktX2_tell_2 := dk_seg dksX2_tell_1 24 rfl rfl
theorem dX2_tell_0 : decode cX2_tell 0 = .ok (.aload_n 0, 1) := dk_42 (dk_at dksX2_tell_0 0 rfl rfl)
theorem dX2_tell_1 : decode cX2_tell 1 = .ok (.iload_n 1, 1) := dk_27 (dk_at dksX2_tell_0 1 rfl rfl)
theorem dX2_tell_2 : decode cX2_tell 2 = .ok (.invokevirtual 82, 3) := dk_182 0 82 (dk_at dksX2_tell_0 2 rfl rfl)
theorem dX2_tell_5 : decode cX2_tell 5 = .ok (.ifCond .ne 6, 3) := dk_154 0 6 (dk_at dksX2_tell_0 5 rfl rfl)
theorem dX2_tell_8 : decode cX2_tell 8 = .ok (.bipush (-2), 2) := dk_16 254 (dk_at dksX2_tell_0 8 rfl rfl)
theorem dX2_tell_10 : decode cX2_tell 10 = .ok (.ireturn, 1) := dk_172 (dk_at dksX2_tell_0 10 rfl rfl)
theorem dX2_tell_11 : decode cX2_tell 11 = .ok (.iload_n 2, 1) := dk_28 (dk_at dksX2_tell_0 11 rfl rfl)
theorem dX2_tell_12 : decode cX2_tell 12 = .ok (.iconst 0, 1) := dk_3 (dk_at dksX2_tell_0 12 rfl rfl)
theorem dX2_tell_13 : decode cX2_tell 13 = .ok (.iconst 3, 1) := dk_6 (dk_at dksX2_tell_0 13 rfl rfl)
theorem dX2_tell_14 : decode cX2_tell 14 = .ok (.invokestatic 78, 3) := dk_184 0 78 (dk_at dksX2_tell_0 14 rfl rfl)
theorem dX2_tell_17 : decode cX2_tell 17 = .ok (.ifCond .ne 6, 3) := dk_154 0 6 (dk_at dksX2_tell_0 17 rfl rfl)
theorem dX2_tell_20 : decode cX2_tell 20 = .ok (.bipush (-3), 2) := dk_16 253 (dk_at dksX2_tell_0 20 rfl rfl)
theorem dX2_tell_22 : decode cX2_tell 22 = .ok (.ireturn, 1) := dk_172 (dk_at dksX2_tell_0 22 rfl rfl)
theorem dX2_tell_23 : decode cX2_tell 23 = .ok (.aload_n 0, 1) := dk_42 (dk_at dksX2_tell_0 23 rfl rfl)
theorem dX2_tell_24 : decode cX2_tell 24 = .ok (.iload_n 1, 1) := dk_27 (dk_at dksX2_tell_1 0 rfl rfl)
theorem dX2_tell_25 : decode cX2_tell 25 = .ok (.invokevirtual 201, 3) := dk_182 0 201 (dk_at dksX2_tell_1 1 rfl rfl)
theorem dX2_tell_28 : decode cX2_tell 28 = .ok (.ifCond .ne 6, 3) := dk_154 0 6 (dk_at dksX2_tell_1 4 rfl rfl)
theorem dX2_tell_31 : decode cX2_tell 31 = .ok (.bipush (-4), 2) := dk_16 252 (dk_at dksX2_tell_1 7 rfl rfl)
theorem dX2_tell_33 : decode cX2_tell 33 = .ok (.ireturn, 1) := dk_172 (dk_at dksX2_tell_1 9 rfl rfl)
theorem dX2_tell_34 : decode cX2_tell 34 = .ok (.aload_n 0, 1) := dk_42 (dk_at dksX2_tell_1 10 rfl rfl)
theorem dX2_tell_35 : decode cX2_tell 35 = .ok (.invokevirtual 204, 3) := dk_182 0 204 (dk_at dksX2_tell_1 11 rfl rfl)
theorem dX2_tell_38 : decode cX2_tell 38 = .ok (.aload_n 0, 1) := dk_42 (dk_at dksX2_tell_1 14 rfl rfl)
theorem dX2_tell_39 : decode cX2_tell 39 = .ok (.getfield 23, 3) := dk_180 0 23 (dk_at dksX2_tell_1 15 rfl rfl)
theorem dX2_tell_42 : decode cX2_tell 42 = .ok (.bipush 8, 2) := dk_16 8 (dk_at dksX2_tell_1 18 rfl rfl)
theorem dX2_tell_44 : decode cX2_tell 44 = .ok (.iload_n 1, 1) := dk_27 (dk_at dksX2_tell_1 20 rfl rfl)
theorem dX2_tell_45 : decode cX2_tell 45 = .ok (.iadd, 1) := dk_96 (dk_at dksX2_tell_1 21 rfl rfl)
theorem dX2_tell_46 : decode cX2_tell 46 = .ok (.dup2, 1) := dk_92 (dk_at dksX2_tell_1 22 rfl rfl)
theorem dX2_tell_47 : decode cX2_tell 47 = .ok (.iaload, 1) := dk_46 (dk_at dksX2_tell_1 23 rfl rfl)
theorem dX2_tell_48 : decode cX2_tell 48 = .ok (.iconst 1, 1) := dk_4 (dk_at dksX2_tell_2 0 rfl rfl)
theorem dX2_tell_49 : decode cX2_tell 49 = .ok (.iload_n 2, 1) := dk_28 (dk_at dksX2_tell_2 1 rfl rfl)
theorem dX2_tell_50 : decode cX2_tell 50 = .ok (.ishl, 1) := dk_120 (dk_at dksX2_tell_2 2 rfl rfl)
theorem dX2_tell_51 : decode cX2_tell 51 = .ok (.ior, 1) := dk_128 (dk_at dksX2_tell_2 3 rfl rfl)
theorem dX2_tell_52 : decode cX2_tell 52 = .ok (.iastore, 1) := dk_79 (dk_at dksX2_tell_2 4 rfl rfl)
theorem dX2_tell_53 : decode cX2_tell 53 = .ok (.aload_n 0, 1) := dk_42 (dk_at dksX2_tell_2 5 rfl rfl)
theorem dX2_tell_54 : decode cX2_tell 54 = .ok (.getfield 23, 3) := dk_180 0 23 (dk_at dksX2_tell_2 6 rfl rfl)
theorem dX2_tell_57 : decode cX2_tell 57 = .ok (.bipush 8, 2) := dk_16 8 (dk_at dksX2_tell_2 9 rfl rfl)
theorem dX2_tell_59 : decode cX2_tell 59 = .ok (.iload_n 1, 1) := dk_27 (dk_at dksX2_tell_2 11 rfl rfl)
theorem dX2_tell_60 : decode cX2_tell 60 = .ok (.iadd, 1) := dk_96 (dk_at dksX2_tell_2 12 rfl rfl)
theorem dX2_tell_61 : decode cX2_tell 61 = .ok (.iaload, 1) := dk_46 (dk_at dksX2_tell_2 13 rfl rfl)
theorem dX2_tell_62 : decode cX2_tell 62 = .ok (.ireturn, 1) := dk_172 (dk_at dksX2_tell_2 14 rfl rfl)
abbrev cX2_feast : ByteArray := prog_17_method_48_code
def yX2_feast : MethodName := ⟨RX2, "feast", "()I"⟩
def dkwX2_feast_13 : List UInt8 := [130, 126, 79, 42, 182, 0, 213, 42, 180, 0, 23, 3, 92, 46, 4, 96, 79, 27, 172]
abbrev dktX2_feast_13 : List UInt8 := dkwX2_feast_13 ++ []
def dkwX2_feast_12 : List UInt8 := [29, 96, 42, 180, 0, 51, 29, 46, 79, 132, 3, 1, 167, 255, 131, 42, 180, 0, 23, 4, 92, 46, 27, 2]
abbrev dktX2_feast_12 : List UInt8 := dkwX2_feast_12 ++ dktX2_feast_13
def dkwX2_feast_11 : List UInt8 := [167, 0, 17, 21, 5, 16, 9, 164, 0, 8, 16, 9, 167, 0, 5, 21, 5, 79, 42, 180, 0, 23, 16, 8]
abbrev dktX2_feast_11 : List UInt8 := dkwX2_feast_11 ++ dktX2_feast_12
def dkwX2_feast_10 : List UInt8 := [96, 21, 4, 154, 0, 14, 42, 180, 0, 23, 5, 29, 96, 46, 167, 0, 26, 21, 5, 156, 0, 7, 3]
abbrev dktX2_feast_10 : List UInt8 := dkwX2_feast_10 ++ dktX2_feast_11
def dkwX2_feast_9 : List UInt8 := [96, 46, 28, 29, 184, 0, 86, 153, 0, 7, 4, 167, 0, 4, 2, 96, 54, 5, 42, 180, 0, 23, 5, 29]
abbrev dktX2_feast_9 : List UInt8 := dkwX2_feast_9 ++ dktX2_feast_10
def dkwX2_feast_8 : List UInt8 := [159, 0, 15, 27, 29, 184, 0, 86, 154, 0, 7, 4, 167, 0, 4, 3, 54, 4, 42, 180, 0, 23, 5, 29]
abbrev dktX2_feast_8 : List UInt8 := dkwX2_feast_8 ++ dktX2_feast_9
def dkwX2_feast_7 : List UInt8 := [167, 255, 130, 3, 62, 29, 42, 180, 0, 66, 162, 0, 123, 42, 180, 0, 23, 16, 14, 29, 96, 46, 2]
abbrev dktX2_feast_7 : List UInt8 := dkwX2_feast_7 ++ dktX2_feast_8
def dkwX2_feast_6 : List UInt8 := [182, 0, 222, 182, 0, 198, 182, 0, 225, 154, 0, 9, 4, 29, 120, 167, 0, 4, 3, 128, 61, 132, 3, 1]
abbrev dktX2_feast_6 : List UInt8 := dkwX2_feast_6 ++ dktX2_feast_7
def dkwX2_feast_5 : List UInt8 := [21, 4, 2, 159, 0, 38, 42, 29, 21, 5, 182, 0, 225, 154, 0, 28, 42, 29, 42, 42, 21, 4, 2]
abbrev dktX2_feast_5 : List UInt8 := dkwX2_feast_5 ++ dktX2_feast_6
def dkwX2_feast_4 : List UInt8 := [21, 5, 2, 160, 0, 7, 3, 167, 0, 13, 42, 180, 0, 23, 16, 8, 21, 5, 96, 46, 128, 79, 28]
abbrev dktX2_feast_4 : List UInt8 := dkwX2_feast_4 ++ dktX2_feast_5
def dkwX2_feast_3 : List UInt8 := [4, 182, 0, 222, 182, 0, 198, 54, 5, 42, 180, 0, 51, 29, 42, 180, 0, 23, 16, 8, 29, 96, 46]
abbrev dktX2_feast_3 : List UInt8 := dkwX2_feast_3 ++ dktX2_feast_4
def dkwX2_feast_2 : List UInt8 := [180, 0, 23, 16, 14, 29, 96, 46, 54, 4, 21, 4, 2, 160, 0, 7, 2, 167, 0, 14, 42, 42, 21, 4]
abbrev dktX2_feast_2 : List UInt8 := dkwX2_feast_2 ++ dktX2_feast_3
def dkwX2_feast_1 : List UInt8 := [172, 42, 182, 0, 204, 42, 182, 0, 219, 60, 3, 61, 3, 62, 29, 42, 180, 0, 66, 162, 0, 124, 42]
abbrev dktX2_feast_1 : List UInt8 := dkwX2_feast_1 ++ dktX2_feast_2
def dkwX2_feast_0 : List UInt8 := [42, 182, 0, 207, 154, 0, 6, 16, 252, 172, 42, 180, 0, 23, 3, 46, 17, 3, 231, 160, 0, 6, 16, 251]
abbrev dktX2_feast_0 : List UInt8 := dkwX2_feast_0 ++ dktX2_feast_1
theorem dksX2_feast_0 : cX2_feast.data.toList.drop 0 = dktX2_feast_0 := by decide +kernel
theorem dksX2_feast_1 : cX2_feast.data.toList.drop 24 = dktX2_feast_1 := dk_seg dksX2_feast_0 24 rfl rfl
theorem dksX2_feast_2 : cX2_feast.data.toList.drop 47 = dktX2_feast_2 := dk_seg dksX2_feast_1 23 rfl rfl
theorem dksX2_feast_3 : cX2_feast.data.toList.drop 71 = dktX2_feast_3 := dk_seg dksX2_feast_2 24 rfl rfl
theorem dksX2_feast_4 : cX2_feast.data.toList.drop 94 = dktX2_feast_4 := dk_seg dksX2_feast_3 23 rfl rfl
theorem dksX2_feast_5 : cX2_feast.data.toList.drop 117 = dktX2_feast_5 := dk_seg dksX2_feast_4 23 rfl rfl
theorem dksX2_feast_6 : cX2_feast.data.toList.drop 140 = dktX2_feast_6 := dk_seg dksX2_feast_5 23 rfl rfl
theorem dksX2_feast_7 : cX2_feast.data.toList.drop 164 = dktX2_feast_7 := dk_seg dksX2_feast_6 24 rfl rfl
theorem dksX2_feast_8 : cX2_feast.data.toList.drop 187 = dktX2_feast_8 := dk_seg dksX2_feast_7 23 rfl rfl
theorem dksX2_feast_9 : cX2_feast.data.toList.drop 211 = dktX2_feast_9 := dk_seg dksX2_feast_8 24 rfl rfl
theorem dksX2_feast_10 : cX2_feast.data.toList.drop 235 = dktX2_feast_10 := dk_seg dksX2_feast_9 24 rfl rfl
theorem dksX2_feast_11 : cX2_feast.data.toList.drop 258 = dktX2_feast_11 := dk_seg dksX2_feast_10 23 rfl rfl
theorem dksX2_feast_12 : cX2_feast.data.toList.drop 282 = dktX2_feast_12 := dk_seg dksX2_feast_11 24 rfl rfl
theorem dksX2_feast_13 : cX2_feast.data.toList.drop 306 = dktX2_feast_13 := dk_seg dksX2_feast_12 24 rfl rfl
theorem dX2_feast_0 : decode cX2_feast 0 = .ok (.aload_n 0, 1) := dk_42 (dk_at dksX2_feast_0 0 rfl rfl)
theorem dX2_feast_1 : decode cX2_feast 1 = .ok (.invokevirtual 207, 3) := dk_182 0 207 (dk_at dksX2_feast_0 1 rfl rfl)
theorem dX2_feast_4 : decode cX2_feast 4 = .ok (.ifCond .ne 6, 3) := dk_154 0 6 (dk_at dksX2_feast_0 4 rfl rfl)
theorem dX2_feast_7 : decode cX2_feast 7 = .ok (.bipush (-4), 2) := dk_16 252 (dk_at dksX2_feast_0 7 rfl rfl)
theorem dX2_feast_9 : decode cX2_feast 9 = .ok (.ireturn, 1) := dk_172 (dk_at dksX2_feast_0 9 rfl rfl)
theorem dX2_feast_10 : decode cX2_feast 10 = .ok (.aload_n 0, 1) := dk_42 (dk_at dksX2_feast_0 10 rfl rfl)
theorem dX2_feast_11 : decode cX2_feast 11 = .ok (.getfield 23, 3) := dk_180 0 23 (dk_at dksX2_feast_0 11 rfl rfl)
theorem dX2_feast_14 : decode cX2_feast 14 = .ok (.iconst 0, 1) := dk_3 (dk_at dksX2_feast_0 14 rfl rfl)
theorem dX2_feast_15 : decode cX2_feast 15 = .ok (.iaload, 1) := dk_46 (dk_at dksX2_feast_0 15 rfl rfl)
theorem dX2_feast_16 : decode cX2_feast 16 = .ok (.sipush 999, 3) := dk_17 3 231 (dk_at dksX2_feast_0 16 rfl rfl)
theorem dX2_feast_19 : decode cX2_feast 19 = .ok (.if_icmp .ne 6, 3) := dk_160 0 6 (dk_at dksX2_feast_0 19 rfl rfl)
theorem dX2_feast_22 : decode cX2_feast 22 = .ok (.bipush (-5), 2) := dk_16 251 (dk_at dksX2_feast_0 22 rfl rfl)
theorem dX2_feast_24 : decode cX2_feast 24 = .ok (.ireturn, 1) := dk_172 (dk_at dksX2_feast_1 0 rfl rfl)
theorem dX2_feast_25 : decode cX2_feast 25 = .ok (.aload_n 0, 1) := dk_42 (dk_at dksX2_feast_1 1 rfl rfl)
theorem dX2_feast_26 : decode cX2_feast 26 = .ok (.invokevirtual 204, 3) := dk_182 0 204 (dk_at dksX2_feast_1 2 rfl rfl)
theorem dX2_feast_29 : decode cX2_feast 29 = .ok (.aload_n 0, 1) := dk_42 (dk_at dksX2_feast_1 5 rfl rfl)
theorem dX2_feast_30 : decode cX2_feast 30 = .ok (.invokevirtual 219, 3) := dk_182 0 219 (dk_at dksX2_feast_1 6 rfl rfl)
theorem dX2_feast_33 : decode cX2_feast 33 = .ok (.istore_n 1, 1) := dk_60 (dk_at dksX2_feast_1 9 rfl rfl)
theorem dX2_feast_34 : decode cX2_feast 34 = .ok (.iconst 0, 1) := dk_3 (dk_at dksX2_feast_1 10 rfl rfl)
theorem dX2_feast_35 : decode cX2_feast 35 = .ok (.istore_n 2, 1) := dk_61 (dk_at dksX2_feast_1 11 rfl rfl)
theorem dX2_feast_36 : decode cX2_feast 36 = .ok (.iconst 0, 1) := dk_3 (dk_at dksX2_feast_1 12 rfl rfl)
theorem dX2_feast_37 : decode cX2_feast 37 = .ok (.istore_n 3, 1) := dk_62 (dk_at dksX2_feast_1 13 rfl rfl)
theorem dX2_feast_38 : decode cX2_feast 38 = .ok (.iload_n 3, 1) := dk_29 (dk_at dksX2_feast_1 14 rfl rfl)
theorem dX2_feast_39 : decode cX2_feast 39 = .ok (.aload_n 0, 1) := dk_42 (dk_at dksX2_feast_1 15 rfl rfl)
theorem dX2_feast_40 : decode cX2_feast 40 = .ok (.getfield 66, 3) := dk_180 0 66 (dk_at dksX2_feast_1 16 rfl rfl)
theorem dX2_feast_43 : decode cX2_feast 43 = .ok (.if_icmp .ge 124, 3) := dk_162 0 124 (dk_at dksX2_feast_1 19 rfl rfl)
theorem dX2_feast_46 : decode cX2_feast 46 = .ok (.aload_n 0, 1) := dk_42 (dk_at dksX2_feast_1 22 rfl rfl)
theorem dX2_feast_47 : decode cX2_feast 47 = .ok (.getfield 23, 3) := dk_180 0 23 (dk_at dksX2_feast_2 0 rfl rfl)
theorem dX2_feast_50 : decode cX2_feast 50 = .ok (.bipush 14, 2) := dk_16 14 (dk_at dksX2_feast_2 3 rfl rfl)
theorem dX2_feast_52 : decode cX2_feast 52 = .ok (.iload_n 3, 1) := dk_29 (dk_at dksX2_feast_2 5 rfl rfl)
theorem dX2_feast_53 : decode cX2_feast 53 = .ok (.iadd, 1) := dk_96 (dk_at dksX2_feast_2 6 rfl rfl)
theorem dX2_feast_54 : decode cX2_feast 54 = .ok (.iaload, 1) := dk_46 (dk_at dksX2_feast_2 7 rfl rfl)
theorem dX2_feast_55 : decode cX2_feast 55 = .ok (.istore 4, 2) := dk_54 4 (dk_at dksX2_feast_2 8 rfl rfl)
theorem dX2_feast_57 : decode cX2_feast 57 = .ok (.iload 4, 2) := dk_21 4 (dk_at dksX2_feast_2 10 rfl rfl)
theorem dX2_feast_59 : decode cX2_feast 59 = .ok (.iconst (-1), 1) := dk_2 (dk_at dksX2_feast_2 12 rfl rfl)
theorem dX2_feast_60 : decode cX2_feast 60 = .ok (.if_icmp .ne 7, 3) := dk_160 0 7 (dk_at dksX2_feast_2 13 rfl rfl)
theorem dX2_feast_63 : decode cX2_feast 63 = .ok (.iconst (-1), 1) := dk_2 (dk_at dksX2_feast_2 16 rfl rfl)
theorem dX2_feast_64 : decode cX2_feast 64 = .ok (.goto 14, 3) := dk_167 0 14 (dk_at dksX2_feast_2 17 rfl rfl)
theorem dX2_feast_67 : decode cX2_feast 67 = .ok (.aload_n 0, 1) := dk_42 (dk_at dksX2_feast_2 20 rfl rfl)
theorem dX2_feast_68 : decode cX2_feast 68 = .ok (.aload_n 0, 1) := dk_42 (dk_at dksX2_feast_2 21 rfl rfl)
theorem dX2_feast_69 : decode cX2_feast 69 = .ok (.iload 4, 2) := dk_21 4 (dk_at dksX2_feast_2 22 rfl rfl)
theorem dX2_feast_71 : decode cX2_feast 71 = .ok (.iconst 1, 1) := dk_4 (dk_at dksX2_feast_3 0 rfl rfl)
theorem dX2_feast_72 : decode cX2_feast 72 = .ok (.invokevirtual 222, 3) := dk_182 0 222 (dk_at dksX2_feast_3 1 rfl rfl)
theorem dX2_feast_75 : decode cX2_feast 75 = .ok (.invokevirtual 198, 3) := dk_182 0 198 (dk_at dksX2_feast_3 4 rfl rfl)
theorem dX2_feast_78 : decode cX2_feast 78 = .ok (.istore 5, 2) := dk_54 5 (dk_at dksX2_feast_3 7 rfl rfl)
theorem dX2_feast_80 : decode cX2_feast 80 = .ok (.aload_n 0, 1) := dk_42 (dk_at dksX2_feast_3 9 rfl rfl)
theorem dX2_feast_81 : decode cX2_feast 81 = .ok (.getfield 51, 3) := dk_180 0 51 (dk_at dksX2_feast_3 10 rfl rfl)
theorem dX2_feast_84 : decode cX2_feast 84 = .ok (.iload_n 3, 1) := dk_29 (dk_at dksX2_feast_3 13 rfl rfl)
theorem dX2_feast_85 : decode cX2_feast 85 = .ok (.aload_n 0, 1) := dk_42 (dk_at dksX2_feast_3 14 rfl rfl)
theorem dX2_feast_86 : decode cX2_feast 86 = .ok (.getfield 23, 3) := dk_180 0 23 (dk_at dksX2_feast_3 15 rfl rfl)
theorem dX2_feast_89 : decode cX2_feast 89 = .ok (.bipush 8, 2) := dk_16 8 (dk_at dksX2_feast_3 18 rfl rfl)
theorem dX2_feast_91 : decode cX2_feast 91 = .ok (.iload_n 3, 1) := dk_29 (dk_at dksX2_feast_3 20 rfl rfl)
theorem dX2_feast_92 : decode cX2_feast 92 = .ok (.iadd, 1) := dk_96 (dk_at dksX2_feast_3 21 rfl rfl)
theorem dX2_feast_93 : decode cX2_feast 93 = .ok (.iaload, 1) := dk_46 (dk_at dksX2_feast_3 22 rfl rfl)
theorem dX2_feast_94 : decode cX2_feast 94 = .ok (.iload 5, 2) := dk_21 5 (dk_at dksX2_feast_4 0 rfl rfl)
theorem dX2_feast_96 : decode cX2_feast 96 = .ok (.iconst (-1), 1) := dk_2 (dk_at dksX2_feast_4 2 rfl rfl)
theorem dX2_feast_97 : decode cX2_feast 97 = .ok (.if_icmp .ne 7, 3) := dk_160 0 7 (dk_at dksX2_feast_4 3 rfl rfl)
theorem dX2_feast_100 : decode cX2_feast 100 = .ok (.iconst 0, 1) := dk_3 (dk_at dksX2_feast_4 6 rfl rfl)
theorem dX2_feast_101 : decode cX2_feast 101 = .ok (.goto 13, 3) := dk_167 0 13 (dk_at dksX2_feast_4 7 rfl rfl)
theorem dX2_feast_104 : decode cX2_feast 104 = .ok (.aload_n 0, 1) := dk_42 (dk_at dksX2_feast_4 10 rfl rfl)
theorem dX2_feast_105 : decode cX2_feast 105 = .ok (.getfield 23, 3) := dk_180 0 23 (dk_at dksX2_feast_4 11 rfl rfl)
theorem dX2_feast_108 : decode cX2_feast 108 = .ok (.bipush 8, 2) := dk_16 8 (dk_at dksX2_feast_4 14 rfl rfl)
theorem dX2_feast_110 : decode cX2_feast 110 = .ok (.iload 5, 2) := dk_21 5 (dk_at dksX2_feast_4 16 rfl rfl)
theorem dX2_feast_112 : decode cX2_feast 112 = .ok (.iadd, 1) := dk_96 (dk_at dksX2_feast_4 18 rfl rfl)
theorem dX2_feast_113 : decode cX2_feast 113 = .ok (.iaload, 1) := dk_46 (dk_at dksX2_feast_4 19 rfl rfl)
theorem dX2_feast_114 : decode cX2_feast 114 = .ok (.ior, 1) := dk_128 (dk_at dksX2_feast_4 20 rfl rfl)
theorem dX2_feast_115 : decode cX2_feast 115 = .ok (.iastore, 1) := dk_79 (dk_at dksX2_feast_4 21 rfl rfl)
theorem dX2_feast_116 : decode cX2_feast 116 = .ok (.iload_n 2, 1) := dk_28 (dk_at dksX2_feast_4 22 rfl rfl)
theorem dX2_feast_117 : decode cX2_feast 117 = .ok (.iload 4, 2) := dk_21 4 (dk_at dksX2_feast_5 0 rfl rfl)
theorem dX2_feast_119 : decode cX2_feast 119 = .ok (.iconst (-1), 1) := dk_2 (dk_at dksX2_feast_5 2 rfl rfl)
theorem dX2_feast_120 : decode cX2_feast 120 = .ok (.if_icmp .eq 38, 3) := dk_159 0 38 (dk_at dksX2_feast_5 3 rfl rfl)
theorem dX2_feast_123 : decode cX2_feast 123 = .ok (.aload_n 0, 1) := dk_42 (dk_at dksX2_feast_5 6 rfl rfl)
theorem dX2_feast_124 : decode cX2_feast 124 = .ok (.iload_n 3, 1) := dk_29 (dk_at dksX2_feast_5 7 rfl rfl)
theorem dX2_feast_125 : decode cX2_feast 125 = .ok (.iload 5, 2) := dk_21 5 (dk_at dksX2_feast_5 8 rfl rfl)
theorem dX2_feast_127 : decode cX2_feast 127 = .ok (.invokevirtual 225, 3) := dk_182 0 225 (dk_at dksX2_feast_5 10 rfl rfl)
theorem dX2_feast_130 : decode cX2_feast 130 = .ok (.ifCond .ne 28, 3) := dk_154 0 28 (dk_at dksX2_feast_5 13 rfl rfl)
theorem dX2_feast_133 : decode cX2_feast 133 = .ok (.aload_n 0, 1) := dk_42 (dk_at dksX2_feast_5 16 rfl rfl)
theorem dX2_feast_134 : decode cX2_feast 134 = .ok (.iload_n 3, 1) := dk_29 (dk_at dksX2_feast_5 17 rfl rfl)
theorem dX2_feast_135 : decode cX2_feast 135 = .ok (.aload_n 0, 1) := dk_42 (dk_at dksX2_feast_5 18 rfl rfl)
theorem dX2_feast_136 : decode cX2_feast 136 = .ok (.aload_n 0, 1) := dk_42 (dk_at dksX2_feast_5 19 rfl rfl)
theorem dX2_feast_137 : decode cX2_feast 137 = .ok (.iload 4, 2) := dk_21 4 (dk_at dksX2_feast_5 20 rfl rfl)
theorem dX2_feast_139 : decode cX2_feast 139 = .ok (.iconst (-1), 1) := dk_2 (dk_at dksX2_feast_5 22 rfl rfl)
theorem dX2_feast_140 : decode cX2_feast 140 = .ok (.invokevirtual 222, 3) := dk_182 0 222 (dk_at dksX2_feast_6 0 rfl rfl)
theorem dX2_feast_143 : decode cX2_feast 143 = .ok (.invokevirtual 198, 3) := dk_182 0 198 (dk_at dksX2_feast_6 3 rfl rfl)
theorem dX2_feast_146 : decode cX2_feast 146 = .ok (.invokevirtual 225, 3) := dk_182 0 225 (dk_at dksX2_feast_6 6 rfl rfl)
theorem dX2_feast_149 : decode cX2_feast 149 = .ok (.ifCond .ne 9, 3) := dk_154 0 9 (dk_at dksX2_feast_6 9 rfl rfl)
theorem dX2_feast_152 : decode cX2_feast 152 = .ok (.iconst 1, 1) := dk_4 (dk_at dksX2_feast_6 12 rfl rfl)
theorem dX2_feast_153 : decode cX2_feast 153 = .ok (.iload_n 3, 1) := dk_29 (dk_at dksX2_feast_6 13 rfl rfl)
theorem dX2_feast_154 : decode cX2_feast 154 = .ok (.ishl, 1) := dk_120 (dk_at dksX2_feast_6 14 rfl rfl)
theorem dX2_feast_155 : decode cX2_feast 155 = .ok (.goto 4, 3) := dk_167 0 4 (dk_at dksX2_feast_6 15 rfl rfl)
theorem dX2_feast_158 : decode cX2_feast 158 = .ok (.iconst 0, 1) := dk_3 (dk_at dksX2_feast_6 18 rfl rfl)
theorem dX2_feast_159 : decode cX2_feast 159 = .ok (.ior, 1) := dk_128 (dk_at dksX2_feast_6 19 rfl rfl)
theorem dX2_feast_160 : decode cX2_feast 160 = .ok (.istore_n 2, 1) := dk_61 (dk_at dksX2_feast_6 20 rfl rfl)
theorem dX2_feast_161 : decode cX2_feast 161 = .ok (.iinc 3 1, 3) := dk_132 3 1 (dk_at dksX2_feast_6 21 rfl rfl)
theorem dX2_feast_164 : decode cX2_feast 164 = .ok (.goto (-126), 3) := dk_167 255 130 (dk_at dksX2_feast_7 0 rfl rfl)
theorem dX2_feast_167 : decode cX2_feast 167 = .ok (.iconst 0, 1) := dk_3 (dk_at dksX2_feast_7 3 rfl rfl)
theorem dX2_feast_168 : decode cX2_feast 168 = .ok (.istore_n 3, 1) := dk_62 (dk_at dksX2_feast_7 4 rfl rfl)
theorem dX2_feast_169 : decode cX2_feast 169 = .ok (.iload_n 3, 1) := dk_29 (dk_at dksX2_feast_7 5 rfl rfl)
theorem dX2_feast_170 : decode cX2_feast 170 = .ok (.aload_n 0, 1) := dk_42 (dk_at dksX2_feast_7 6 rfl rfl)
theorem dX2_feast_171 : decode cX2_feast 171 = .ok (.getfield 66, 3) := dk_180 0 66 (dk_at dksX2_feast_7 7 rfl rfl)
theorem dX2_feast_174 : decode cX2_feast 174 = .ok (.if_icmp .ge 123, 3) := dk_162 0 123 (dk_at dksX2_feast_7 10 rfl rfl)
theorem dX2_feast_177 : decode cX2_feast 177 = .ok (.aload_n 0, 1) := dk_42 (dk_at dksX2_feast_7 13 rfl rfl)
theorem dX2_feast_178 : decode cX2_feast 178 = .ok (.getfield 23, 3) := dk_180 0 23 (dk_at dksX2_feast_7 14 rfl rfl)
theorem dX2_feast_181 : decode cX2_feast 181 = .ok (.bipush 14, 2) := dk_16 14 (dk_at dksX2_feast_7 17 rfl rfl)
theorem dX2_feast_183 : decode cX2_feast 183 = .ok (.iload_n 3, 1) := dk_29 (dk_at dksX2_feast_7 19 rfl rfl)
theorem dX2_feast_184 : decode cX2_feast 184 = .ok (.iadd, 1) := dk_96 (dk_at dksX2_feast_7 20 rfl rfl)
theorem dX2_feast_185 : decode cX2_feast 185 = .ok (.iaload, 1) := dk_46 (dk_at dksX2_feast_7 21 rfl rfl)
theorem dX2_feast_186 : decode cX2_feast 186 = .ok (.iconst (-1), 1) := dk_2 (dk_at dksX2_feast_7 22 rfl rfl)
theorem dX2_feast_187 : decode cX2_feast 187 = .ok (.if_icmp .eq 15, 3) := dk_159 0 15 (dk_at dksX2_feast_8 0 rfl rfl)
theorem dX2_feast_190 : decode cX2_feast 190 = .ok (.iload_n 1, 1) := dk_27 (dk_at dksX2_feast_8 3 rfl rfl)
theorem dX2_feast_191 : decode cX2_feast 191 = .ok (.iload_n 3, 1) := dk_29 (dk_at dksX2_feast_8 4 rfl rfl)
theorem dX2_feast_192 : decode cX2_feast 192 = .ok (.invokestatic 86, 3) := dk_184 0 86 (dk_at dksX2_feast_8 5 rfl rfl)
theorem dX2_feast_195 : decode cX2_feast 195 = .ok (.ifCond .ne 7, 3) := dk_154 0 7 (dk_at dksX2_feast_8 8 rfl rfl)
theorem dX2_feast_198 : decode cX2_feast 198 = .ok (.iconst 1, 1) := dk_4 (dk_at dksX2_feast_8 11 rfl rfl)
theorem dX2_feast_199 : decode cX2_feast 199 = .ok (.goto 4, 3) := dk_167 0 4 (dk_at dksX2_feast_8 12 rfl rfl)
theorem dX2_feast_202 : decode cX2_feast 202 = .ok (.iconst 0, 1) := dk_3 (dk_at dksX2_feast_8 15 rfl rfl)
theorem dX2_feast_203 : decode cX2_feast 203 = .ok (.istore 4, 2) := dk_54 4 (dk_at dksX2_feast_8 16 rfl rfl)
theorem dX2_feast_205 : decode cX2_feast 205 = .ok (.aload_n 0, 1) := dk_42 (dk_at dksX2_feast_8 18 rfl rfl)
theorem dX2_feast_206 : decode cX2_feast 206 = .ok (.getfield 23, 3) := dk_180 0 23 (dk_at dksX2_feast_8 19 rfl rfl)
theorem dX2_feast_209 : decode cX2_feast 209 = .ok (.iconst 2, 1) := dk_5 (dk_at dksX2_feast_8 22 rfl rfl)
theorem dX2_feast_210 : decode cX2_feast 210 = .ok (.iload_n 3, 1) := dk_29 (dk_at dksX2_feast_8 23 rfl rfl)
theorem dX2_feast_211 : decode cX2_feast 211 = .ok (.iadd, 1) := dk_96 (dk_at dksX2_feast_9 0 rfl rfl)
theorem dX2_feast_212 : decode cX2_feast 212 = .ok (.iaload, 1) := dk_46 (dk_at dksX2_feast_9 1 rfl rfl)
theorem dX2_feast_213 : decode cX2_feast 213 = .ok (.iload_n 2, 1) := dk_28 (dk_at dksX2_feast_9 2 rfl rfl)
theorem dX2_feast_214 : decode cX2_feast 214 = .ok (.iload_n 3, 1) := dk_29 (dk_at dksX2_feast_9 3 rfl rfl)
theorem dX2_feast_215 : decode cX2_feast 215 = .ok (.invokestatic 86, 3) := dk_184 0 86 (dk_at dksX2_feast_9 4 rfl rfl)
theorem dX2_feast_218 : decode cX2_feast 218 = .ok (.ifCond .eq 7, 3) := dk_153 0 7 (dk_at dksX2_feast_9 7 rfl rfl)
theorem dX2_feast_221 : decode cX2_feast 221 = .ok (.iconst 1, 1) := dk_4 (dk_at dksX2_feast_9 10 rfl rfl)
theorem dX2_feast_222 : decode cX2_feast 222 = .ok (.goto 4, 3) := dk_167 0 4 (dk_at dksX2_feast_9 11 rfl rfl)
theorem dX2_feast_225 : decode cX2_feast 225 = .ok (.iconst (-1), 1) := dk_2 (dk_at dksX2_feast_9 14 rfl rfl)
theorem dX2_feast_226 : decode cX2_feast 226 = .ok (.iadd, 1) := dk_96 (dk_at dksX2_feast_9 15 rfl rfl)
theorem dX2_feast_227 : decode cX2_feast 227 = .ok (.istore 5, 2) := dk_54 5 (dk_at dksX2_feast_9 16 rfl rfl)
theorem dX2_feast_229 : decode cX2_feast 229 = .ok (.aload_n 0, 1) := dk_42 (dk_at dksX2_feast_9 18 rfl rfl)
theorem dX2_feast_230 : decode cX2_feast 230 = .ok (.getfield 23, 3) := dk_180 0 23 (dk_at dksX2_feast_9 19 rfl rfl)
theorem dX2_feast_233 : decode cX2_feast 233 = .ok (.iconst 2, 1) := dk_5 (dk_at dksX2_feast_9 22 rfl rfl)
theorem dX2_feast_234 : decode cX2_feast 234 = .ok (.iload_n 3, 1) := dk_29 (dk_at dksX2_feast_9 23 rfl rfl)
theorem dX2_feast_235 : decode cX2_feast 235 = .ok (.iadd, 1) := dk_96 (dk_at dksX2_feast_10 0 rfl rfl)
theorem dX2_feast_236 : decode cX2_feast 236 = .ok (.iload 4, 2) := dk_21 4 (dk_at dksX2_feast_10 1 rfl rfl)
theorem dX2_feast_238 : decode cX2_feast 238 = .ok (.ifCond .ne 14, 3) := dk_154 0 14 (dk_at dksX2_feast_10 3 rfl rfl)
theorem dX2_feast_241 : decode cX2_feast 241 = .ok (.aload_n 0, 1) := dk_42 (dk_at dksX2_feast_10 6 rfl rfl)
theorem dX2_feast_242 : decode cX2_feast 242 = .ok (.getfield 23, 3) := dk_180 0 23 (dk_at dksX2_feast_10 7 rfl rfl)
theorem dX2_feast_245 : decode cX2_feast 245 = .ok (.iconst 2, 1) := dk_5 (dk_at dksX2_feast_10 10 rfl rfl)
theorem dX2_feast_246 : decode cX2_feast 246 = .ok (.iload_n 3, 1) := dk_29 (dk_at dksX2_feast_10 11 rfl rfl)
theorem dX2_feast_247 : decode cX2_feast 247 = .ok (.iadd, 1) := dk_96 (dk_at dksX2_feast_10 12 rfl rfl)
theorem dX2_feast_248 : decode cX2_feast 248 = .ok (.iaload, 1) := dk_46 (dk_at dksX2_feast_10 13 rfl rfl)
theorem dX2_feast_249 : decode cX2_feast 249 = .ok (.goto 26, 3) := dk_167 0 26 (dk_at dksX2_feast_10 14 rfl rfl)
theorem dX2_feast_252 : decode cX2_feast 252 = .ok (.iload 5, 2) := dk_21 5 (dk_at dksX2_feast_10 17 rfl rfl)
theorem dX2_feast_254 : decode cX2_feast 254 = .ok (.ifCond .ge 7, 3) := dk_156 0 7 (dk_at dksX2_feast_10 19 rfl rfl)
theorem dX2_feast_257 : decode cX2_feast 257 = .ok (.iconst 0, 1) := dk_3 (dk_at dksX2_feast_10 22 rfl rfl)
theorem dX2_feast_258 : decode cX2_feast 258 = .ok (.goto 17, 3) := dk_167 0 17 (dk_at dksX2_feast_11 0 rfl rfl)
theorem dX2_feast_261 : decode cX2_feast 261 = .ok (.iload 5, 2) := dk_21 5 (dk_at dksX2_feast_11 3 rfl rfl)
theorem dX2_feast_263 : decode cX2_feast 263 = .ok (.bipush 9, 2) := dk_16 9 (dk_at dksX2_feast_11 5 rfl rfl)
theorem dX2_feast_265 : decode cX2_feast 265 = .ok (.if_icmp .le 8, 3) := dk_164 0 8 (dk_at dksX2_feast_11 7 rfl rfl)
theorem dX2_feast_268 : decode cX2_feast 268 = .ok (.bipush 9, 2) := dk_16 9 (dk_at dksX2_feast_11 10 rfl rfl)
theorem dX2_feast_270 : decode cX2_feast 270 = .ok (.goto 5, 3) := dk_167 0 5 (dk_at dksX2_feast_11 12 rfl rfl)
theorem dX2_feast_273 : decode cX2_feast 273 = .ok (.iload 5, 2) := dk_21 5 (dk_at dksX2_feast_11 15 rfl rfl)
theorem dX2_feast_275 : decode cX2_feast 275 = .ok (.iastore, 1) := dk_79 (dk_at dksX2_feast_11 17 rfl rfl)
theorem dX2_feast_276 : decode cX2_feast 276 = .ok (.aload_n 0, 1) := dk_42 (dk_at dksX2_feast_11 18 rfl rfl)
theorem dX2_feast_277 : decode cX2_feast 277 = .ok (.getfield 23, 3) := dk_180 0 23 (dk_at dksX2_feast_11 19 rfl rfl)
theorem dX2_feast_280 : decode cX2_feast 280 = .ok (.bipush 8, 2) := dk_16 8 (dk_at dksX2_feast_11 22 rfl rfl)
theorem dX2_feast_282 : decode cX2_feast 282 = .ok (.iload_n 3, 1) := dk_29 (dk_at dksX2_feast_12 0 rfl rfl)
theorem dX2_feast_283 : decode cX2_feast 283 = .ok (.iadd, 1) := dk_96 (dk_at dksX2_feast_12 1 rfl rfl)
theorem dX2_feast_284 : decode cX2_feast 284 = .ok (.aload_n 0, 1) := dk_42 (dk_at dksX2_feast_12 2 rfl rfl)
theorem dX2_feast_285 : decode cX2_feast 285 = .ok (.getfield 51, 3) := dk_180 0 51 (dk_at dksX2_feast_12 3 rfl rfl)
theorem dX2_feast_288 : decode cX2_feast 288 = .ok (.iload_n 3, 1) := dk_29 (dk_at dksX2_feast_12 6 rfl rfl)
theorem dX2_feast_289 : decode cX2_feast 289 = .ok (.iaload, 1) := dk_46 (dk_at dksX2_feast_12 7 rfl rfl)
theorem dX2_feast_290 : decode cX2_feast 290 = .ok (.iastore, 1) := dk_79 (dk_at dksX2_feast_12 8 rfl rfl)
theorem dX2_feast_291 : decode cX2_feast 291 = .ok (.iinc 3 1, 3) := dk_132 3 1 (dk_at dksX2_feast_12 9 rfl rfl)
theorem dX2_feast_294 : decode cX2_feast 294 = .ok (.goto (-125), 3) := dk_167 255 131 (dk_at dksX2_feast_12 12 rfl rfl)
theorem dX2_feast_297 : decode cX2_feast 297 = .ok (.aload_n 0, 1) := dk_42 (dk_at dksX2_feast_12 15 rfl rfl)
theorem dX2_feast_298 : decode cX2_feast 298 = .ok (.getfield 23, 3) := dk_180 0 23 (dk_at dksX2_feast_12 16 rfl rfl)
theorem dX2_feast_301 : decode cX2_feast 301 = .ok (.iconst 1, 1) := dk_4 (dk_at dksX2_feast_12 19 rfl rfl)
theorem dX2_feast_302 : decode cX2_feast 302 = .ok (.dup2, 1) := dk_92 (dk_at dksX2_feast_12 20 rfl rfl)
theorem dX2_feast_303 : decode cX2_feast 303 = .ok (.iaload, 1) := dk_46 (dk_at dksX2_feast_12 21 rfl rfl)
theorem dX2_feast_304 : decode cX2_feast 304 = .ok (.iload_n 1, 1) := dk_27 (dk_at dksX2_feast_12 22 rfl rfl)
theorem dX2_feast_305 : decode cX2_feast 305 = .ok (.iconst (-1), 1) := dk_2 (dk_at dksX2_feast_12 23 rfl rfl)
theorem dX2_feast_306 : decode cX2_feast 306 = .ok (.ixor, 1) := dk_130 (dk_at dksX2_feast_13 0 rfl rfl)
theorem dX2_feast_307 : decode cX2_feast 307 = .ok (.iand, 1) := dk_126 (dk_at dksX2_feast_13 1 rfl rfl)
theorem dX2_feast_308 : decode cX2_feast 308 = .ok (.iastore, 1) := dk_79 (dk_at dksX2_feast_13 2 rfl rfl)
theorem dX2_feast_309 : decode cX2_feast 309 = .ok (.aload_n 0, 1) := dk_42 (dk_at dksX2_feast_13 3 rfl rfl)
theorem dX2_feast_310 : decode cX2_feast 310 = .ok (.invokevirtual 213, 3) := dk_182 0 213 (dk_at dksX2_feast_13 4 rfl rfl)
theorem dX2_feast_313 : decode cX2_feast 313 = .ok (.aload_n 0, 1) := dk_42 (dk_at dksX2_feast_13 7 rfl rfl)
theorem dX2_feast_314 : decode cX2_feast 314 = .ok (.getfield 23, 3) := dk_180 0 23 (dk_at dksX2_feast_13 8 rfl rfl)
theorem dX2_feast_317 : decode cX2_feast 317 = .ok (.iconst 0, 1) := dk_3 (dk_at dksX2_feast_13 11 rfl rfl)
theorem dX2_feast_318 : decode cX2_feast 318 = .ok (.dup2, 1) := dk_92 (dk_at dksX2_feast_13 12 rfl rfl)
theorem dX2_feast_319 : decode cX2_feast 319 = .ok (.iaload, 1) := dk_46 (dk_at dksX2_feast_13 13 rfl rfl)
theorem dX2_feast_320 : decode cX2_feast 320 = .ok (.iconst 1, 1) := dk_4 (dk_at dksX2_feast_13 14 rfl rfl)
theorem dX2_feast_321 : decode cX2_feast 321 = .ok (.iadd, 1) := dk_96 (dk_at dksX2_feast_13 15 rfl rfl)
theorem dX2_feast_322 : decode cX2_feast 322 = .ok (.iastore, 1) := dk_79 (dk_at dksX2_feast_13 16 rfl rfl)
theorem dX2_feast_323 : decode cX2_feast 323 = .ok (.iload_n 1, 1) := dk_27 (dk_at dksX2_feast_13 17 rfl rfl)
theorem dX2_feast_324 : decode cX2_feast 324 = .ok (.ireturn, 1) := dk_172 (dk_at dksX2_feast_13 18 rfl rfl)
abbrev cX2_wrongs : ByteArray := prog_17_method_47_code
def yX2_wrongs : MethodName := ⟨RX2, "wrongs", "()I"⟩
def dkwX2_wrongs_2 : List UInt8 := [167, 0, 4, 3, 128, 60, 132, 2, 1, 167, 255, 205, 27, 172]
abbrev dktX2_wrongs_2 : List UInt8 := dkwX2_wrongs_2 ++ []
def dkwX2_wrongs_1 : List UInt8 := [159, 0, 26, 42, 28, 42, 180, 0, 23, 16, 14, 28, 96, 46, 182, 0, 216, 153, 0, 9, 4, 28, 120]
abbrev dktX2_wrongs_1 : List UInt8 := dkwX2_wrongs_1 ++ dktX2_wrongs_2
def dkwX2_wrongs_0 : List UInt8 := [3, 60, 3, 61, 28, 42, 180, 0, 66, 162, 0, 49, 27, 42, 180, 0, 23, 16, 14, 28, 96, 46, 2]
abbrev dktX2_wrongs_0 : List UInt8 := dkwX2_wrongs_0 ++ dktX2_wrongs_1
theorem dksX2_wrongs_0 : cX2_wrongs.data.toList.drop 0 = dktX2_wrongs_0 := by decide +kernel
theorem dksX2_wrongs_1 : cX2_wrongs.data.toList.drop 23 = dktX2_wrongs_1 := dk_seg dksX2_wrongs_0 23 rfl rfl
theorem dksX2_wrongs_2 : cX2_wrongs.data.toList.drop 46 = dktX2_wrongs_2 := dk_seg dksX2_wrongs_1 23 rfl rfl
theorem dX2_wrongs_0 : decode cX2_wrongs 0 = .ok (.iconst 0, 1) := dk_3 (dk_at dksX2_wrongs_0 0 rfl rfl)
theorem dX2_wrongs_1 : decode cX2_wrongs 1 = .ok (.istore_n 1, 1) := dk_60 (dk_at dksX2_wrongs_0 1 rfl rfl)
theorem dX2_wrongs_2 : decode cX2_wrongs 2 = .ok (.iconst 0, 1) := dk_3 (dk_at dksX2_wrongs_0 2 rfl rfl)
theorem dX2_wrongs_3 : decode cX2_wrongs 3 = .ok (.istore_n 2, 1) := dk_61 (dk_at dksX2_wrongs_0 3 rfl rfl)
theorem dX2_wrongs_4 : decode cX2_wrongs 4 = .ok (.iload_n 2, 1) := dk_28 (dk_at dksX2_wrongs_0 4 rfl rfl)
theorem dX2_wrongs_5 : decode cX2_wrongs 5 = .ok (.aload_n 0, 1) := dk_42 (dk_at dksX2_wrongs_0 5 rfl rfl)
theorem dX2_wrongs_6 : decode cX2_wrongs 6 = .ok (.getfield 66, 3) := dk_180 0 66 (dk_at dksX2_wrongs_0 6 rfl rfl)
theorem dX2_wrongs_9 : decode cX2_wrongs 9 = .ok (.if_icmp .ge 49, 3) := dk_162 0 49 (dk_at dksX2_wrongs_0 9 rfl rfl)
theorem dX2_wrongs_12 : decode cX2_wrongs 12 = .ok (.iload_n 1, 1) := dk_27 (dk_at dksX2_wrongs_0 12 rfl rfl)
theorem dX2_wrongs_13 : decode cX2_wrongs 13 = .ok (.aload_n 0, 1) := dk_42 (dk_at dksX2_wrongs_0 13 rfl rfl)
theorem dX2_wrongs_14 : decode cX2_wrongs 14 = .ok (.getfield 23, 3) := dk_180 0 23 (dk_at dksX2_wrongs_0 14 rfl rfl)
theorem dX2_wrongs_17 : decode cX2_wrongs 17 = .ok (.bipush 14, 2) := dk_16 14 (dk_at dksX2_wrongs_0 17 rfl rfl)
theorem dX2_wrongs_19 : decode cX2_wrongs 19 = .ok (.iload_n 2, 1) := dk_28 (dk_at dksX2_wrongs_0 19 rfl rfl)
theorem dX2_wrongs_20 : decode cX2_wrongs 20 = .ok (.iadd, 1) := dk_96 (dk_at dksX2_wrongs_0 20 rfl rfl)
theorem dX2_wrongs_21 : decode cX2_wrongs 21 = .ok (.iaload, 1) := dk_46 (dk_at dksX2_wrongs_0 21 rfl rfl)
theorem dX2_wrongs_22 : decode cX2_wrongs 22 = .ok (.iconst (-1), 1) := dk_2 (dk_at dksX2_wrongs_0 22 rfl rfl)
theorem dX2_wrongs_23 : decode cX2_wrongs 23 = .ok (.if_icmp .eq 26, 3) := dk_159 0 26 (dk_at dksX2_wrongs_1 0 rfl rfl)
theorem dX2_wrongs_26 : decode cX2_wrongs 26 = .ok (.aload_n 0, 1) := dk_42 (dk_at dksX2_wrongs_1 3 rfl rfl)
theorem dX2_wrongs_27 : decode cX2_wrongs 27 = .ok (.iload_n 2, 1) := dk_28 (dk_at dksX2_wrongs_1 4 rfl rfl)
theorem dX2_wrongs_28 : decode cX2_wrongs 28 = .ok (.aload_n 0, 1) := dk_42 (dk_at dksX2_wrongs_1 5 rfl rfl)
theorem dX2_wrongs_29 : decode cX2_wrongs 29 = .ok (.getfield 23, 3) := dk_180 0 23 (dk_at dksX2_wrongs_1 6 rfl rfl)
theorem dX2_wrongs_32 : decode cX2_wrongs 32 = .ok (.bipush 14, 2) := dk_16 14 (dk_at dksX2_wrongs_1 9 rfl rfl)
theorem dX2_wrongs_34 : decode cX2_wrongs 34 = .ok (.iload_n 2, 1) := dk_28 (dk_at dksX2_wrongs_1 11 rfl rfl)
theorem dX2_wrongs_35 : decode cX2_wrongs 35 = .ok (.iadd, 1) := dk_96 (dk_at dksX2_wrongs_1 12 rfl rfl)
theorem dX2_wrongs_36 : decode cX2_wrongs 36 = .ok (.iaload, 1) := dk_46 (dk_at dksX2_wrongs_1 13 rfl rfl)
theorem dX2_wrongs_37 : decode cX2_wrongs 37 = .ok (.invokevirtual 216, 3) := dk_182 0 216 (dk_at dksX2_wrongs_1 14 rfl rfl)
theorem dX2_wrongs_40 : decode cX2_wrongs 40 = .ok (.ifCond .eq 9, 3) := dk_153 0 9 (dk_at dksX2_wrongs_1 17 rfl rfl)
theorem dX2_wrongs_43 : decode cX2_wrongs 43 = .ok (.iconst 1, 1) := dk_4 (dk_at dksX2_wrongs_1 20 rfl rfl)
theorem dX2_wrongs_44 : decode cX2_wrongs 44 = .ok (.iload_n 2, 1) := dk_28 (dk_at dksX2_wrongs_1 21 rfl rfl)
theorem dX2_wrongs_45 : decode cX2_wrongs 45 = .ok (.ishl, 1) := dk_120 (dk_at dksX2_wrongs_1 22 rfl rfl)
theorem dX2_wrongs_46 : decode cX2_wrongs 46 = .ok (.goto 4, 3) := dk_167 0 4 (dk_at dksX2_wrongs_2 0 rfl rfl)
theorem dX2_wrongs_49 : decode cX2_wrongs 49 = .ok (.iconst 0, 1) := dk_3 (dk_at dksX2_wrongs_2 3 rfl rfl)
theorem dX2_wrongs_50 : decode cX2_wrongs 50 = .ok (.ior, 1) := dk_128 (dk_at dksX2_wrongs_2 4 rfl rfl)
theorem dX2_wrongs_51 : decode cX2_wrongs 51 = .ok (.istore_n 1, 1) := dk_60 (dk_at dksX2_wrongs_2 5 rfl rfl)
theorem dX2_wrongs_52 : decode cX2_wrongs 52 = .ok (.iinc 2 1, 3) := dk_132 2 1 (dk_at dksX2_wrongs_2 6 rfl rfl)
theorem dX2_wrongs_55 : decode cX2_wrongs 55 = .ok (.goto (-51), 3) := dk_167 255 205 (dk_at dksX2_wrongs_2 9 rfl rfl)
theorem dX2_wrongs_58 : decode cX2_wrongs 58 = .ok (.iload_n 1, 1) := dk_27 (dk_at dksX2_wrongs_2 12 rfl rfl)
theorem dX2_wrongs_59 : decode cX2_wrongs 59 = .ok (.ireturn, 1) := dk_172 (dk_at dksX2_wrongs_2 13 rfl rfl)
abbrev cX2_isWrong : ByteArray := prog_17_method_33_code
def yX2_isWrong : MethodName := ⟨RX2, "isWrong", "(II)Z"⟩
def dkwX2_isWrong_1 : List UInt8 := [159, 0, 19, 42, 180, 0, 13, 6, 27, 104, 46, 4, 159, 0, 7, 4, 167, 0, 4, 3, 172]
abbrev dktX2_isWrong_1 : List UInt8 := dkwX2_isWrong_1 ++ []
def dkwX2_isWrong_0 : List UInt8 := [42, 27, 28, 182, 0, 189, 153, 0, 31, 28, 42, 182, 0, 192, 160, 0, 27, 27, 42, 180, 0, 19]
abbrev dktX2_isWrong_0 : List UInt8 := dkwX2_isWrong_0 ++ dktX2_isWrong_1
theorem dksX2_isWrong_0 : cX2_isWrong.data.toList.drop 0 = dktX2_isWrong_0 := by decide +kernel
theorem dksX2_isWrong_1 : cX2_isWrong.data.toList.drop 22 = dktX2_isWrong_1 := dk_seg dksX2_isWrong_0 22 rfl rfl
theorem dX2_isWrong_0 : decode cX2_isWrong 0 = .ok (.aload_n 0, 1) := dk_42 (dk_at dksX2_isWrong_0 0 rfl rfl)
theorem dX2_isWrong_1 : decode cX2_isWrong 1 = .ok (.iload_n 1, 1) := dk_27 (dk_at dksX2_isWrong_0 1 rfl rfl)
theorem dX2_isWrong_2 : decode cX2_isWrong 2 = .ok (.iload_n 2, 1) := dk_28 (dk_at dksX2_isWrong_0 2 rfl rfl)
theorem dX2_isWrong_3 : decode cX2_isWrong 3 = .ok (.invokevirtual 189, 3) := dk_182 0 189 (dk_at dksX2_isWrong_0 3 rfl rfl)
theorem dX2_isWrong_6 : decode cX2_isWrong 6 = .ok (.ifCond .eq 31, 3) := dk_153 0 31 (dk_at dksX2_isWrong_0 6 rfl rfl)
theorem dX2_isWrong_9 : decode cX2_isWrong 9 = .ok (.iload_n 2, 1) := dk_28 (dk_at dksX2_isWrong_0 9 rfl rfl)
theorem dX2_isWrong_10 : decode cX2_isWrong 10 = .ok (.aload_n 0, 1) := dk_42 (dk_at dksX2_isWrong_0 10 rfl rfl)
theorem dX2_isWrong_11 : decode cX2_isWrong 11 = .ok (.invokevirtual 192, 3) := dk_182 0 192 (dk_at dksX2_isWrong_0 11 rfl rfl)
theorem dX2_isWrong_14 : decode cX2_isWrong 14 = .ok (.if_icmp .ne 27, 3) := dk_160 0 27 (dk_at dksX2_isWrong_0 14 rfl rfl)
theorem dX2_isWrong_17 : decode cX2_isWrong 17 = .ok (.iload_n 1, 1) := dk_27 (dk_at dksX2_isWrong_0 17 rfl rfl)
theorem dX2_isWrong_18 : decode cX2_isWrong 18 = .ok (.aload_n 0, 1) := dk_42 (dk_at dksX2_isWrong_0 18 rfl rfl)
theorem dX2_isWrong_19 : decode cX2_isWrong 19 = .ok (.getfield 19, 3) := dk_180 0 19 (dk_at dksX2_isWrong_0 19 rfl rfl)
theorem dX2_isWrong_22 : decode cX2_isWrong 22 = .ok (.if_icmp .eq 19, 3) := dk_159 0 19 (dk_at dksX2_isWrong_1 0 rfl rfl)
theorem dX2_isWrong_25 : decode cX2_isWrong 25 = .ok (.aload_n 0, 1) := dk_42 (dk_at dksX2_isWrong_1 3 rfl rfl)
theorem dX2_isWrong_26 : decode cX2_isWrong 26 = .ok (.getfield 13, 3) := dk_180 0 13 (dk_at dksX2_isWrong_1 4 rfl rfl)
theorem dX2_isWrong_29 : decode cX2_isWrong 29 = .ok (.iconst 3, 1) := dk_6 (dk_at dksX2_isWrong_1 7 rfl rfl)
theorem dX2_isWrong_30 : decode cX2_isWrong 30 = .ok (.iload_n 1, 1) := dk_27 (dk_at dksX2_isWrong_1 8 rfl rfl)
theorem dX2_isWrong_31 : decode cX2_isWrong 31 = .ok (.imul, 1) := dk_104 (dk_at dksX2_isWrong_1 9 rfl rfl)
theorem dX2_isWrong_32 : decode cX2_isWrong 32 = .ok (.iaload, 1) := dk_46 (dk_at dksX2_isWrong_1 10 rfl rfl)
theorem dX2_isWrong_33 : decode cX2_isWrong 33 = .ok (.iconst 1, 1) := dk_4 (dk_at dksX2_isWrong_1 11 rfl rfl)
theorem dX2_isWrong_34 : decode cX2_isWrong 34 = .ok (.if_icmp .eq 7, 3) := dk_159 0 7 (dk_at dksX2_isWrong_1 12 rfl rfl)
theorem dX2_isWrong_37 : decode cX2_isWrong 37 = .ok (.iconst 1, 1) := dk_4 (dk_at dksX2_isWrong_1 15 rfl rfl)
theorem dX2_isWrong_38 : decode cX2_isWrong 38 = .ok (.goto 4, 3) := dk_167 0 4 (dk_at dksX2_isWrong_1 16 rfl rfl)
theorem dX2_isWrong_41 : decode cX2_isWrong 41 = .ok (.iconst 0, 1) := dk_3 (dk_at dksX2_isWrong_1 19 rfl rfl)
theorem dX2_isWrong_42 : decode cX2_isWrong 42 = .ok (.ireturn, 1) := dk_172 (dk_at dksX2_isWrong_1 20 rfl rfl)
abbrev cX2_beside : ByteArray := prog_17_method_45_code
def yX2_beside : MethodName := ⟨RX2, "beside", "(II)I"⟩
def dkwX2_beside_0 : List UInt8 := [27, 28, 96, 42, 180, 0, 75, 96, 42, 180, 0, 75, 112, 172]
abbrev dktX2_beside_0 : List UInt8 := dkwX2_beside_0 ++ []
theorem dksX2_beside_0 : cX2_beside.data.toList.drop 0 = dktX2_beside_0 := by decide +kernel
theorem dX2_beside_0 : decode cX2_beside 0 = .ok (.iload_n 1, 1) := dk_27 (dk_at dksX2_beside_0 0 rfl rfl)
theorem dX2_beside_1 : decode cX2_beside 1 = .ok (.iload_n 2, 1) := dk_28 (dk_at dksX2_beside_0 1 rfl rfl)
theorem dX2_beside_2 : decode cX2_beside 2 = .ok (.iadd, 1) := dk_96 (dk_at dksX2_beside_0 2 rfl rfl)
theorem dX2_beside_3 : decode cX2_beside 3 = .ok (.aload_n 0, 1) := dk_42 (dk_at dksX2_beside_0 3 rfl rfl)
theorem dX2_beside_4 : decode cX2_beside 4 = .ok (.getfield 75, 3) := dk_180 0 75 (dk_at dksX2_beside_0 4 rfl rfl)
theorem dX2_beside_7 : decode cX2_beside 7 = .ok (.iadd, 1) := dk_96 (dk_at dksX2_beside_0 7 rfl rfl)
theorem dX2_beside_8 : decode cX2_beside 8 = .ok (.aload_n 0, 1) := dk_42 (dk_at dksX2_beside_0 8 rfl rfl)
theorem dX2_beside_9 : decode cX2_beside 9 = .ok (.getfield 75, 3) := dk_180 0 75 (dk_at dksX2_beside_0 9 rfl rfl)
theorem dX2_beside_12 : decode cX2_beside 12 = .ok (.irem, 1) := dk_112 (dk_at dksX2_beside_0 12 rfl rfl)
theorem dX2_beside_13 : decode cX2_beside 13 = .ok (.ireturn, 1) := dk_172 (dk_at dksX2_beside_0 13 rfl rfl)
abbrev cX2_areEnemies : ByteArray := prog_17_method_46_code
def yX2_areEnemies : MethodName := ⟨RX2, "areEnemies", "(II)Z"⟩
def dkwX2_areEnemies_0 : List UInt8 := [28, 2, 159, 0, 20, 42, 180, 0, 16, 27, 46, 28, 184, 0, 86, 153, 0, 7, 4, 167, 0, 4, 3, 172]
abbrev dktX2_areEnemies_0 : List UInt8 := dkwX2_areEnemies_0 ++ []
theorem dksX2_areEnemies_0 : cX2_areEnemies.data.toList.drop 0 = dktX2_areEnemies_0 := by decide +kernel
theorem dX2_areEnemies_0 : decode cX2_areEnemies 0 = .ok (.iload_n 2, 1) := dk_28 (dk_at dksX2_areEnemies_0 0 rfl rfl)
theorem dX2_areEnemies_1 : decode cX2_areEnemies 1 = .ok (.iconst (-1), 1) := dk_2 (dk_at dksX2_areEnemies_0 1 rfl rfl)
theorem dX2_areEnemies_2 : decode cX2_areEnemies 2 = .ok (.if_icmp .eq 20, 3) := dk_159 0 20 (dk_at dksX2_areEnemies_0 2 rfl rfl)
theorem dX2_areEnemies_5 : decode cX2_areEnemies 5 = .ok (.aload_n 0, 1) := dk_42 (dk_at dksX2_areEnemies_0 5 rfl rfl)
theorem dX2_areEnemies_6 : decode cX2_areEnemies 6 = .ok (.getfield 16, 3) := dk_180 0 16 (dk_at dksX2_areEnemies_0 6 rfl rfl)
theorem dX2_areEnemies_9 : decode cX2_areEnemies 9 = .ok (.iload_n 1, 1) := dk_27 (dk_at dksX2_areEnemies_0 9 rfl rfl)
theorem dX2_areEnemies_10 : decode cX2_areEnemies 10 = .ok (.iaload, 1) := dk_46 (dk_at dksX2_areEnemies_0 10 rfl rfl)
theorem dX2_areEnemies_11 : decode cX2_areEnemies 11 = .ok (.iload_n 2, 1) := dk_28 (dk_at dksX2_areEnemies_0 11 rfl rfl)
theorem dX2_areEnemies_12 : decode cX2_areEnemies 12 = .ok (.invokestatic 86, 3) := dk_184 0 86 (dk_at dksX2_areEnemies_0 12 rfl rfl)
theorem dX2_areEnemies_15 : decode cX2_areEnemies 15 = .ok (.ifCond .eq 7, 3) := dk_153 0 7 (dk_at dksX2_areEnemies_0 15 rfl rfl)
theorem dX2_areEnemies_18 : decode cX2_areEnemies 18 = .ok (.iconst 1, 1) := dk_4 (dk_at dksX2_areEnemies_0 18 rfl rfl)
theorem dX2_areEnemies_19 : decode cX2_areEnemies 19 = .ok (.goto 4, 3) := dk_167 0 4 (dk_at dksX2_areEnemies_0 19 rfl rfl)
theorem dX2_areEnemies_22 : decode cX2_areEnemies 22 = .ok (.iconst 0, 1) := dk_3 (dk_at dksX2_areEnemies_0 22 rfl rfl)
theorem dX2_areEnemies_23 : decode cX2_areEnemies 23 = .ok (.ireturn, 1) := dk_172 (dk_at dksX2_areEnemies_0 23 rfl rfl)
abbrev cX2_undo : ByteArray := prog_17_method_49_code
def yX2_undo : MethodName := ⟨RX2, "undo", "()I"⟩
def dkwX2_undo_2 : List UInt8 := [79, 132, 1, 1, 167, 255, 227, 42, 180, 0, 69, 172]
abbrev dktX2_undo_2 : List UInt8 := dkwX2_undo_2 ++ []
def dkwX2_undo_1 : List UInt8 := [16, 20, 162, 0, 29, 42, 180, 0, 23, 27, 42, 180, 0, 26, 16, 20, 42, 180, 0, 69, 104, 27, 96, 46]
abbrev dktX2_undo_1 : List UInt8 := dkwX2_undo_1 ++ dktX2_undo_2
def dkwX2_undo_0 : List UInt8 := [42, 180, 0, 69, 154, 0, 6, 16, 252, 172, 42, 89, 180, 0, 69, 4, 100, 181, 0, 69, 3, 60, 27]
abbrev dktX2_undo_0 : List UInt8 := dkwX2_undo_0 ++ dktX2_undo_1
theorem dksX2_undo_0 : cX2_undo.data.toList.drop 0 = dktX2_undo_0 := by decide +kernel
theorem dksX2_undo_1 : cX2_undo.data.toList.drop 23 = dktX2_undo_1 := dk_seg dksX2_undo_0 23 rfl rfl
theorem dksX2_undo_2 : cX2_undo.data.toList.drop 47 = dktX2_undo_2 := dk_seg dksX2_undo_1 24 rfl rfl
theorem dX2_undo_0 : decode cX2_undo 0 = .ok (.aload_n 0, 1) := dk_42 (dk_at dksX2_undo_0 0 rfl rfl)
theorem dX2_undo_1 : decode cX2_undo 1 = .ok (.getfield 69, 3) := dk_180 0 69 (dk_at dksX2_undo_0 1 rfl rfl)
theorem dX2_undo_4 : decode cX2_undo 4 = .ok (.ifCond .ne 6, 3) := dk_154 0 6 (dk_at dksX2_undo_0 4 rfl rfl)
theorem dX2_undo_7 : decode cX2_undo 7 = .ok (.bipush (-4), 2) := dk_16 252 (dk_at dksX2_undo_0 7 rfl rfl)
theorem dX2_undo_9 : decode cX2_undo 9 = .ok (.ireturn, 1) := dk_172 (dk_at dksX2_undo_0 9 rfl rfl)
theorem dX2_undo_10 : decode cX2_undo 10 = .ok (.aload_n 0, 1) := dk_42 (dk_at dksX2_undo_0 10 rfl rfl)
theorem dX2_undo_11 : decode cX2_undo 11 = .ok (.dup, 1) := dk_89 (dk_at dksX2_undo_0 11 rfl rfl)
theorem dX2_undo_12 : decode cX2_undo 12 = .ok (.getfield 69, 3) := dk_180 0 69 (dk_at dksX2_undo_0 12 rfl rfl)
theorem dX2_undo_15 : decode cX2_undo 15 = .ok (.iconst 1, 1) := dk_4 (dk_at dksX2_undo_0 15 rfl rfl)
theorem dX2_undo_16 : decode cX2_undo 16 = .ok (.isub, 1) := dk_100 (dk_at dksX2_undo_0 16 rfl rfl)
theorem dX2_undo_17 : decode cX2_undo 17 = .ok (.putfield 69, 3) := dk_181 0 69 (dk_at dksX2_undo_0 17 rfl rfl)
theorem dX2_undo_20 : decode cX2_undo 20 = .ok (.iconst 0, 1) := dk_3 (dk_at dksX2_undo_0 20 rfl rfl)
theorem dX2_undo_21 : decode cX2_undo 21 = .ok (.istore_n 1, 1) := dk_60 (dk_at dksX2_undo_0 21 rfl rfl)
theorem dX2_undo_22 : decode cX2_undo 22 = .ok (.iload_n 1, 1) := dk_27 (dk_at dksX2_undo_0 22 rfl rfl)
theorem dX2_undo_23 : decode cX2_undo 23 = .ok (.bipush 20, 2) := dk_16 20 (dk_at dksX2_undo_1 0 rfl rfl)
theorem dX2_undo_25 : decode cX2_undo 25 = .ok (.if_icmp .ge 29, 3) := dk_162 0 29 (dk_at dksX2_undo_1 2 rfl rfl)
theorem dX2_undo_28 : decode cX2_undo 28 = .ok (.aload_n 0, 1) := dk_42 (dk_at dksX2_undo_1 5 rfl rfl)
theorem dX2_undo_29 : decode cX2_undo 29 = .ok (.getfield 23, 3) := dk_180 0 23 (dk_at dksX2_undo_1 6 rfl rfl)
theorem dX2_undo_32 : decode cX2_undo 32 = .ok (.iload_n 1, 1) := dk_27 (dk_at dksX2_undo_1 9 rfl rfl)
theorem dX2_undo_33 : decode cX2_undo 33 = .ok (.aload_n 0, 1) := dk_42 (dk_at dksX2_undo_1 10 rfl rfl)
theorem dX2_undo_34 : decode cX2_undo 34 = .ok (.getfield 26, 3) := dk_180 0 26 (dk_at dksX2_undo_1 11 rfl rfl)
theorem dX2_undo_37 : decode cX2_undo 37 = .ok (.bipush 20, 2) := dk_16 20 (dk_at dksX2_undo_1 14 rfl rfl)
theorem dX2_undo_39 : decode cX2_undo 39 = .ok (.aload_n 0, 1) := dk_42 (dk_at dksX2_undo_1 16 rfl rfl)
theorem dX2_undo_40 : decode cX2_undo 40 = .ok (.getfield 69, 3) := dk_180 0 69 (dk_at dksX2_undo_1 17 rfl rfl)
theorem dX2_undo_43 : decode cX2_undo 43 = .ok (.imul, 1) := dk_104 (dk_at dksX2_undo_1 20 rfl rfl)
theorem dX2_undo_44 : decode cX2_undo 44 = .ok (.iload_n 1, 1) := dk_27 (dk_at dksX2_undo_1 21 rfl rfl)
theorem dX2_undo_45 : decode cX2_undo 45 = .ok (.iadd, 1) := dk_96 (dk_at dksX2_undo_1 22 rfl rfl)
theorem dX2_undo_46 : decode cX2_undo 46 = .ok (.iaload, 1) := dk_46 (dk_at dksX2_undo_1 23 rfl rfl)
theorem dX2_undo_47 : decode cX2_undo 47 = .ok (.iastore, 1) := dk_79 (dk_at dksX2_undo_2 0 rfl rfl)
theorem dX2_undo_48 : decode cX2_undo 48 = .ok (.iinc 1 1, 3) := dk_132 1 1 (dk_at dksX2_undo_2 1 rfl rfl)
theorem dX2_undo_51 : decode cX2_undo 51 = .ok (.goto (-29), 3) := dk_167 255 227 (dk_at dksX2_undo_2 4 rfl rfl)
theorem dX2_undo_54 : decode cX2_undo 54 = .ok (.aload_n 0, 1) := dk_42 (dk_at dksX2_undo_2 7 rfl rfl)
theorem dX2_undo_55 : decode cX2_undo 55 = .ok (.getfield 69, 3) := dk_180 0 69 (dk_at dksX2_undo_2 8 rfl rfl)
theorem dX2_undo_58 : decode cX2_undo 58 = .ok (.ireturn, 1) := dk_172 (dk_at dksX2_undo_2 11 rfl rfl)
abbrev cX2_keep : ByteArray := prog_17_method_50_code
def yX2_keep : MethodName := ⟨RX2, "keep", "(I)I"⟩
def dkwX2_keep_2 : List UInt8 := [4, 84, 42, 180, 0, 23, 3, 46, 172]
abbrev dktX2_keep_2 : List UInt8 := dkwX2_keep_2 ++ []
def dkwX2_keep_1 : List UInt8 := [16, 20, 27, 104, 28, 96, 42, 180, 0, 23, 28, 46, 79, 132, 2, 1, 167, 255, 230, 42, 180, 0, 32, 27]
abbrev dktX2_keep_1 : List UInt8 := dkwX2_keep_1 ++ dktX2_keep_2
def dkwX2_keep_0 : List UInt8 := [27, 3, 4, 184, 0, 78, 154, 0, 6, 16, 254, 172, 3, 61, 28, 16, 20, 162, 0, 26, 42, 180, 0, 29]
abbrev dktX2_keep_0 : List UInt8 := dkwX2_keep_0 ++ dktX2_keep_1
theorem dksX2_keep_0 : cX2_keep.data.toList.drop 0 = dktX2_keep_0 := by decide +kernel
theorem dksX2_keep_1 : cX2_keep.data.toList.drop 24 = dktX2_keep_1 := dk_seg dksX2_keep_0 24 rfl rfl
theorem dksX2_keep_2 : cX2_keep.data.toList.drop 48 = dktX2_keep_2 := dk_seg dksX2_keep_1 24 rfl rfl
theorem dX2_keep_0 : decode cX2_keep 0 = .ok (.iload_n 1, 1) := dk_27 (dk_at dksX2_keep_0 0 rfl rfl)
theorem dX2_keep_1 : decode cX2_keep 1 = .ok (.iconst 0, 1) := dk_3 (dk_at dksX2_keep_0 1 rfl rfl)
theorem dX2_keep_2 : decode cX2_keep 2 = .ok (.iconst 1, 1) := dk_4 (dk_at dksX2_keep_0 2 rfl rfl)
theorem dX2_keep_3 : decode cX2_keep 3 = .ok (.invokestatic 78, 3) := dk_184 0 78 (dk_at dksX2_keep_0 3 rfl rfl)
theorem dX2_keep_6 : decode cX2_keep 6 = .ok (.ifCond .ne 6, 3) := dk_154 0 6 (dk_at dksX2_keep_0 6 rfl rfl)
theorem dX2_keep_9 : decode cX2_keep 9 = .ok (.bipush (-2), 2) := dk_16 254 (dk_at dksX2_keep_0 9 rfl rfl)
theorem dX2_keep_11 : decode cX2_keep 11 = .ok (.ireturn, 1) := dk_172 (dk_at dksX2_keep_0 11 rfl rfl)
theorem dX2_keep_12 : decode cX2_keep 12 = .ok (.iconst 0, 1) := dk_3 (dk_at dksX2_keep_0 12 rfl rfl)
theorem dX2_keep_13 : decode cX2_keep 13 = .ok (.istore_n 2, 1) := dk_61 (dk_at dksX2_keep_0 13 rfl rfl)
theorem dX2_keep_14 : decode cX2_keep 14 = .ok (.iload_n 2, 1) := dk_28 (dk_at dksX2_keep_0 14 rfl rfl)
theorem dX2_keep_15 : decode cX2_keep 15 = .ok (.bipush 20, 2) := dk_16 20 (dk_at dksX2_keep_0 15 rfl rfl)
theorem dX2_keep_17 : decode cX2_keep 17 = .ok (.if_icmp .ge 26, 3) := dk_162 0 26 (dk_at dksX2_keep_0 17 rfl rfl)
theorem dX2_keep_20 : decode cX2_keep 20 = .ok (.aload_n 0, 1) := dk_42 (dk_at dksX2_keep_0 20 rfl rfl)
theorem dX2_keep_21 : decode cX2_keep 21 = .ok (.getfield 29, 3) := dk_180 0 29 (dk_at dksX2_keep_0 21 rfl rfl)
theorem dX2_keep_24 : decode cX2_keep 24 = .ok (.bipush 20, 2) := dk_16 20 (dk_at dksX2_keep_1 0 rfl rfl)
theorem dX2_keep_26 : decode cX2_keep 26 = .ok (.iload_n 1, 1) := dk_27 (dk_at dksX2_keep_1 2 rfl rfl)
theorem dX2_keep_27 : decode cX2_keep 27 = .ok (.imul, 1) := dk_104 (dk_at dksX2_keep_1 3 rfl rfl)
theorem dX2_keep_28 : decode cX2_keep 28 = .ok (.iload_n 2, 1) := dk_28 (dk_at dksX2_keep_1 4 rfl rfl)
theorem dX2_keep_29 : decode cX2_keep 29 = .ok (.iadd, 1) := dk_96 (dk_at dksX2_keep_1 5 rfl rfl)
theorem dX2_keep_30 : decode cX2_keep 30 = .ok (.aload_n 0, 1) := dk_42 (dk_at dksX2_keep_1 6 rfl rfl)
theorem dX2_keep_31 : decode cX2_keep 31 = .ok (.getfield 23, 3) := dk_180 0 23 (dk_at dksX2_keep_1 7 rfl rfl)
theorem dX2_keep_34 : decode cX2_keep 34 = .ok (.iload_n 2, 1) := dk_28 (dk_at dksX2_keep_1 10 rfl rfl)
theorem dX2_keep_35 : decode cX2_keep 35 = .ok (.iaload, 1) := dk_46 (dk_at dksX2_keep_1 11 rfl rfl)
theorem dX2_keep_36 : decode cX2_keep 36 = .ok (.iastore, 1) := dk_79 (dk_at dksX2_keep_1 12 rfl rfl)
theorem dX2_keep_37 : decode cX2_keep 37 = .ok (.iinc 2 1, 3) := dk_132 2 1 (dk_at dksX2_keep_1 13 rfl rfl)
theorem dX2_keep_40 : decode cX2_keep 40 = .ok (.goto (-26), 3) := dk_167 255 230 (dk_at dksX2_keep_1 16 rfl rfl)
theorem dX2_keep_43 : decode cX2_keep 43 = .ok (.aload_n 0, 1) := dk_42 (dk_at dksX2_keep_1 19 rfl rfl)
theorem dX2_keep_44 : decode cX2_keep 44 = .ok (.getfield 32, 3) := dk_180 0 32 (dk_at dksX2_keep_1 20 rfl rfl)
theorem dX2_keep_47 : decode cX2_keep 47 = .ok (.iload_n 1, 1) := dk_27 (dk_at dksX2_keep_1 23 rfl rfl)
theorem dX2_keep_48 : decode cX2_keep 48 = .ok (.iconst 1, 1) := dk_4 (dk_at dksX2_keep_2 0 rfl rfl)
theorem dX2_keep_49 : decode cX2_keep 49 = .ok (.bastore, 1) := dk_84 (dk_at dksX2_keep_2 1 rfl rfl)
theorem dX2_keep_50 : decode cX2_keep 50 = .ok (.aload_n 0, 1) := dk_42 (dk_at dksX2_keep_2 2 rfl rfl)
theorem dX2_keep_51 : decode cX2_keep 51 = .ok (.getfield 23, 3) := dk_180 0 23 (dk_at dksX2_keep_2 3 rfl rfl)
theorem dX2_keep_54 : decode cX2_keep 54 = .ok (.iconst 0, 1) := dk_3 (dk_at dksX2_keep_2 6 rfl rfl)
theorem dX2_keep_55 : decode cX2_keep 55 = .ok (.iaload, 1) := dk_46 (dk_at dksX2_keep_2 7 rfl rfl)
theorem dX2_keep_56 : decode cX2_keep 56 = .ok (.ireturn, 1) := dk_172 (dk_at dksX2_keep_2 8 rfl rfl)
abbrev cX2_back : ByteArray := prog_17_method_51_code
def yX2_back : MethodName := ⟨RX2, "back", "(I)I"⟩
def dkwX2_back_2 : List UInt8 := [79, 132, 2, 1, 167, 255, 230, 42, 3, 181, 0, 69, 42, 180, 0, 23, 3, 46, 172]
abbrev dktX2_back_2 : List UInt8 := dkwX2_back_2 ++ []
def dkwX2_back_1 : List UInt8 := [3, 61, 28, 16, 20, 162, 0, 26, 42, 180, 0, 23, 28, 42, 180, 0, 29, 16, 20, 27, 104, 28, 96, 46]
abbrev dktX2_back_1 : List UInt8 := dkwX2_back_1 ++ dktX2_back_2
def dkwX2_back_0 : List UInt8 := [27, 3, 4, 184, 0, 78, 154, 0, 6, 16, 254, 172, 42, 180, 0, 32, 27, 51, 154, 0, 6, 16, 252, 172]
abbrev dktX2_back_0 : List UInt8 := dkwX2_back_0 ++ dktX2_back_1
theorem dksX2_back_0 : cX2_back.data.toList.drop 0 = dktX2_back_0 := by decide +kernel
theorem dksX2_back_1 : cX2_back.data.toList.drop 24 = dktX2_back_1 := dk_seg dksX2_back_0 24 rfl rfl
theorem dksX2_back_2 : cX2_back.data.toList.drop 48 = dktX2_back_2 := dk_seg dksX2_back_1 24 rfl rfl
theorem dX2_back_0 : decode cX2_back 0 = .ok (.iload_n 1, 1) := dk_27 (dk_at dksX2_back_0 0 rfl rfl)
theorem dX2_back_1 : decode cX2_back 1 = .ok (.iconst 0, 1) := dk_3 (dk_at dksX2_back_0 1 rfl rfl)
theorem dX2_back_2 : decode cX2_back 2 = .ok (.iconst 1, 1) := dk_4 (dk_at dksX2_back_0 2 rfl rfl)
theorem dX2_back_3 : decode cX2_back 3 = .ok (.invokestatic 78, 3) := dk_184 0 78 (dk_at dksX2_back_0 3 rfl rfl)
theorem dX2_back_6 : decode cX2_back 6 = .ok (.ifCond .ne 6, 3) := dk_154 0 6 (dk_at dksX2_back_0 6 rfl rfl)
theorem dX2_back_9 : decode cX2_back 9 = .ok (.bipush (-2), 2) := dk_16 254 (dk_at dksX2_back_0 9 rfl rfl)
theorem dX2_back_11 : decode cX2_back 11 = .ok (.ireturn, 1) := dk_172 (dk_at dksX2_back_0 11 rfl rfl)
theorem dX2_back_12 : decode cX2_back 12 = .ok (.aload_n 0, 1) := dk_42 (dk_at dksX2_back_0 12 rfl rfl)
theorem dX2_back_13 : decode cX2_back 13 = .ok (.getfield 32, 3) := dk_180 0 32 (dk_at dksX2_back_0 13 rfl rfl)
theorem dX2_back_16 : decode cX2_back 16 = .ok (.iload_n 1, 1) := dk_27 (dk_at dksX2_back_0 16 rfl rfl)
theorem dX2_back_17 : decode cX2_back 17 = .ok (.baload, 1) := dk_51 (dk_at dksX2_back_0 17 rfl rfl)
theorem dX2_back_18 : decode cX2_back 18 = .ok (.ifCond .ne 6, 3) := dk_154 0 6 (dk_at dksX2_back_0 18 rfl rfl)
theorem dX2_back_21 : decode cX2_back 21 = .ok (.bipush (-4), 2) := dk_16 252 (dk_at dksX2_back_0 21 rfl rfl)
theorem dX2_back_23 : decode cX2_back 23 = .ok (.ireturn, 1) := dk_172 (dk_at dksX2_back_0 23 rfl rfl)
theorem dX2_back_24 : decode cX2_back 24 = .ok (.iconst 0, 1) := dk_3 (dk_at dksX2_back_1 0 rfl rfl)
theorem dX2_back_25 : decode cX2_back 25 = .ok (.istore_n 2, 1) := dk_61 (dk_at dksX2_back_1 1 rfl rfl)
theorem dX2_back_26 : decode cX2_back 26 = .ok (.iload_n 2, 1) := dk_28 (dk_at dksX2_back_1 2 rfl rfl)
theorem dX2_back_27 : decode cX2_back 27 = .ok (.bipush 20, 2) := dk_16 20 (dk_at dksX2_back_1 3 rfl rfl)
theorem dX2_back_29 : decode cX2_back 29 = .ok (.if_icmp .ge 26, 3) := dk_162 0 26 (dk_at dksX2_back_1 5 rfl rfl)
theorem dX2_back_32 : decode cX2_back 32 = .ok (.aload_n 0, 1) := dk_42 (dk_at dksX2_back_1 8 rfl rfl)
theorem dX2_back_33 : decode cX2_back 33 = .ok (.getfield 23, 3) := dk_180 0 23 (dk_at dksX2_back_1 9 rfl rfl)
theorem dX2_back_36 : decode cX2_back 36 = .ok (.iload_n 2, 1) := dk_28 (dk_at dksX2_back_1 12 rfl rfl)
theorem dX2_back_37 : decode cX2_back 37 = .ok (.aload_n 0, 1) := dk_42 (dk_at dksX2_back_1 13 rfl rfl)
theorem dX2_back_38 : decode cX2_back 38 = .ok (.getfield 29, 3) := dk_180 0 29 (dk_at dksX2_back_1 14 rfl rfl)
theorem dX2_back_41 : decode cX2_back 41 = .ok (.bipush 20, 2) := dk_16 20 (dk_at dksX2_back_1 17 rfl rfl)
theorem dX2_back_43 : decode cX2_back 43 = .ok (.iload_n 1, 1) := dk_27 (dk_at dksX2_back_1 19 rfl rfl)
theorem dX2_back_44 : decode cX2_back 44 = .ok (.imul, 1) := dk_104 (dk_at dksX2_back_1 20 rfl rfl)
theorem dX2_back_45 : decode cX2_back 45 = .ok (.iload_n 2, 1) := dk_28 (dk_at dksX2_back_1 21 rfl rfl)
theorem dX2_back_46 : decode cX2_back 46 = .ok (.iadd, 1) := dk_96 (dk_at dksX2_back_1 22 rfl rfl)
theorem dX2_back_47 : decode cX2_back 47 = .ok (.iaload, 1) := dk_46 (dk_at dksX2_back_1 23 rfl rfl)
theorem dX2_back_48 : decode cX2_back 48 = .ok (.iastore, 1) := dk_79 (dk_at dksX2_back_2 0 rfl rfl)
theorem dX2_back_49 : decode cX2_back 49 = .ok (.iinc 2 1, 3) := dk_132 2 1 (dk_at dksX2_back_2 1 rfl rfl)
theorem dX2_back_52 : decode cX2_back 52 = .ok (.goto (-26), 3) := dk_167 255 230 (dk_at dksX2_back_2 4 rfl rfl)
theorem dX2_back_55 : decode cX2_back 55 = .ok (.aload_n 0, 1) := dk_42 (dk_at dksX2_back_2 7 rfl rfl)
theorem dX2_back_56 : decode cX2_back 56 = .ok (.iconst 0, 1) := dk_3 (dk_at dksX2_back_2 8 rfl rfl)
theorem dX2_back_57 : decode cX2_back 57 = .ok (.putfield 69, 3) := dk_181 0 69 (dk_at dksX2_back_2 9 rfl rfl)
theorem dX2_back_60 : decode cX2_back 60 = .ok (.aload_n 0, 1) := dk_42 (dk_at dksX2_back_2 12 rfl rfl)
theorem dX2_back_61 : decode cX2_back 61 = .ok (.getfield 23, 3) := dk_180 0 23 (dk_at dksX2_back_2 13 rfl rfl)
theorem dX2_back_64 : decode cX2_back 64 = .ok (.iconst 0, 1) := dk_3 (dk_at dksX2_back_2 16 rfl rfl)
theorem dX2_back_65 : decode cX2_back 65 = .ok (.iaload, 1) := dk_46 (dk_at dksX2_back_2 17 rfl rfl)
theorem dX2_back_66 : decode cX2_back 66 = .ok (.ireturn, 1) := dk_172 (dk_at dksX2_back_2 18 rfl rfl)
abbrev cX2_seatings : ByteArray := prog_17_method_57_code
def yX2_seatings : MethodName := ⟨RX2, "seatings", "()I"⟩
def dkwX2_seatings_0 : List UInt8 := [42, 3, 182, 0, 249, 42, 180, 0, 231, 172]
abbrev dktX2_seatings_0 : List UInt8 := dkwX2_seatings_0 ++ []
theorem dksX2_seatings_0 : cX2_seatings.data.toList.drop 0 = dktX2_seatings_0 := by decide +kernel
theorem dX2_seatings_0 : decode cX2_seatings 0 = .ok (.aload_n 0, 1) := dk_42 (dk_at dksX2_seatings_0 0 rfl rfl)
theorem dX2_seatings_1 : decode cX2_seatings 1 = .ok (.iconst 0, 1) := dk_3 (dk_at dksX2_seatings_0 1 rfl rfl)
theorem dX2_seatings_2 : decode cX2_seatings 2 = .ok (.invokevirtual 249, 3) := dk_182 0 249 (dk_at dksX2_seatings_0 2 rfl rfl)
theorem dX2_seatings_5 : decode cX2_seatings 5 = .ok (.aload_n 0, 1) := dk_42 (dk_at dksX2_seatings_0 5 rfl rfl)
theorem dX2_seatings_6 : decode cX2_seatings 6 = .ok (.getfield 231, 3) := dk_180 0 231 (dk_at dksX2_seatings_0 6 rfl rfl)
theorem dX2_seatings_9 : decode cX2_seatings 9 = .ok (.ireturn, 1) := dk_172 (dk_at dksX2_seatings_0 9 rfl rfl)
abbrev cX2_findSeatings : ByteArray := prog_17_method_56_code
def yX2_findSeatings : MethodName := ⟨RX2, "findSeatings", "(I)V"⟩
def dkwX2_findSeatings_7 : List UInt8 := [182, 0, 240, 61, 167, 255, 150, 177]
abbrev dktX2_findSeatings_7 : List UInt8 := dkwX2_findSeatings_7 ++ []
def dkwX2_findSeatings_6 : List UInt8 := [28, 4, 182, 0, 240, 42, 180, 0, 66, 160, 0, 11, 42, 27, 182, 0, 243, 167, 0, 10, 42, 28, 4]
abbrev dktX2_findSeatings_6 : List UInt8 := dkwX2_findSeatings_6 ++ dktX2_findSeatings_7
def dkwX2_findSeatings_5 : List UInt8 := [180, 0, 75, 161, 0, 13, 42, 28, 2, 182, 0, 240, 61, 167, 0, 38, 42, 180, 0, 54, 28, 29, 79, 42]
abbrev dktX2_findSeatings_5 : List UInt8 := dkwX2_findSeatings_5 ++ dktX2_findSeatings_6
def dkwX2_findSeatings_4 : List UInt8 := [42, 180, 0, 75, 162, 0, 18, 42, 28, 29, 182, 0, 246, 154, 0, 9, 132, 3, 1, 167, 255, 236, 29, 42]
abbrev dktX2_findSeatings_4 : List UInt8 := dkwX2_findSeatings_4 ++ dktX2_findSeatings_5
def dkwX2_findSeatings_3 : List UInt8 := [100, 184, 0, 78, 153, 0, 98, 42, 180, 0, 54, 28, 46, 4, 96, 62, 42, 180, 0, 54, 28, 2, 79, 29]
abbrev dktX2_findSeatings_3 : List UInt8 := dkwX2_findSeatings_3 ++ dktX2_findSeatings_4
def dkwX2_findSeatings_2 : List UInt8 := [182, 0, 240, 61, 28, 42, 180, 0, 66, 160, 0, 8, 42, 27, 182, 0, 243, 28, 3, 42, 180, 0, 66, 4]
abbrev dktX2_findSeatings_2 : List UInt8 := dkwX2_findSeatings_2 ++ dktX2_findSeatings_3
def dkwX2_findSeatings_1 : List UInt8 := [180, 0, 54, 28, 2, 79, 42, 180, 0, 60, 28, 2, 79, 132, 2, 1, 167, 255, 233, 42, 2, 4]
abbrev dktX2_findSeatings_1 : List UInt8 := dkwX2_findSeatings_1 ++ dktX2_findSeatings_2
def dkwX2_findSeatings_0 : List UInt8 := [42, 3, 181, 0, 231, 42, 3, 181, 0, 234, 42, 3, 181, 0, 237, 3, 61, 28, 16, 6, 162, 0, 23, 42]
abbrev dktX2_findSeatings_0 : List UInt8 := dkwX2_findSeatings_0 ++ dktX2_findSeatings_1
theorem dksX2_findSeatings_0 : cX2_findSeatings.data.toList.drop 0 = dktX2_findSeatings_0 := by decide +kernel
theorem dksX2_findSeatings_1 : cX2_findSeatings.data.toList.drop 24 = dktX2_findSeatings_1 := dk_seg dksX2_findSeatings_0 24 rfl rfl
theorem dksX2_findSeatings_2 : cX2_findSeatings.data.toList.drop 46 = dktX2_findSeatings_2 := dk_seg dksX2_findSeatings_1 22 rfl rfl
theorem dksX2_findSeatings_3 : cX2_findSeatings.data.toList.drop 70 = dktX2_findSeatings_3 := dk_seg dksX2_findSeatings_2 24 rfl rfl
theorem dksX2_findSeatings_4 : cX2_findSeatings.data.toList.drop 94 = dktX2_findSeatings_4 := dk_seg dksX2_findSeatings_3 24 rfl rfl
theorem dksX2_findSeatings_5 : cX2_findSeatings.data.toList.drop 118 = dktX2_findSeatings_5 := dk_seg dksX2_findSeatings_4 24 rfl rfl
theorem dksX2_findSeatings_6 : cX2_findSeatings.data.toList.drop 142 = dktX2_findSeatings_6 := dk_seg dksX2_findSeatings_5 24 rfl rfl
theorem dksX2_findSeatings_7 : cX2_findSeatings.data.toList.drop 165 = dktX2_findSeatings_7 := dk_seg dksX2_findSeatings_6 23 rfl rfl
theorem dX2_findSeatings_0 : decode cX2_findSeatings 0 = .ok (.aload_n 0, 1) := dk_42 (dk_at dksX2_findSeatings_0 0 rfl rfl)
theorem dX2_findSeatings_1 : decode cX2_findSeatings 1 = .ok (.iconst 0, 1) := dk_3 (dk_at dksX2_findSeatings_0 1 rfl rfl)
theorem dX2_findSeatings_2 : decode cX2_findSeatings 2 = .ok (.putfield 231, 3) := dk_181 0 231 (dk_at dksX2_findSeatings_0 2 rfl rfl)
theorem dX2_findSeatings_5 : decode cX2_findSeatings 5 = .ok (.aload_n 0, 1) := dk_42 (dk_at dksX2_findSeatings_0 5 rfl rfl)
theorem dX2_findSeatings_6 : decode cX2_findSeatings 6 = .ok (.iconst 0, 1) := dk_3 (dk_at dksX2_findSeatings_0 6 rfl rfl)
theorem dX2_findSeatings_7 : decode cX2_findSeatings 7 = .ok (.putfield 234, 3) := dk_181 0 234 (dk_at dksX2_findSeatings_0 7 rfl rfl)
theorem dX2_findSeatings_10 : decode cX2_findSeatings 10 = .ok (.aload_n 0, 1) := dk_42 (dk_at dksX2_findSeatings_0 10 rfl rfl)
theorem dX2_findSeatings_11 : decode cX2_findSeatings 11 = .ok (.iconst 0, 1) := dk_3 (dk_at dksX2_findSeatings_0 11 rfl rfl)
theorem dX2_findSeatings_12 : decode cX2_findSeatings 12 = .ok (.putfield 237, 3) := dk_181 0 237 (dk_at dksX2_findSeatings_0 12 rfl rfl)
theorem dX2_findSeatings_15 : decode cX2_findSeatings 15 = .ok (.iconst 0, 1) := dk_3 (dk_at dksX2_findSeatings_0 15 rfl rfl)
theorem dX2_findSeatings_16 : decode cX2_findSeatings 16 = .ok (.istore_n 2, 1) := dk_61 (dk_at dksX2_findSeatings_0 16 rfl rfl)
theorem dX2_findSeatings_17 : decode cX2_findSeatings 17 = .ok (.iload_n 2, 1) := dk_28 (dk_at dksX2_findSeatings_0 17 rfl rfl)
theorem dX2_findSeatings_18 : decode cX2_findSeatings 18 = .ok (.bipush 6, 2) := dk_16 6 (dk_at dksX2_findSeatings_0 18 rfl rfl)
theorem dX2_findSeatings_20 : decode cX2_findSeatings 20 = .ok (.if_icmp .ge 23, 3) := dk_162 0 23 (dk_at dksX2_findSeatings_0 20 rfl rfl)
theorem dX2_findSeatings_23 : decode cX2_findSeatings 23 = .ok (.aload_n 0, 1) := dk_42 (dk_at dksX2_findSeatings_0 23 rfl rfl)
theorem dX2_findSeatings_24 : decode cX2_findSeatings 24 = .ok (.getfield 54, 3) := dk_180 0 54 (dk_at dksX2_findSeatings_1 0 rfl rfl)
theorem dX2_findSeatings_27 : decode cX2_findSeatings 27 = .ok (.iload_n 2, 1) := dk_28 (dk_at dksX2_findSeatings_1 3 rfl rfl)
theorem dX2_findSeatings_28 : decode cX2_findSeatings 28 = .ok (.iconst (-1), 1) := dk_2 (dk_at dksX2_findSeatings_1 4 rfl rfl)
theorem dX2_findSeatings_29 : decode cX2_findSeatings 29 = .ok (.iastore, 1) := dk_79 (dk_at dksX2_findSeatings_1 5 rfl rfl)
theorem dX2_findSeatings_30 : decode cX2_findSeatings 30 = .ok (.aload_n 0, 1) := dk_42 (dk_at dksX2_findSeatings_1 6 rfl rfl)
theorem dX2_findSeatings_31 : decode cX2_findSeatings 31 = .ok (.getfield 60, 3) := dk_180 0 60 (dk_at dksX2_findSeatings_1 7 rfl rfl)
theorem dX2_findSeatings_34 : decode cX2_findSeatings 34 = .ok (.iload_n 2, 1) := dk_28 (dk_at dksX2_findSeatings_1 10 rfl rfl)
theorem dX2_findSeatings_35 : decode cX2_findSeatings 35 = .ok (.iconst (-1), 1) := dk_2 (dk_at dksX2_findSeatings_1 11 rfl rfl)
theorem dX2_findSeatings_36 : decode cX2_findSeatings 36 = .ok (.iastore, 1) := dk_79 (dk_at dksX2_findSeatings_1 12 rfl rfl)
theorem dX2_findSeatings_37 : decode cX2_findSeatings 37 = .ok (.iinc 2 1, 3) := dk_132 2 1 (dk_at dksX2_findSeatings_1 13 rfl rfl)
theorem dX2_findSeatings_40 : decode cX2_findSeatings 40 = .ok (.goto (-23), 3) := dk_167 255 233 (dk_at dksX2_findSeatings_1 16 rfl rfl)
theorem dX2_findSeatings_43 : decode cX2_findSeatings 43 = .ok (.aload_n 0, 1) := dk_42 (dk_at dksX2_findSeatings_1 19 rfl rfl)
theorem dX2_findSeatings_44 : decode cX2_findSeatings 44 = .ok (.iconst (-1), 1) := dk_2 (dk_at dksX2_findSeatings_1 20 rfl rfl)
theorem dX2_findSeatings_45 : decode cX2_findSeatings 45 = .ok (.iconst 1, 1) := dk_4 (dk_at dksX2_findSeatings_1 21 rfl rfl)
theorem dX2_findSeatings_46 : decode cX2_findSeatings 46 = .ok (.invokevirtual 240, 3) := dk_182 0 240 (dk_at dksX2_findSeatings_2 0 rfl rfl)
theorem dX2_findSeatings_49 : decode cX2_findSeatings 49 = .ok (.istore_n 2, 1) := dk_61 (dk_at dksX2_findSeatings_2 3 rfl rfl)
theorem dX2_findSeatings_50 : decode cX2_findSeatings 50 = .ok (.iload_n 2, 1) := dk_28 (dk_at dksX2_findSeatings_2 4 rfl rfl)
theorem dX2_findSeatings_51 : decode cX2_findSeatings 51 = .ok (.aload_n 0, 1) := dk_42 (dk_at dksX2_findSeatings_2 5 rfl rfl)
theorem dX2_findSeatings_52 : decode cX2_findSeatings 52 = .ok (.getfield 66, 3) := dk_180 0 66 (dk_at dksX2_findSeatings_2 6 rfl rfl)
theorem dX2_findSeatings_55 : decode cX2_findSeatings 55 = .ok (.if_icmp .ne 8, 3) := dk_160 0 8 (dk_at dksX2_findSeatings_2 9 rfl rfl)
theorem dX2_findSeatings_58 : decode cX2_findSeatings 58 = .ok (.aload_n 0, 1) := dk_42 (dk_at dksX2_findSeatings_2 12 rfl rfl)
theorem dX2_findSeatings_59 : decode cX2_findSeatings 59 = .ok (.iload_n 1, 1) := dk_27 (dk_at dksX2_findSeatings_2 13 rfl rfl)
theorem dX2_findSeatings_60 : decode cX2_findSeatings 60 = .ok (.invokevirtual 243, 3) := dk_182 0 243 (dk_at dksX2_findSeatings_2 14 rfl rfl)
theorem dX2_findSeatings_63 : decode cX2_findSeatings 63 = .ok (.iload_n 2, 1) := dk_28 (dk_at dksX2_findSeatings_2 17 rfl rfl)
theorem dX2_findSeatings_64 : decode cX2_findSeatings 64 = .ok (.iconst 0, 1) := dk_3 (dk_at dksX2_findSeatings_2 18 rfl rfl)
theorem dX2_findSeatings_65 : decode cX2_findSeatings 65 = .ok (.aload_n 0, 1) := dk_42 (dk_at dksX2_findSeatings_2 19 rfl rfl)
theorem dX2_findSeatings_66 : decode cX2_findSeatings 66 = .ok (.getfield 66, 3) := dk_180 0 66 (dk_at dksX2_findSeatings_2 20 rfl rfl)
theorem dX2_findSeatings_69 : decode cX2_findSeatings 69 = .ok (.iconst 1, 1) := dk_4 (dk_at dksX2_findSeatings_2 23 rfl rfl)
theorem dX2_findSeatings_70 : decode cX2_findSeatings 70 = .ok (.isub, 1) := dk_100 (dk_at dksX2_findSeatings_3 0 rfl rfl)
theorem dX2_findSeatings_71 : decode cX2_findSeatings 71 = .ok (.invokestatic 78, 3) := dk_184 0 78 (dk_at dksX2_findSeatings_3 1 rfl rfl)
theorem dX2_findSeatings_74 : decode cX2_findSeatings 74 = .ok (.ifCond .eq 98, 3) := dk_153 0 98 (dk_at dksX2_findSeatings_3 4 rfl rfl)
theorem dX2_findSeatings_77 : decode cX2_findSeatings 77 = .ok (.aload_n 0, 1) := dk_42 (dk_at dksX2_findSeatings_3 7 rfl rfl)
theorem dX2_findSeatings_78 : decode cX2_findSeatings 78 = .ok (.getfield 54, 3) := dk_180 0 54 (dk_at dksX2_findSeatings_3 8 rfl rfl)
theorem dX2_findSeatings_81 : decode cX2_findSeatings 81 = .ok (.iload_n 2, 1) := dk_28 (dk_at dksX2_findSeatings_3 11 rfl rfl)
theorem dX2_findSeatings_82 : decode cX2_findSeatings 82 = .ok (.iaload, 1) := dk_46 (dk_at dksX2_findSeatings_3 12 rfl rfl)
theorem dX2_findSeatings_83 : decode cX2_findSeatings 83 = .ok (.iconst 1, 1) := dk_4 (dk_at dksX2_findSeatings_3 13 rfl rfl)
theorem dX2_findSeatings_84 : decode cX2_findSeatings 84 = .ok (.iadd, 1) := dk_96 (dk_at dksX2_findSeatings_3 14 rfl rfl)
theorem dX2_findSeatings_85 : decode cX2_findSeatings 85 = .ok (.istore_n 3, 1) := dk_62 (dk_at dksX2_findSeatings_3 15 rfl rfl)
theorem dX2_findSeatings_86 : decode cX2_findSeatings 86 = .ok (.aload_n 0, 1) := dk_42 (dk_at dksX2_findSeatings_3 16 rfl rfl)
theorem dX2_findSeatings_87 : decode cX2_findSeatings 87 = .ok (.getfield 54, 3) := dk_180 0 54 (dk_at dksX2_findSeatings_3 17 rfl rfl)
theorem dX2_findSeatings_90 : decode cX2_findSeatings 90 = .ok (.iload_n 2, 1) := dk_28 (dk_at dksX2_findSeatings_3 20 rfl rfl)
theorem dX2_findSeatings_91 : decode cX2_findSeatings 91 = .ok (.iconst (-1), 1) := dk_2 (dk_at dksX2_findSeatings_3 21 rfl rfl)
theorem dX2_findSeatings_92 : decode cX2_findSeatings 92 = .ok (.iastore, 1) := dk_79 (dk_at dksX2_findSeatings_3 22 rfl rfl)
theorem dX2_findSeatings_93 : decode cX2_findSeatings 93 = .ok (.iload_n 3, 1) := dk_29 (dk_at dksX2_findSeatings_3 23 rfl rfl)
theorem dX2_findSeatings_94 : decode cX2_findSeatings 94 = .ok (.aload_n 0, 1) := dk_42 (dk_at dksX2_findSeatings_4 0 rfl rfl)
theorem dX2_findSeatings_95 : decode cX2_findSeatings 95 = .ok (.getfield 75, 3) := dk_180 0 75 (dk_at dksX2_findSeatings_4 1 rfl rfl)
theorem dX2_findSeatings_98 : decode cX2_findSeatings 98 = .ok (.if_icmp .ge 18, 3) := dk_162 0 18 (dk_at dksX2_findSeatings_4 4 rfl rfl)
theorem dX2_findSeatings_101 : decode cX2_findSeatings 101 = .ok (.aload_n 0, 1) := dk_42 (dk_at dksX2_findSeatings_4 7 rfl rfl)
theorem dX2_findSeatings_102 : decode cX2_findSeatings 102 = .ok (.iload_n 2, 1) := dk_28 (dk_at dksX2_findSeatings_4 8 rfl rfl)
theorem dX2_findSeatings_103 : decode cX2_findSeatings 103 = .ok (.iload_n 3, 1) := dk_29 (dk_at dksX2_findSeatings_4 9 rfl rfl)
theorem dX2_findSeatings_104 : decode cX2_findSeatings 104 = .ok (.invokevirtual 246, 3) := dk_182 0 246 (dk_at dksX2_findSeatings_4 10 rfl rfl)
theorem dX2_findSeatings_107 : decode cX2_findSeatings 107 = .ok (.ifCond .ne 9, 3) := dk_154 0 9 (dk_at dksX2_findSeatings_4 13 rfl rfl)
theorem dX2_findSeatings_110 : decode cX2_findSeatings 110 = .ok (.iinc 3 1, 3) := dk_132 3 1 (dk_at dksX2_findSeatings_4 16 rfl rfl)
theorem dX2_findSeatings_113 : decode cX2_findSeatings 113 = .ok (.goto (-20), 3) := dk_167 255 236 (dk_at dksX2_findSeatings_4 19 rfl rfl)
theorem dX2_findSeatings_116 : decode cX2_findSeatings 116 = .ok (.iload_n 3, 1) := dk_29 (dk_at dksX2_findSeatings_4 22 rfl rfl)
theorem dX2_findSeatings_117 : decode cX2_findSeatings 117 = .ok (.aload_n 0, 1) := dk_42 (dk_at dksX2_findSeatings_4 23 rfl rfl)
theorem dX2_findSeatings_118 : decode cX2_findSeatings 118 = .ok (.getfield 75, 3) := dk_180 0 75 (dk_at dksX2_findSeatings_5 0 rfl rfl)
theorem dX2_findSeatings_121 : decode cX2_findSeatings 121 = .ok (.if_icmp .lt 13, 3) := dk_161 0 13 (dk_at dksX2_findSeatings_5 3 rfl rfl)
theorem dX2_findSeatings_124 : decode cX2_findSeatings 124 = .ok (.aload_n 0, 1) := dk_42 (dk_at dksX2_findSeatings_5 6 rfl rfl)
theorem dX2_findSeatings_125 : decode cX2_findSeatings 125 = .ok (.iload_n 2, 1) := dk_28 (dk_at dksX2_findSeatings_5 7 rfl rfl)
theorem dX2_findSeatings_126 : decode cX2_findSeatings 126 = .ok (.iconst (-1), 1) := dk_2 (dk_at dksX2_findSeatings_5 8 rfl rfl)
theorem dX2_findSeatings_127 : decode cX2_findSeatings 127 = .ok (.invokevirtual 240, 3) := dk_182 0 240 (dk_at dksX2_findSeatings_5 9 rfl rfl)
theorem dX2_findSeatings_130 : decode cX2_findSeatings 130 = .ok (.istore_n 2, 1) := dk_61 (dk_at dksX2_findSeatings_5 12 rfl rfl)
theorem dX2_findSeatings_131 : decode cX2_findSeatings 131 = .ok (.goto 38, 3) := dk_167 0 38 (dk_at dksX2_findSeatings_5 13 rfl rfl)
theorem dX2_findSeatings_134 : decode cX2_findSeatings 134 = .ok (.aload_n 0, 1) := dk_42 (dk_at dksX2_findSeatings_5 16 rfl rfl)
theorem dX2_findSeatings_135 : decode cX2_findSeatings 135 = .ok (.getfield 54, 3) := dk_180 0 54 (dk_at dksX2_findSeatings_5 17 rfl rfl)
theorem dX2_findSeatings_138 : decode cX2_findSeatings 138 = .ok (.iload_n 2, 1) := dk_28 (dk_at dksX2_findSeatings_5 20 rfl rfl)
theorem dX2_findSeatings_139 : decode cX2_findSeatings 139 = .ok (.iload_n 3, 1) := dk_29 (dk_at dksX2_findSeatings_5 21 rfl rfl)
theorem dX2_findSeatings_140 : decode cX2_findSeatings 140 = .ok (.iastore, 1) := dk_79 (dk_at dksX2_findSeatings_5 22 rfl rfl)
theorem dX2_findSeatings_141 : decode cX2_findSeatings 141 = .ok (.aload_n 0, 1) := dk_42 (dk_at dksX2_findSeatings_5 23 rfl rfl)
theorem dX2_findSeatings_142 : decode cX2_findSeatings 142 = .ok (.iload_n 2, 1) := dk_28 (dk_at dksX2_findSeatings_6 0 rfl rfl)
theorem dX2_findSeatings_143 : decode cX2_findSeatings 143 = .ok (.iconst 1, 1) := dk_4 (dk_at dksX2_findSeatings_6 1 rfl rfl)
theorem dX2_findSeatings_144 : decode cX2_findSeatings 144 = .ok (.invokevirtual 240, 3) := dk_182 0 240 (dk_at dksX2_findSeatings_6 2 rfl rfl)
theorem dX2_findSeatings_147 : decode cX2_findSeatings 147 = .ok (.aload_n 0, 1) := dk_42 (dk_at dksX2_findSeatings_6 5 rfl rfl)
theorem dX2_findSeatings_148 : decode cX2_findSeatings 148 = .ok (.getfield 66, 3) := dk_180 0 66 (dk_at dksX2_findSeatings_6 6 rfl rfl)
theorem dX2_findSeatings_151 : decode cX2_findSeatings 151 = .ok (.if_icmp .ne 11, 3) := dk_160 0 11 (dk_at dksX2_findSeatings_6 9 rfl rfl)
theorem dX2_findSeatings_154 : decode cX2_findSeatings 154 = .ok (.aload_n 0, 1) := dk_42 (dk_at dksX2_findSeatings_6 12 rfl rfl)
theorem dX2_findSeatings_155 : decode cX2_findSeatings 155 = .ok (.iload_n 1, 1) := dk_27 (dk_at dksX2_findSeatings_6 13 rfl rfl)
theorem dX2_findSeatings_156 : decode cX2_findSeatings 156 = .ok (.invokevirtual 243, 3) := dk_182 0 243 (dk_at dksX2_findSeatings_6 14 rfl rfl)
theorem dX2_findSeatings_159 : decode cX2_findSeatings 159 = .ok (.goto 10, 3) := dk_167 0 10 (dk_at dksX2_findSeatings_6 17 rfl rfl)
theorem dX2_findSeatings_162 : decode cX2_findSeatings 162 = .ok (.aload_n 0, 1) := dk_42 (dk_at dksX2_findSeatings_6 20 rfl rfl)
theorem dX2_findSeatings_163 : decode cX2_findSeatings 163 = .ok (.iload_n 2, 1) := dk_28 (dk_at dksX2_findSeatings_6 21 rfl rfl)
theorem dX2_findSeatings_164 : decode cX2_findSeatings 164 = .ok (.iconst 1, 1) := dk_4 (dk_at dksX2_findSeatings_6 22 rfl rfl)
theorem dX2_findSeatings_165 : decode cX2_findSeatings 165 = .ok (.invokevirtual 240, 3) := dk_182 0 240 (dk_at dksX2_findSeatings_7 0 rfl rfl)
theorem dX2_findSeatings_168 : decode cX2_findSeatings 168 = .ok (.istore_n 2, 1) := dk_61 (dk_at dksX2_findSeatings_7 3 rfl rfl)
theorem dX2_findSeatings_169 : decode cX2_findSeatings 169 = .ok (.goto (-106), 3) := dk_167 255 150 (dk_at dksX2_findSeatings_7 4 rfl rfl)
theorem dX2_findSeatings_172 : decode cX2_findSeatings 172 = .ok (.return_, 1) := dk_177 (dk_at dksX2_findSeatings_7 7 rfl rfl)
abbrev cX2_nextThere : ByteArray := prog_17_method_55_code
def yX2_nextThere : MethodName := ⟨RX2, "nextThere", "(II)I"⟩
def dkwX2_nextThere_1 : List UInt8 := [29, 184, 0, 86, 154, 0, 10, 29, 28, 96, 62, 167, 255, 225, 29, 172]
abbrev dktX2_nextThere_1 : List UInt8 := dkwX2_nextThere_1 ++ []
def dkwX2_nextThere_0 : List UInt8 := [27, 28, 96, 62, 29, 3, 42, 180, 0, 66, 4, 100, 184, 0, 78, 153, 0, 23, 42, 180, 0, 23, 4, 46]
abbrev dktX2_nextThere_0 : List UInt8 := dkwX2_nextThere_0 ++ dktX2_nextThere_1
theorem dksX2_nextThere_0 : cX2_nextThere.data.toList.drop 0 = dktX2_nextThere_0 := by decide +kernel
theorem dksX2_nextThere_1 : cX2_nextThere.data.toList.drop 24 = dktX2_nextThere_1 := dk_seg dksX2_nextThere_0 24 rfl rfl
theorem dX2_nextThere_0 : decode cX2_nextThere 0 = .ok (.iload_n 1, 1) := dk_27 (dk_at dksX2_nextThere_0 0 rfl rfl)
theorem dX2_nextThere_1 : decode cX2_nextThere 1 = .ok (.iload_n 2, 1) := dk_28 (dk_at dksX2_nextThere_0 1 rfl rfl)
theorem dX2_nextThere_2 : decode cX2_nextThere 2 = .ok (.iadd, 1) := dk_96 (dk_at dksX2_nextThere_0 2 rfl rfl)
theorem dX2_nextThere_3 : decode cX2_nextThere 3 = .ok (.istore_n 3, 1) := dk_62 (dk_at dksX2_nextThere_0 3 rfl rfl)
theorem dX2_nextThere_4 : decode cX2_nextThere 4 = .ok (.iload_n 3, 1) := dk_29 (dk_at dksX2_nextThere_0 4 rfl rfl)
theorem dX2_nextThere_5 : decode cX2_nextThere 5 = .ok (.iconst 0, 1) := dk_3 (dk_at dksX2_nextThere_0 5 rfl rfl)
theorem dX2_nextThere_6 : decode cX2_nextThere 6 = .ok (.aload_n 0, 1) := dk_42 (dk_at dksX2_nextThere_0 6 rfl rfl)
theorem dX2_nextThere_7 : decode cX2_nextThere 7 = .ok (.getfield 66, 3) := dk_180 0 66 (dk_at dksX2_nextThere_0 7 rfl rfl)
theorem dX2_nextThere_10 : decode cX2_nextThere 10 = .ok (.iconst 1, 1) := dk_4 (dk_at dksX2_nextThere_0 10 rfl rfl)
theorem dX2_nextThere_11 : decode cX2_nextThere 11 = .ok (.isub, 1) := dk_100 (dk_at dksX2_nextThere_0 11 rfl rfl)
theorem dX2_nextThere_12 : decode cX2_nextThere 12 = .ok (.invokestatic 78, 3) := dk_184 0 78 (dk_at dksX2_nextThere_0 12 rfl rfl)
theorem dX2_nextThere_15 : decode cX2_nextThere 15 = .ok (.ifCond .eq 23, 3) := dk_153 0 23 (dk_at dksX2_nextThere_0 15 rfl rfl)
theorem dX2_nextThere_18 : decode cX2_nextThere 18 = .ok (.aload_n 0, 1) := dk_42 (dk_at dksX2_nextThere_0 18 rfl rfl)
theorem dX2_nextThere_19 : decode cX2_nextThere 19 = .ok (.getfield 23, 3) := dk_180 0 23 (dk_at dksX2_nextThere_0 19 rfl rfl)
theorem dX2_nextThere_22 : decode cX2_nextThere 22 = .ok (.iconst 1, 1) := dk_4 (dk_at dksX2_nextThere_0 22 rfl rfl)
theorem dX2_nextThere_23 : decode cX2_nextThere 23 = .ok (.iaload, 1) := dk_46 (dk_at dksX2_nextThere_0 23 rfl rfl)
theorem dX2_nextThere_24 : decode cX2_nextThere 24 = .ok (.iload_n 3, 1) := dk_29 (dk_at dksX2_nextThere_1 0 rfl rfl)
theorem dX2_nextThere_25 : decode cX2_nextThere 25 = .ok (.invokestatic 86, 3) := dk_184 0 86 (dk_at dksX2_nextThere_1 1 rfl rfl)
theorem dX2_nextThere_28 : decode cX2_nextThere 28 = .ok (.ifCond .ne 10, 3) := dk_154 0 10 (dk_at dksX2_nextThere_1 4 rfl rfl)
theorem dX2_nextThere_31 : decode cX2_nextThere 31 = .ok (.iload_n 3, 1) := dk_29 (dk_at dksX2_nextThere_1 7 rfl rfl)
theorem dX2_nextThere_32 : decode cX2_nextThere 32 = .ok (.iload_n 2, 1) := dk_28 (dk_at dksX2_nextThere_1 8 rfl rfl)
theorem dX2_nextThere_33 : decode cX2_nextThere 33 = .ok (.iadd, 1) := dk_96 (dk_at dksX2_nextThere_1 9 rfl rfl)
theorem dX2_nextThere_34 : decode cX2_nextThere 34 = .ok (.istore_n 3, 1) := dk_62 (dk_at dksX2_nextThere_1 10 rfl rfl)
theorem dX2_nextThere_35 : decode cX2_nextThere 35 = .ok (.goto (-31), 3) := dk_167 255 225 (dk_at dksX2_nextThere_1 11 rfl rfl)
theorem dX2_nextThere_38 : decode cX2_nextThere 38 = .ok (.iload_n 3, 1) := dk_29 (dk_at dksX2_nextThere_1 14 rfl rfl)
theorem dX2_nextThere_39 : decode cX2_nextThere 39 = .ok (.ireturn, 1) := dk_172 (dk_at dksX2_nextThere_1 15 rfl rfl)
abbrev cX2_finds : ByteArray := prog_17_method_54_code
def yX2_finds : MethodName := ⟨RX2, "finds", "(I)V"⟩
def dkwX2_finds_9 : List UInt8 := [180, 0, 231, 4, 96, 181, 0, 231, 177]
abbrev dktX2_finds_9 : List UInt8 := dkwX2_finds_9 ++ []
def dkwX2_finds_8 : List UInt8 := [153, 0, 11, 29, 42, 180, 0, 237, 164, 0, 7, 29, 167, 0, 7, 42, 180, 0, 237, 181, 0, 237, 42, 89]
abbrev dktX2_finds_8 : List UInt8 := dkwX2_finds_8 ++ dktX2_finds_9
def dkwX2_finds_7 : List UInt8 := [28, 42, 180, 0, 234, 162, 0, 7, 28, 167, 0, 7, 42, 180, 0, 234, 181, 0, 234, 42, 42, 180, 0, 231]
abbrev dktX2_finds_7 : List UInt8 := dkwX2_finds_7 ++ dktX2_finds_8
def dkwX2_finds_6 : List UInt8 := [153, 0, 7, 4, 167, 0, 4, 3, 96, 62, 132, 4, 1, 167, 255, 112, 42, 42, 180, 0, 231, 153, 0, 11]
abbrev dktX2_finds_6 : List UInt8 := dkwX2_finds_6 ++ dktX2_finds_7
def dkwX2_finds_5 : List UInt8 := [160, 0, 7, 3, 167, 0, 13, 42, 180, 0, 23, 16, 8, 21, 5, 96, 46, 128, 27, 184, 0, 86]
abbrev dktX2_finds_5 : List UInt8 := dkwX2_finds_5 ++ dktX2_finds_6
def dkwX2_finds_4 : List UInt8 := [46, 4, 182, 0, 222, 182, 0, 228, 54, 5, 29, 42, 180, 0, 23, 16, 8, 21, 4, 96, 46, 21, 5, 2]
abbrev dktX2_finds_4 : List UInt8 := dkwX2_finds_4 ++ dktX2_finds_5
def dkwX2_finds_3 : List UInt8 := [16, 14, 21, 4, 96, 46, 160, 0, 7, 3, 167, 0, 4, 4, 96, 61, 42, 42, 42, 180, 0, 54, 21, 4]
abbrev dktX2_finds_3 : List UInt8 := dkwX2_finds_3 ++ dktX2_finds_4
def dkwX2_finds_2 : List UInt8 := [167, 0, 10, 42, 180, 0, 60, 21, 4, 46, 79, 28, 42, 180, 0, 54, 21, 4, 46, 42, 180, 0, 23]
abbrev dktX2_finds_2 : List UInt8 := dkwX2_finds_2 ++ dktX2_finds_3
def dkwX2_finds_1 : List UInt8 := [153, 0, 126, 42, 180, 0, 60, 21, 4, 42, 180, 0, 231, 154, 0, 13, 42, 180, 0, 54, 21, 4, 46]
abbrev dktX2_finds_1 : List UInt8 := dkwX2_finds_1 ++ dktX2_finds_2
def dkwX2_finds_0 : List UInt8 := [3, 61, 3, 62, 3, 54, 4, 21, 4, 42, 180, 0, 66, 162, 0, 141, 42, 21, 4, 182, 0, 201]
abbrev dktX2_finds_0 : List UInt8 := dkwX2_finds_0 ++ dktX2_finds_1
theorem dksX2_finds_0 : cX2_finds.data.toList.drop 0 = dktX2_finds_0 := by decide +kernel
theorem dksX2_finds_1 : cX2_finds.data.toList.drop 22 = dktX2_finds_1 := dk_seg dksX2_finds_0 22 rfl rfl
theorem dksX2_finds_2 : cX2_finds.data.toList.drop 45 = dktX2_finds_2 := dk_seg dksX2_finds_1 23 rfl rfl
theorem dksX2_finds_3 : cX2_finds.data.toList.drop 68 = dktX2_finds_3 := dk_seg dksX2_finds_2 23 rfl rfl
theorem dksX2_finds_4 : cX2_finds.data.toList.drop 92 = dktX2_finds_4 := dk_seg dksX2_finds_3 24 rfl rfl
theorem dksX2_finds_5 : cX2_finds.data.toList.drop 116 = dktX2_finds_5 := dk_seg dksX2_finds_4 24 rfl rfl
theorem dksX2_finds_6 : cX2_finds.data.toList.drop 138 = dktX2_finds_6 := dk_seg dksX2_finds_5 22 rfl rfl
theorem dksX2_finds_7 : cX2_finds.data.toList.drop 162 = dktX2_finds_7 := dk_seg dksX2_finds_6 24 rfl rfl
theorem dksX2_finds_8 : cX2_finds.data.toList.drop 186 = dktX2_finds_8 := dk_seg dksX2_finds_7 24 rfl rfl
theorem dksX2_finds_9 : cX2_finds.data.toList.drop 210 = dktX2_finds_9 := dk_seg dksX2_finds_8 24 rfl rfl
theorem dX2_finds_0 : decode cX2_finds 0 = .ok (.iconst 0, 1) := dk_3 (dk_at dksX2_finds_0 0 rfl rfl)
theorem dX2_finds_1 : decode cX2_finds 1 = .ok (.istore_n 2, 1) := dk_61 (dk_at dksX2_finds_0 1 rfl rfl)
theorem dX2_finds_2 : decode cX2_finds 2 = .ok (.iconst 0, 1) := dk_3 (dk_at dksX2_finds_0 2 rfl rfl)
theorem dX2_finds_3 : decode cX2_finds 3 = .ok (.istore_n 3, 1) := dk_62 (dk_at dksX2_finds_0 3 rfl rfl)
theorem dX2_finds_4 : decode cX2_finds 4 = .ok (.iconst 0, 1) := dk_3 (dk_at dksX2_finds_0 4 rfl rfl)
theorem dX2_finds_5 : decode cX2_finds 5 = .ok (.istore 4, 2) := dk_54 4 (dk_at dksX2_finds_0 5 rfl rfl)
theorem dX2_finds_7 : decode cX2_finds 7 = .ok (.iload 4, 2) := dk_21 4 (dk_at dksX2_finds_0 7 rfl rfl)
theorem dX2_finds_9 : decode cX2_finds 9 = .ok (.aload_n 0, 1) := dk_42 (dk_at dksX2_finds_0 9 rfl rfl)
theorem dX2_finds_10 : decode cX2_finds 10 = .ok (.getfield 66, 3) := dk_180 0 66 (dk_at dksX2_finds_0 10 rfl rfl)
theorem dX2_finds_13 : decode cX2_finds 13 = .ok (.if_icmp .ge 141, 3) := dk_162 0 141 (dk_at dksX2_finds_0 13 rfl rfl)
theorem dX2_finds_16 : decode cX2_finds 16 = .ok (.aload_n 0, 1) := dk_42 (dk_at dksX2_finds_0 16 rfl rfl)
theorem dX2_finds_17 : decode cX2_finds 17 = .ok (.iload 4, 2) := dk_21 4 (dk_at dksX2_finds_0 17 rfl rfl)
theorem dX2_finds_19 : decode cX2_finds 19 = .ok (.invokevirtual 201, 3) := dk_182 0 201 (dk_at dksX2_finds_0 19 rfl rfl)
theorem dX2_finds_22 : decode cX2_finds 22 = .ok (.ifCond .eq 126, 3) := dk_153 0 126 (dk_at dksX2_finds_1 0 rfl rfl)
theorem dX2_finds_25 : decode cX2_finds 25 = .ok (.aload_n 0, 1) := dk_42 (dk_at dksX2_finds_1 3 rfl rfl)
theorem dX2_finds_26 : decode cX2_finds 26 = .ok (.getfield 60, 3) := dk_180 0 60 (dk_at dksX2_finds_1 4 rfl rfl)
theorem dX2_finds_29 : decode cX2_finds 29 = .ok (.iload 4, 2) := dk_21 4 (dk_at dksX2_finds_1 7 rfl rfl)
theorem dX2_finds_31 : decode cX2_finds 31 = .ok (.aload_n 0, 1) := dk_42 (dk_at dksX2_finds_1 9 rfl rfl)
theorem dX2_finds_32 : decode cX2_finds 32 = .ok (.getfield 231, 3) := dk_180 0 231 (dk_at dksX2_finds_1 10 rfl rfl)
theorem dX2_finds_35 : decode cX2_finds 35 = .ok (.ifCond .ne 13, 3) := dk_154 0 13 (dk_at dksX2_finds_1 13 rfl rfl)
theorem dX2_finds_38 : decode cX2_finds 38 = .ok (.aload_n 0, 1) := dk_42 (dk_at dksX2_finds_1 16 rfl rfl)
theorem dX2_finds_39 : decode cX2_finds 39 = .ok (.getfield 54, 3) := dk_180 0 54 (dk_at dksX2_finds_1 17 rfl rfl)
theorem dX2_finds_42 : decode cX2_finds 42 = .ok (.iload 4, 2) := dk_21 4 (dk_at dksX2_finds_1 20 rfl rfl)
theorem dX2_finds_44 : decode cX2_finds 44 = .ok (.iaload, 1) := dk_46 (dk_at dksX2_finds_1 22 rfl rfl)
theorem dX2_finds_45 : decode cX2_finds 45 = .ok (.goto 10, 3) := dk_167 0 10 (dk_at dksX2_finds_2 0 rfl rfl)
theorem dX2_finds_48 : decode cX2_finds 48 = .ok (.aload_n 0, 1) := dk_42 (dk_at dksX2_finds_2 3 rfl rfl)
theorem dX2_finds_49 : decode cX2_finds 49 = .ok (.getfield 60, 3) := dk_180 0 60 (dk_at dksX2_finds_2 4 rfl rfl)
theorem dX2_finds_52 : decode cX2_finds 52 = .ok (.iload 4, 2) := dk_21 4 (dk_at dksX2_finds_2 7 rfl rfl)
theorem dX2_finds_54 : decode cX2_finds 54 = .ok (.iaload, 1) := dk_46 (dk_at dksX2_finds_2 9 rfl rfl)
theorem dX2_finds_55 : decode cX2_finds 55 = .ok (.iastore, 1) := dk_79 (dk_at dksX2_finds_2 10 rfl rfl)
theorem dX2_finds_56 : decode cX2_finds 56 = .ok (.iload_n 2, 1) := dk_28 (dk_at dksX2_finds_2 11 rfl rfl)
theorem dX2_finds_57 : decode cX2_finds 57 = .ok (.aload_n 0, 1) := dk_42 (dk_at dksX2_finds_2 12 rfl rfl)
theorem dX2_finds_58 : decode cX2_finds 58 = .ok (.getfield 54, 3) := dk_180 0 54 (dk_at dksX2_finds_2 13 rfl rfl)
theorem dX2_finds_61 : decode cX2_finds 61 = .ok (.iload 4, 2) := dk_21 4 (dk_at dksX2_finds_2 16 rfl rfl)
theorem dX2_finds_63 : decode cX2_finds 63 = .ok (.iaload, 1) := dk_46 (dk_at dksX2_finds_2 18 rfl rfl)
theorem dX2_finds_64 : decode cX2_finds 64 = .ok (.aload_n 0, 1) := dk_42 (dk_at dksX2_finds_2 19 rfl rfl)
theorem dX2_finds_65 : decode cX2_finds 65 = .ok (.getfield 23, 3) := dk_180 0 23 (dk_at dksX2_finds_2 20 rfl rfl)
theorem dX2_finds_68 : decode cX2_finds 68 = .ok (.bipush 14, 2) := dk_16 14 (dk_at dksX2_finds_3 0 rfl rfl)
theorem dX2_finds_70 : decode cX2_finds 70 = .ok (.iload 4, 2) := dk_21 4 (dk_at dksX2_finds_3 2 rfl rfl)
theorem dX2_finds_72 : decode cX2_finds 72 = .ok (.iadd, 1) := dk_96 (dk_at dksX2_finds_3 4 rfl rfl)
theorem dX2_finds_73 : decode cX2_finds 73 = .ok (.iaload, 1) := dk_46 (dk_at dksX2_finds_3 5 rfl rfl)
theorem dX2_finds_74 : decode cX2_finds 74 = .ok (.if_icmp .ne 7, 3) := dk_160 0 7 (dk_at dksX2_finds_3 6 rfl rfl)
theorem dX2_finds_77 : decode cX2_finds 77 = .ok (.iconst 0, 1) := dk_3 (dk_at dksX2_finds_3 9 rfl rfl)
theorem dX2_finds_78 : decode cX2_finds 78 = .ok (.goto 4, 3) := dk_167 0 4 (dk_at dksX2_finds_3 10 rfl rfl)
theorem dX2_finds_81 : decode cX2_finds 81 = .ok (.iconst 1, 1) := dk_4 (dk_at dksX2_finds_3 13 rfl rfl)
theorem dX2_finds_82 : decode cX2_finds 82 = .ok (.iadd, 1) := dk_96 (dk_at dksX2_finds_3 14 rfl rfl)
theorem dX2_finds_83 : decode cX2_finds 83 = .ok (.istore_n 2, 1) := dk_61 (dk_at dksX2_finds_3 15 rfl rfl)
theorem dX2_finds_84 : decode cX2_finds 84 = .ok (.aload_n 0, 1) := dk_42 (dk_at dksX2_finds_3 16 rfl rfl)
theorem dX2_finds_85 : decode cX2_finds 85 = .ok (.aload_n 0, 1) := dk_42 (dk_at dksX2_finds_3 17 rfl rfl)
theorem dX2_finds_86 : decode cX2_finds 86 = .ok (.aload_n 0, 1) := dk_42 (dk_at dksX2_finds_3 18 rfl rfl)
theorem dX2_finds_87 : decode cX2_finds 87 = .ok (.getfield 54, 3) := dk_180 0 54 (dk_at dksX2_finds_3 19 rfl rfl)
theorem dX2_finds_90 : decode cX2_finds 90 = .ok (.iload 4, 2) := dk_21 4 (dk_at dksX2_finds_3 22 rfl rfl)
theorem dX2_finds_92 : decode cX2_finds 92 = .ok (.iaload, 1) := dk_46 (dk_at dksX2_finds_4 0 rfl rfl)
theorem dX2_finds_93 : decode cX2_finds 93 = .ok (.iconst 1, 1) := dk_4 (dk_at dksX2_finds_4 1 rfl rfl)
theorem dX2_finds_94 : decode cX2_finds 94 = .ok (.invokevirtual 222, 3) := dk_182 0 222 (dk_at dksX2_finds_4 2 rfl rfl)
theorem dX2_finds_97 : decode cX2_finds 97 = .ok (.invokevirtual 228, 3) := dk_182 0 228 (dk_at dksX2_finds_4 5 rfl rfl)
theorem dX2_finds_100 : decode cX2_finds 100 = .ok (.istore 5, 2) := dk_54 5 (dk_at dksX2_finds_4 8 rfl rfl)
theorem dX2_finds_102 : decode cX2_finds 102 = .ok (.iload_n 3, 1) := dk_29 (dk_at dksX2_finds_4 10 rfl rfl)
theorem dX2_finds_103 : decode cX2_finds 103 = .ok (.aload_n 0, 1) := dk_42 (dk_at dksX2_finds_4 11 rfl rfl)
theorem dX2_finds_104 : decode cX2_finds 104 = .ok (.getfield 23, 3) := dk_180 0 23 (dk_at dksX2_finds_4 12 rfl rfl)
theorem dX2_finds_107 : decode cX2_finds 107 = .ok (.bipush 8, 2) := dk_16 8 (dk_at dksX2_finds_4 15 rfl rfl)
theorem dX2_finds_109 : decode cX2_finds 109 = .ok (.iload 4, 2) := dk_21 4 (dk_at dksX2_finds_4 17 rfl rfl)
theorem dX2_finds_111 : decode cX2_finds 111 = .ok (.iadd, 1) := dk_96 (dk_at dksX2_finds_4 19 rfl rfl)
theorem dX2_finds_112 : decode cX2_finds 112 = .ok (.iaload, 1) := dk_46 (dk_at dksX2_finds_4 20 rfl rfl)
theorem dX2_finds_113 : decode cX2_finds 113 = .ok (.iload 5, 2) := dk_21 5 (dk_at dksX2_finds_4 21 rfl rfl)
theorem dX2_finds_115 : decode cX2_finds 115 = .ok (.iconst (-1), 1) := dk_2 (dk_at dksX2_finds_4 23 rfl rfl)
theorem dX2_finds_116 : decode cX2_finds 116 = .ok (.if_icmp .ne 7, 3) := dk_160 0 7 (dk_at dksX2_finds_5 0 rfl rfl)
theorem dX2_finds_119 : decode cX2_finds 119 = .ok (.iconst 0, 1) := dk_3 (dk_at dksX2_finds_5 3 rfl rfl)
theorem dX2_finds_120 : decode cX2_finds 120 = .ok (.goto 13, 3) := dk_167 0 13 (dk_at dksX2_finds_5 4 rfl rfl)
theorem dX2_finds_123 : decode cX2_finds 123 = .ok (.aload_n 0, 1) := dk_42 (dk_at dksX2_finds_5 7 rfl rfl)
theorem dX2_finds_124 : decode cX2_finds 124 = .ok (.getfield 23, 3) := dk_180 0 23 (dk_at dksX2_finds_5 8 rfl rfl)
theorem dX2_finds_127 : decode cX2_finds 127 = .ok (.bipush 8, 2) := dk_16 8 (dk_at dksX2_finds_5 11 rfl rfl)
theorem dX2_finds_129 : decode cX2_finds 129 = .ok (.iload 5, 2) := dk_21 5 (dk_at dksX2_finds_5 13 rfl rfl)
theorem dX2_finds_131 : decode cX2_finds 131 = .ok (.iadd, 1) := dk_96 (dk_at dksX2_finds_5 15 rfl rfl)
theorem dX2_finds_132 : decode cX2_finds 132 = .ok (.iaload, 1) := dk_46 (dk_at dksX2_finds_5 16 rfl rfl)
theorem dX2_finds_133 : decode cX2_finds 133 = .ok (.ior, 1) := dk_128 (dk_at dksX2_finds_5 17 rfl rfl)
theorem dX2_finds_134 : decode cX2_finds 134 = .ok (.iload_n 1, 1) := dk_27 (dk_at dksX2_finds_5 18 rfl rfl)
theorem dX2_finds_135 : decode cX2_finds 135 = .ok (.invokestatic 86, 3) := dk_184 0 86 (dk_at dksX2_finds_5 19 rfl rfl)
theorem dX2_finds_138 : decode cX2_finds 138 = .ok (.ifCond .eq 7, 3) := dk_153 0 7 (dk_at dksX2_finds_6 0 rfl rfl)
theorem dX2_finds_141 : decode cX2_finds 141 = .ok (.iconst 1, 1) := dk_4 (dk_at dksX2_finds_6 3 rfl rfl)
theorem dX2_finds_142 : decode cX2_finds 142 = .ok (.goto 4, 3) := dk_167 0 4 (dk_at dksX2_finds_6 4 rfl rfl)
theorem dX2_finds_145 : decode cX2_finds 145 = .ok (.iconst 0, 1) := dk_3 (dk_at dksX2_finds_6 7 rfl rfl)
theorem dX2_finds_146 : decode cX2_finds 146 = .ok (.iadd, 1) := dk_96 (dk_at dksX2_finds_6 8 rfl rfl)
theorem dX2_finds_147 : decode cX2_finds 147 = .ok (.istore_n 3, 1) := dk_62 (dk_at dksX2_finds_6 9 rfl rfl)
theorem dX2_finds_148 : decode cX2_finds 148 = .ok (.iinc 4 1, 3) := dk_132 4 1 (dk_at dksX2_finds_6 10 rfl rfl)
theorem dX2_finds_151 : decode cX2_finds 151 = .ok (.goto (-144), 3) := dk_167 255 112 (dk_at dksX2_finds_6 13 rfl rfl)
theorem dX2_finds_154 : decode cX2_finds 154 = .ok (.aload_n 0, 1) := dk_42 (dk_at dksX2_finds_6 16 rfl rfl)
theorem dX2_finds_155 : decode cX2_finds 155 = .ok (.aload_n 0, 1) := dk_42 (dk_at dksX2_finds_6 17 rfl rfl)
theorem dX2_finds_156 : decode cX2_finds 156 = .ok (.getfield 231, 3) := dk_180 0 231 (dk_at dksX2_finds_6 18 rfl rfl)
theorem dX2_finds_159 : decode cX2_finds 159 = .ok (.ifCond .eq 11, 3) := dk_153 0 11 (dk_at dksX2_finds_6 21 rfl rfl)
theorem dX2_finds_162 : decode cX2_finds 162 = .ok (.iload_n 2, 1) := dk_28 (dk_at dksX2_finds_7 0 rfl rfl)
theorem dX2_finds_163 : decode cX2_finds 163 = .ok (.aload_n 0, 1) := dk_42 (dk_at dksX2_finds_7 1 rfl rfl)
theorem dX2_finds_164 : decode cX2_finds 164 = .ok (.getfield 234, 3) := dk_180 0 234 (dk_at dksX2_finds_7 2 rfl rfl)
theorem dX2_finds_167 : decode cX2_finds 167 = .ok (.if_icmp .ge 7, 3) := dk_162 0 7 (dk_at dksX2_finds_7 5 rfl rfl)
theorem dX2_finds_170 : decode cX2_finds 170 = .ok (.iload_n 2, 1) := dk_28 (dk_at dksX2_finds_7 8 rfl rfl)
theorem dX2_finds_171 : decode cX2_finds 171 = .ok (.goto 7, 3) := dk_167 0 7 (dk_at dksX2_finds_7 9 rfl rfl)
theorem dX2_finds_174 : decode cX2_finds 174 = .ok (.aload_n 0, 1) := dk_42 (dk_at dksX2_finds_7 12 rfl rfl)
theorem dX2_finds_175 : decode cX2_finds 175 = .ok (.getfield 234, 3) := dk_180 0 234 (dk_at dksX2_finds_7 13 rfl rfl)
theorem dX2_finds_178 : decode cX2_finds 178 = .ok (.putfield 234, 3) := dk_181 0 234 (dk_at dksX2_finds_7 16 rfl rfl)
theorem dX2_finds_181 : decode cX2_finds 181 = .ok (.aload_n 0, 1) := dk_42 (dk_at dksX2_finds_7 19 rfl rfl)
theorem dX2_finds_182 : decode cX2_finds 182 = .ok (.aload_n 0, 1) := dk_42 (dk_at dksX2_finds_7 20 rfl rfl)
theorem dX2_finds_183 : decode cX2_finds 183 = .ok (.getfield 231, 3) := dk_180 0 231 (dk_at dksX2_finds_7 21 rfl rfl)
theorem dX2_finds_186 : decode cX2_finds 186 = .ok (.ifCond .eq 11, 3) := dk_153 0 11 (dk_at dksX2_finds_8 0 rfl rfl)
theorem dX2_finds_189 : decode cX2_finds 189 = .ok (.iload_n 3, 1) := dk_29 (dk_at dksX2_finds_8 3 rfl rfl)
theorem dX2_finds_190 : decode cX2_finds 190 = .ok (.aload_n 0, 1) := dk_42 (dk_at dksX2_finds_8 4 rfl rfl)
theorem dX2_finds_191 : decode cX2_finds 191 = .ok (.getfield 237, 3) := dk_180 0 237 (dk_at dksX2_finds_8 5 rfl rfl)
theorem dX2_finds_194 : decode cX2_finds 194 = .ok (.if_icmp .le 7, 3) := dk_164 0 7 (dk_at dksX2_finds_8 8 rfl rfl)
theorem dX2_finds_197 : decode cX2_finds 197 = .ok (.iload_n 3, 1) := dk_29 (dk_at dksX2_finds_8 11 rfl rfl)
theorem dX2_finds_198 : decode cX2_finds 198 = .ok (.goto 7, 3) := dk_167 0 7 (dk_at dksX2_finds_8 12 rfl rfl)
theorem dX2_finds_201 : decode cX2_finds 201 = .ok (.aload_n 0, 1) := dk_42 (dk_at dksX2_finds_8 15 rfl rfl)
theorem dX2_finds_202 : decode cX2_finds 202 = .ok (.getfield 237, 3) := dk_180 0 237 (dk_at dksX2_finds_8 16 rfl rfl)
theorem dX2_finds_205 : decode cX2_finds 205 = .ok (.putfield 237, 3) := dk_181 0 237 (dk_at dksX2_finds_8 19 rfl rfl)
theorem dX2_finds_208 : decode cX2_finds 208 = .ok (.aload_n 0, 1) := dk_42 (dk_at dksX2_finds_8 22 rfl rfl)
theorem dX2_finds_209 : decode cX2_finds 209 = .ok (.dup, 1) := dk_89 (dk_at dksX2_finds_8 23 rfl rfl)
theorem dX2_finds_210 : decode cX2_finds 210 = .ok (.getfield 231, 3) := dk_180 0 231 (dk_at dksX2_finds_9 0 rfl rfl)
theorem dX2_finds_213 : decode cX2_finds 213 = .ok (.iconst 1, 1) := dk_4 (dk_at dksX2_finds_9 3 rfl rfl)
theorem dX2_finds_214 : decode cX2_finds 214 = .ok (.iadd, 1) := dk_96 (dk_at dksX2_finds_9 4 rfl rfl)
theorem dX2_finds_215 : decode cX2_finds 215 = .ok (.putfield 231, 3) := dk_181 0 231 (dk_at dksX2_finds_9 5 rfl rfl)
theorem dX2_finds_218 : decode cX2_finds 218 = .ok (.return_, 1) := dk_177 (dk_at dksX2_finds_9 8 rfl rfl)
abbrev cX2_sitterBy : ByteArray := prog_17_method_52_code
def yX2_sitterBy : MethodName := ⟨RX2, "sitterBy", "(I)I"⟩
def dkwX2_sitterBy_1 : List UInt8 := [167, 0, 4, 28, 61, 132, 3, 1, 167, 255, 229, 28, 172]
abbrev dktX2_sitterBy_1 : List UInt8 := dkwX2_sitterBy_1 ++ []
def dkwX2_sitterBy_0 : List UInt8 := [2, 61, 3, 62, 29, 42, 180, 0, 66, 162, 0, 25, 42, 180, 0, 54, 29, 46, 27, 160, 0, 7, 29]
abbrev dktX2_sitterBy_0 : List UInt8 := dkwX2_sitterBy_0 ++ dktX2_sitterBy_1
theorem dksX2_sitterBy_0 : cX2_sitterBy.data.toList.drop 0 = dktX2_sitterBy_0 := by decide +kernel
theorem dksX2_sitterBy_1 : cX2_sitterBy.data.toList.drop 23 = dktX2_sitterBy_1 := dk_seg dksX2_sitterBy_0 23 rfl rfl
theorem dX2_sitterBy_0 : decode cX2_sitterBy 0 = .ok (.iconst (-1), 1) := dk_2 (dk_at dksX2_sitterBy_0 0 rfl rfl)
theorem dX2_sitterBy_1 : decode cX2_sitterBy 1 = .ok (.istore_n 2, 1) := dk_61 (dk_at dksX2_sitterBy_0 1 rfl rfl)
theorem dX2_sitterBy_2 : decode cX2_sitterBy 2 = .ok (.iconst 0, 1) := dk_3 (dk_at dksX2_sitterBy_0 2 rfl rfl)
theorem dX2_sitterBy_3 : decode cX2_sitterBy 3 = .ok (.istore_n 3, 1) := dk_62 (dk_at dksX2_sitterBy_0 3 rfl rfl)
theorem dX2_sitterBy_4 : decode cX2_sitterBy 4 = .ok (.iload_n 3, 1) := dk_29 (dk_at dksX2_sitterBy_0 4 rfl rfl)
theorem dX2_sitterBy_5 : decode cX2_sitterBy 5 = .ok (.aload_n 0, 1) := dk_42 (dk_at dksX2_sitterBy_0 5 rfl rfl)
theorem dX2_sitterBy_6 : decode cX2_sitterBy 6 = .ok (.getfield 66, 3) := dk_180 0 66 (dk_at dksX2_sitterBy_0 6 rfl rfl)
theorem dX2_sitterBy_9 : decode cX2_sitterBy 9 = .ok (.if_icmp .ge 25, 3) := dk_162 0 25 (dk_at dksX2_sitterBy_0 9 rfl rfl)
theorem dX2_sitterBy_12 : decode cX2_sitterBy 12 = .ok (.aload_n 0, 1) := dk_42 (dk_at dksX2_sitterBy_0 12 rfl rfl)
theorem dX2_sitterBy_13 : decode cX2_sitterBy 13 = .ok (.getfield 54, 3) := dk_180 0 54 (dk_at dksX2_sitterBy_0 13 rfl rfl)
theorem dX2_sitterBy_16 : decode cX2_sitterBy 16 = .ok (.iload_n 3, 1) := dk_29 (dk_at dksX2_sitterBy_0 16 rfl rfl)
theorem dX2_sitterBy_17 : decode cX2_sitterBy 17 = .ok (.iaload, 1) := dk_46 (dk_at dksX2_sitterBy_0 17 rfl rfl)
theorem dX2_sitterBy_18 : decode cX2_sitterBy 18 = .ok (.iload_n 1, 1) := dk_27 (dk_at dksX2_sitterBy_0 18 rfl rfl)
theorem dX2_sitterBy_19 : decode cX2_sitterBy 19 = .ok (.if_icmp .ne 7, 3) := dk_160 0 7 (dk_at dksX2_sitterBy_0 19 rfl rfl)
theorem dX2_sitterBy_22 : decode cX2_sitterBy 22 = .ok (.iload_n 3, 1) := dk_29 (dk_at dksX2_sitterBy_0 22 rfl rfl)
theorem dX2_sitterBy_23 : decode cX2_sitterBy 23 = .ok (.goto 4, 3) := dk_167 0 4 (dk_at dksX2_sitterBy_1 0 rfl rfl)
theorem dX2_sitterBy_26 : decode cX2_sitterBy 26 = .ok (.iload_n 2, 1) := dk_28 (dk_at dksX2_sitterBy_1 3 rfl rfl)
theorem dX2_sitterBy_27 : decode cX2_sitterBy 27 = .ok (.istore_n 2, 1) := dk_61 (dk_at dksX2_sitterBy_1 4 rfl rfl)
theorem dX2_sitterBy_28 : decode cX2_sitterBy 28 = .ok (.iinc 3 1, 3) := dk_132 3 1 (dk_at dksX2_sitterBy_1 5 rfl rfl)
theorem dX2_sitterBy_31 : decode cX2_sitterBy 31 = .ok (.goto (-27), 3) := dk_167 255 229 (dk_at dksX2_sitterBy_1 8 rfl rfl)
theorem dX2_sitterBy_34 : decode cX2_sitterBy 34 = .ok (.iload_n 2, 1) := dk_28 (dk_at dksX2_sitterBy_1 11 rfl rfl)
theorem dX2_sitterBy_35 : decode cX2_sitterBy 35 = .ok (.ireturn, 1) := dk_172 (dk_at dksX2_sitterBy_1 12 rfl rfl)
abbrev cX2_maySit : ByteArray := prog_17_method_53_code
def yX2_maySit : MethodName := ⟨RX2, "maySit", "(II)Z"⟩
def dkwX2_maySit_4 : List UInt8 := [27, 42, 42, 28, 2, 182, 0, 222, 182, 0, 228, 182, 0, 225, 154, 0, 7, 4, 167, 0, 4, 3, 172]
abbrev dktX2_maySit_4 : List UInt8 := dkwX2_maySit_4 ++ []
def dkwX2_maySit_3 : List UInt8 := [21, 4, 154, 0, 43, 42, 27, 42, 42, 28, 4, 182, 0, 222, 182, 0, 228, 182, 0, 225, 154, 0, 25, 42]
abbrev dktX2_maySit_3 : List UInt8 := dkwX2_maySit_3 ++ dktX2_maySit_4
def dkwX2_maySit_2 : List UInt8 := [54, 4, 42, 28, 182, 0, 228, 2, 160, 0, 61, 29, 154, 0, 12, 42, 27, 28, 182, 0, 189, 153, 0, 48]
abbrev dktX2_maySit_2 : List UInt8 := dkwX2_maySit_2 ++ dktX2_maySit_3
def dkwX2_maySit_1 : List UInt8 := [180, 0, 19, 159, 0, 19, 42, 180, 0, 13, 6, 27, 104, 46, 4, 159, 0, 7, 4, 167, 0, 4, 3]
abbrev dktX2_maySit_1 : List UInt8 := dkwX2_maySit_1 ++ dktX2_maySit_2
def dkwX2_maySit_0 : List UInt8 := [28, 42, 180, 0, 57, 160, 0, 7, 4, 167, 0, 4, 3, 62, 28, 42, 182, 0, 192, 160, 0, 27, 27, 42]
abbrev dktX2_maySit_0 : List UInt8 := dkwX2_maySit_0 ++ dktX2_maySit_1
theorem dksX2_maySit_0 : cX2_maySit.data.toList.drop 0 = dktX2_maySit_0 := by decide +kernel
theorem dksX2_maySit_1 : cX2_maySit.data.toList.drop 24 = dktX2_maySit_1 := dk_seg dksX2_maySit_0 24 rfl rfl
theorem dksX2_maySit_2 : cX2_maySit.data.toList.drop 47 = dktX2_maySit_2 := dk_seg dksX2_maySit_1 23 rfl rfl
theorem dksX2_maySit_3 : cX2_maySit.data.toList.drop 71 = dktX2_maySit_3 := dk_seg dksX2_maySit_2 24 rfl rfl
theorem dksX2_maySit_4 : cX2_maySit.data.toList.drop 95 = dktX2_maySit_4 := dk_seg dksX2_maySit_3 24 rfl rfl
theorem dX2_maySit_0 : decode cX2_maySit 0 = .ok (.iload_n 2, 1) := dk_28 (dk_at dksX2_maySit_0 0 rfl rfl)
theorem dX2_maySit_1 : decode cX2_maySit 1 = .ok (.aload_n 0, 1) := dk_42 (dk_at dksX2_maySit_0 1 rfl rfl)
theorem dX2_maySit_2 : decode cX2_maySit 2 = .ok (.getfield 57, 3) := dk_180 0 57 (dk_at dksX2_maySit_0 2 rfl rfl)
theorem dX2_maySit_5 : decode cX2_maySit 5 = .ok (.if_icmp .ne 7, 3) := dk_160 0 7 (dk_at dksX2_maySit_0 5 rfl rfl)
theorem dX2_maySit_8 : decode cX2_maySit 8 = .ok (.iconst 1, 1) := dk_4 (dk_at dksX2_maySit_0 8 rfl rfl)
theorem dX2_maySit_9 : decode cX2_maySit 9 = .ok (.goto 4, 3) := dk_167 0 4 (dk_at dksX2_maySit_0 9 rfl rfl)
theorem dX2_maySit_12 : decode cX2_maySit 12 = .ok (.iconst 0, 1) := dk_3 (dk_at dksX2_maySit_0 12 rfl rfl)
theorem dX2_maySit_13 : decode cX2_maySit 13 = .ok (.istore_n 3, 1) := dk_62 (dk_at dksX2_maySit_0 13 rfl rfl)
theorem dX2_maySit_14 : decode cX2_maySit 14 = .ok (.iload_n 2, 1) := dk_28 (dk_at dksX2_maySit_0 14 rfl rfl)
theorem dX2_maySit_15 : decode cX2_maySit 15 = .ok (.aload_n 0, 1) := dk_42 (dk_at dksX2_maySit_0 15 rfl rfl)
theorem dX2_maySit_16 : decode cX2_maySit 16 = .ok (.invokevirtual 192, 3) := dk_182 0 192 (dk_at dksX2_maySit_0 16 rfl rfl)
theorem dX2_maySit_19 : decode cX2_maySit 19 = .ok (.if_icmp .ne 27, 3) := dk_160 0 27 (dk_at dksX2_maySit_0 19 rfl rfl)
theorem dX2_maySit_22 : decode cX2_maySit 22 = .ok (.iload_n 1, 1) := dk_27 (dk_at dksX2_maySit_0 22 rfl rfl)
theorem dX2_maySit_23 : decode cX2_maySit 23 = .ok (.aload_n 0, 1) := dk_42 (dk_at dksX2_maySit_0 23 rfl rfl)
theorem dX2_maySit_24 : decode cX2_maySit 24 = .ok (.getfield 19, 3) := dk_180 0 19 (dk_at dksX2_maySit_1 0 rfl rfl)
theorem dX2_maySit_27 : decode cX2_maySit 27 = .ok (.if_icmp .eq 19, 3) := dk_159 0 19 (dk_at dksX2_maySit_1 3 rfl rfl)
theorem dX2_maySit_30 : decode cX2_maySit 30 = .ok (.aload_n 0, 1) := dk_42 (dk_at dksX2_maySit_1 6 rfl rfl)
theorem dX2_maySit_31 : decode cX2_maySit 31 = .ok (.getfield 13, 3) := dk_180 0 13 (dk_at dksX2_maySit_1 7 rfl rfl)
theorem dX2_maySit_34 : decode cX2_maySit 34 = .ok (.iconst 3, 1) := dk_6 (dk_at dksX2_maySit_1 10 rfl rfl)
theorem dX2_maySit_35 : decode cX2_maySit 35 = .ok (.iload_n 1, 1) := dk_27 (dk_at dksX2_maySit_1 11 rfl rfl)
theorem dX2_maySit_36 : decode cX2_maySit 36 = .ok (.imul, 1) := dk_104 (dk_at dksX2_maySit_1 12 rfl rfl)
theorem dX2_maySit_37 : decode cX2_maySit 37 = .ok (.iaload, 1) := dk_46 (dk_at dksX2_maySit_1 13 rfl rfl)
theorem dX2_maySit_38 : decode cX2_maySit 38 = .ok (.iconst 1, 1) := dk_4 (dk_at dksX2_maySit_1 14 rfl rfl)
theorem dX2_maySit_39 : decode cX2_maySit 39 = .ok (.if_icmp .eq 7, 3) := dk_159 0 7 (dk_at dksX2_maySit_1 15 rfl rfl)
theorem dX2_maySit_42 : decode cX2_maySit 42 = .ok (.iconst 1, 1) := dk_4 (dk_at dksX2_maySit_1 18 rfl rfl)
theorem dX2_maySit_43 : decode cX2_maySit 43 = .ok (.goto 4, 3) := dk_167 0 4 (dk_at dksX2_maySit_1 19 rfl rfl)
theorem dX2_maySit_46 : decode cX2_maySit 46 = .ok (.iconst 0, 1) := dk_3 (dk_at dksX2_maySit_1 22 rfl rfl)
theorem dX2_maySit_47 : decode cX2_maySit 47 = .ok (.istore 4, 2) := dk_54 4 (dk_at dksX2_maySit_2 0 rfl rfl)
theorem dX2_maySit_49 : decode cX2_maySit 49 = .ok (.aload_n 0, 1) := dk_42 (dk_at dksX2_maySit_2 2 rfl rfl)
theorem dX2_maySit_50 : decode cX2_maySit 50 = .ok (.iload_n 2, 1) := dk_28 (dk_at dksX2_maySit_2 3 rfl rfl)
theorem dX2_maySit_51 : decode cX2_maySit 51 = .ok (.invokevirtual 228, 3) := dk_182 0 228 (dk_at dksX2_maySit_2 4 rfl rfl)
theorem dX2_maySit_54 : decode cX2_maySit 54 = .ok (.iconst (-1), 1) := dk_2 (dk_at dksX2_maySit_2 7 rfl rfl)
theorem dX2_maySit_55 : decode cX2_maySit 55 = .ok (.if_icmp .ne 61, 3) := dk_160 0 61 (dk_at dksX2_maySit_2 8 rfl rfl)
theorem dX2_maySit_58 : decode cX2_maySit 58 = .ok (.iload_n 3, 1) := dk_29 (dk_at dksX2_maySit_2 11 rfl rfl)
theorem dX2_maySit_59 : decode cX2_maySit 59 = .ok (.ifCond .ne 12, 3) := dk_154 0 12 (dk_at dksX2_maySit_2 12 rfl rfl)
theorem dX2_maySit_62 : decode cX2_maySit 62 = .ok (.aload_n 0, 1) := dk_42 (dk_at dksX2_maySit_2 15 rfl rfl)
theorem dX2_maySit_63 : decode cX2_maySit 63 = .ok (.iload_n 1, 1) := dk_27 (dk_at dksX2_maySit_2 16 rfl rfl)
theorem dX2_maySit_64 : decode cX2_maySit 64 = .ok (.iload_n 2, 1) := dk_28 (dk_at dksX2_maySit_2 17 rfl rfl)
theorem dX2_maySit_65 : decode cX2_maySit 65 = .ok (.invokevirtual 189, 3) := dk_182 0 189 (dk_at dksX2_maySit_2 18 rfl rfl)
theorem dX2_maySit_68 : decode cX2_maySit 68 = .ok (.ifCond .eq 48, 3) := dk_153 0 48 (dk_at dksX2_maySit_2 21 rfl rfl)
theorem dX2_maySit_71 : decode cX2_maySit 71 = .ok (.iload 4, 2) := dk_21 4 (dk_at dksX2_maySit_3 0 rfl rfl)
theorem dX2_maySit_73 : decode cX2_maySit 73 = .ok (.ifCond .ne 43, 3) := dk_154 0 43 (dk_at dksX2_maySit_3 2 rfl rfl)
theorem dX2_maySit_76 : decode cX2_maySit 76 = .ok (.aload_n 0, 1) := dk_42 (dk_at dksX2_maySit_3 5 rfl rfl)
theorem dX2_maySit_77 : decode cX2_maySit 77 = .ok (.iload_n 1, 1) := dk_27 (dk_at dksX2_maySit_3 6 rfl rfl)
theorem dX2_maySit_78 : decode cX2_maySit 78 = .ok (.aload_n 0, 1) := dk_42 (dk_at dksX2_maySit_3 7 rfl rfl)
theorem dX2_maySit_79 : decode cX2_maySit 79 = .ok (.aload_n 0, 1) := dk_42 (dk_at dksX2_maySit_3 8 rfl rfl)
theorem dX2_maySit_80 : decode cX2_maySit 80 = .ok (.iload_n 2, 1) := dk_28 (dk_at dksX2_maySit_3 9 rfl rfl)
theorem dX2_maySit_81 : decode cX2_maySit 81 = .ok (.iconst 1, 1) := dk_4 (dk_at dksX2_maySit_3 10 rfl rfl)
theorem dX2_maySit_82 : decode cX2_maySit 82 = .ok (.invokevirtual 222, 3) := dk_182 0 222 (dk_at dksX2_maySit_3 11 rfl rfl)
theorem dX2_maySit_85 : decode cX2_maySit 85 = .ok (.invokevirtual 228, 3) := dk_182 0 228 (dk_at dksX2_maySit_3 14 rfl rfl)
theorem dX2_maySit_88 : decode cX2_maySit 88 = .ok (.invokevirtual 225, 3) := dk_182 0 225 (dk_at dksX2_maySit_3 17 rfl rfl)
theorem dX2_maySit_91 : decode cX2_maySit 91 = .ok (.ifCond .ne 25, 3) := dk_154 0 25 (dk_at dksX2_maySit_3 20 rfl rfl)
theorem dX2_maySit_94 : decode cX2_maySit 94 = .ok (.aload_n 0, 1) := dk_42 (dk_at dksX2_maySit_3 23 rfl rfl)
theorem dX2_maySit_95 : decode cX2_maySit 95 = .ok (.iload_n 1, 1) := dk_27 (dk_at dksX2_maySit_4 0 rfl rfl)
theorem dX2_maySit_96 : decode cX2_maySit 96 = .ok (.aload_n 0, 1) := dk_42 (dk_at dksX2_maySit_4 1 rfl rfl)
theorem dX2_maySit_97 : decode cX2_maySit 97 = .ok (.aload_n 0, 1) := dk_42 (dk_at dksX2_maySit_4 2 rfl rfl)
theorem dX2_maySit_98 : decode cX2_maySit 98 = .ok (.iload_n 2, 1) := dk_28 (dk_at dksX2_maySit_4 3 rfl rfl)
theorem dX2_maySit_99 : decode cX2_maySit 99 = .ok (.iconst (-1), 1) := dk_2 (dk_at dksX2_maySit_4 4 rfl rfl)
theorem dX2_maySit_100 : decode cX2_maySit 100 = .ok (.invokevirtual 222, 3) := dk_182 0 222 (dk_at dksX2_maySit_4 5 rfl rfl)
theorem dX2_maySit_103 : decode cX2_maySit 103 = .ok (.invokevirtual 228, 3) := dk_182 0 228 (dk_at dksX2_maySit_4 8 rfl rfl)
theorem dX2_maySit_106 : decode cX2_maySit 106 = .ok (.invokevirtual 225, 3) := dk_182 0 225 (dk_at dksX2_maySit_4 11 rfl rfl)
theorem dX2_maySit_109 : decode cX2_maySit 109 = .ok (.ifCond .ne 7, 3) := dk_154 0 7 (dk_at dksX2_maySit_4 14 rfl rfl)
theorem dX2_maySit_112 : decode cX2_maySit 112 = .ok (.iconst 1, 1) := dk_4 (dk_at dksX2_maySit_4 17 rfl rfl)
theorem dX2_maySit_113 : decode cX2_maySit 113 = .ok (.goto 4, 3) := dk_167 0 4 (dk_at dksX2_maySit_4 18 rfl rfl)
theorem dX2_maySit_116 : decode cX2_maySit 116 = .ok (.iconst 0, 1) := dk_3 (dk_at dksX2_maySit_4 21 rfl rfl)
theorem dX2_maySit_117 : decode cX2_maySit 117 = .ok (.ireturn, 1) := dk_172 (dk_at dksX2_maySit_4 22 rfl rfl)
abbrev cX2_seatOf : ByteArray := prog_17_method_58_code
def yX2_seatOf : MethodName := ⟨RX2, "seatOf", "(I)I"⟩
def dkwX2_seatOf_0 : List UInt8 := [42, 27, 182, 0, 82, 154, 0, 6, 16, 254, 172, 42, 3, 182, 0, 249, 42, 180, 0, 60, 27, 46, 172]
abbrev dktX2_seatOf_0 : List UInt8 := dkwX2_seatOf_0 ++ []
theorem dksX2_seatOf_0 : cX2_seatOf.data.toList.drop 0 = dktX2_seatOf_0 := by decide +kernel
theorem dX2_seatOf_0 : decode cX2_seatOf 0 = .ok (.aload_n 0, 1) := dk_42 (dk_at dksX2_seatOf_0 0 rfl rfl)
theorem dX2_seatOf_1 : decode cX2_seatOf 1 = .ok (.iload_n 1, 1) := dk_27 (dk_at dksX2_seatOf_0 1 rfl rfl)
theorem dX2_seatOf_2 : decode cX2_seatOf 2 = .ok (.invokevirtual 82, 3) := dk_182 0 82 (dk_at dksX2_seatOf_0 2 rfl rfl)
theorem dX2_seatOf_5 : decode cX2_seatOf 5 = .ok (.ifCond .ne 6, 3) := dk_154 0 6 (dk_at dksX2_seatOf_0 5 rfl rfl)
theorem dX2_seatOf_8 : decode cX2_seatOf 8 = .ok (.bipush (-2), 2) := dk_16 254 (dk_at dksX2_seatOf_0 8 rfl rfl)
theorem dX2_seatOf_10 : decode cX2_seatOf 10 = .ok (.ireturn, 1) := dk_172 (dk_at dksX2_seatOf_0 10 rfl rfl)
theorem dX2_seatOf_11 : decode cX2_seatOf 11 = .ok (.aload_n 0, 1) := dk_42 (dk_at dksX2_seatOf_0 11 rfl rfl)
theorem dX2_seatOf_12 : decode cX2_seatOf 12 = .ok (.iconst 0, 1) := dk_3 (dk_at dksX2_seatOf_0 12 rfl rfl)
theorem dX2_seatOf_13 : decode cX2_seatOf 13 = .ok (.invokevirtual 249, 3) := dk_182 0 249 (dk_at dksX2_seatOf_0 13 rfl rfl)
theorem dX2_seatOf_16 : decode cX2_seatOf 16 = .ok (.aload_n 0, 1) := dk_42 (dk_at dksX2_seatOf_0 16 rfl rfl)
theorem dX2_seatOf_17 : decode cX2_seatOf 17 = .ok (.getfield 60, 3) := dk_180 0 60 (dk_at dksX2_seatOf_0 17 rfl rfl)
theorem dX2_seatOf_20 : decode cX2_seatOf 20 = .ok (.iload_n 1, 1) := dk_27 (dk_at dksX2_seatOf_0 20 rfl rfl)
theorem dX2_seatOf_21 : decode cX2_seatOf 21 = .ok (.iaload, 1) := dk_46 (dk_at dksX2_seatOf_0 21 rfl rfl)
theorem dX2_seatOf_22 : decode cX2_seatOf 22 = .ok (.ireturn, 1) := dk_172 (dk_at dksX2_seatOf_0 22 rfl rfl)
abbrev cX2_moved : ByteArray := prog_17_method_59_code
def yX2_moved : MethodName := ⟨RX2, "moved", "()I"⟩
def dkwX2_moved_0 : List UInt8 := [42, 3, 182, 0, 249, 42, 180, 0, 231, 154, 0, 7, 2, 167, 0, 7, 42, 180, 0, 234, 172]
abbrev dktX2_moved_0 : List UInt8 := dkwX2_moved_0 ++ []
theorem dksX2_moved_0 : cX2_moved.data.toList.drop 0 = dktX2_moved_0 := by decide +kernel
theorem dX2_moved_0 : decode cX2_moved 0 = .ok (.aload_n 0, 1) := dk_42 (dk_at dksX2_moved_0 0 rfl rfl)
theorem dX2_moved_1 : decode cX2_moved 1 = .ok (.iconst 0, 1) := dk_3 (dk_at dksX2_moved_0 1 rfl rfl)
theorem dX2_moved_2 : decode cX2_moved 2 = .ok (.invokevirtual 249, 3) := dk_182 0 249 (dk_at dksX2_moved_0 2 rfl rfl)
theorem dX2_moved_5 : decode cX2_moved 5 = .ok (.aload_n 0, 1) := dk_42 (dk_at dksX2_moved_0 5 rfl rfl)
theorem dX2_moved_6 : decode cX2_moved 6 = .ok (.getfield 231, 3) := dk_180 0 231 (dk_at dksX2_moved_0 6 rfl rfl)
theorem dX2_moved_9 : decode cX2_moved 9 = .ok (.ifCond .ne 7, 3) := dk_154 0 7 (dk_at dksX2_moved_0 9 rfl rfl)
theorem dX2_moved_12 : decode cX2_moved 12 = .ok (.iconst (-1), 1) := dk_2 (dk_at dksX2_moved_0 12 rfl rfl)
theorem dX2_moved_13 : decode cX2_moved 13 = .ok (.goto 7, 3) := dk_167 0 7 (dk_at dksX2_moved_0 13 rfl rfl)
theorem dX2_moved_16 : decode cX2_moved 16 = .ok (.aload_n 0, 1) := dk_42 (dk_at dksX2_moved_0 16 rfl rfl)
theorem dX2_moved_17 : decode cX2_moved 17 = .ok (.getfield 234, 3) := dk_180 0 234 (dk_at dksX2_moved_0 17 rfl rfl)
theorem dX2_moved_20 : decode cX2_moved 20 = .ok (.ireturn, 1) := dk_172 (dk_at dksX2_moved_0 20 rfl rfl)
abbrev cX2_knows : ByteArray := prog_17_method_60_code
def yX2_knows : MethodName := ⟨RX2, "knows", "(I)I"⟩
def dkwX2_knows_1 : List UInt8 := [2, 167, 0, 7, 42, 180, 0, 237, 172]
abbrev dktX2_knows_1 : List UInt8 := dkwX2_knows_1 ++ []
def dkwX2_knows_0 : List UInt8 := [27, 3, 6, 184, 0, 78, 154, 0, 6, 16, 253, 172, 42, 27, 182, 0, 249, 42, 180, 0, 231, 154, 0, 7]
abbrev dktX2_knows_0 : List UInt8 := dkwX2_knows_0 ++ dktX2_knows_1
theorem dksX2_knows_0 : cX2_knows.data.toList.drop 0 = dktX2_knows_0 := by decide +kernel
theorem dksX2_knows_1 : cX2_knows.data.toList.drop 24 = dktX2_knows_1 := dk_seg dksX2_knows_0 24 rfl rfl
theorem dX2_knows_0 : decode cX2_knows 0 = .ok (.iload_n 1, 1) := dk_27 (dk_at dksX2_knows_0 0 rfl rfl)
theorem dX2_knows_1 : decode cX2_knows 1 = .ok (.iconst 0, 1) := dk_3 (dk_at dksX2_knows_0 1 rfl rfl)
theorem dX2_knows_2 : decode cX2_knows 2 = .ok (.iconst 3, 1) := dk_6 (dk_at dksX2_knows_0 2 rfl rfl)
theorem dX2_knows_3 : decode cX2_knows 3 = .ok (.invokestatic 78, 3) := dk_184 0 78 (dk_at dksX2_knows_0 3 rfl rfl)
theorem dX2_knows_6 : decode cX2_knows 6 = .ok (.ifCond .ne 6, 3) := dk_154 0 6 (dk_at dksX2_knows_0 6 rfl rfl)
theorem dX2_knows_9 : decode cX2_knows 9 = .ok (.bipush (-3), 2) := dk_16 253 (dk_at dksX2_knows_0 9 rfl rfl)
theorem dX2_knows_11 : decode cX2_knows 11 = .ok (.ireturn, 1) := dk_172 (dk_at dksX2_knows_0 11 rfl rfl)
theorem dX2_knows_12 : decode cX2_knows 12 = .ok (.aload_n 0, 1) := dk_42 (dk_at dksX2_knows_0 12 rfl rfl)
theorem dX2_knows_13 : decode cX2_knows 13 = .ok (.iload_n 1, 1) := dk_27 (dk_at dksX2_knows_0 13 rfl rfl)
theorem dX2_knows_14 : decode cX2_knows 14 = .ok (.invokevirtual 249, 3) := dk_182 0 249 (dk_at dksX2_knows_0 14 rfl rfl)
theorem dX2_knows_17 : decode cX2_knows 17 = .ok (.aload_n 0, 1) := dk_42 (dk_at dksX2_knows_0 17 rfl rfl)
theorem dX2_knows_18 : decode cX2_knows 18 = .ok (.getfield 231, 3) := dk_180 0 231 (dk_at dksX2_knows_0 18 rfl rfl)
theorem dX2_knows_21 : decode cX2_knows 21 = .ok (.ifCond .ne 7, 3) := dk_154 0 7 (dk_at dksX2_knows_0 21 rfl rfl)
theorem dX2_knows_24 : decode cX2_knows 24 = .ok (.iconst (-1), 1) := dk_2 (dk_at dksX2_knows_1 0 rfl rfl)
theorem dX2_knows_25 : decode cX2_knows 25 = .ok (.goto 7, 3) := dk_167 0 7 (dk_at dksX2_knows_1 1 rfl rfl)
theorem dX2_knows_28 : decode cX2_knows 28 = .ok (.aload_n 0, 1) := dk_42 (dk_at dksX2_knows_1 4 rfl rfl)
theorem dX2_knows_29 : decode cX2_knows 29 = .ok (.getfield 237, 3) := dk_180 0 237 (dk_at dksX2_knows_1 5 rfl rfl)
theorem dX2_knows_32 : decode cX2_knows 32 = .ok (.ireturn, 1) := dk_172 (dk_at dksX2_knows_1 8 rfl rfl)
abbrev cX2_judge : ByteArray := prog_17_method_61_code
def yX2_judge : MethodName := ⟨RX2, "judge", "(I)I"⟩
def dkwX2_judge_3 : List UInt8 := [153, 0, 7, 4, 167, 0, 4, 3, 96, 61, 132, 3, 1, 167, 255, 198, 28, 172]
abbrev dktX2_judge_3 : List UInt8 := dkwX2_judge_3 ++ []
def dkwX2_judge_2 : List UInt8 := [29, 42, 42, 42, 180, 0, 23, 16, 14, 29, 96, 46, 4, 182, 0, 222, 182, 0, 198, 182, 0, 225]
abbrev dktX2_judge_2 : List UInt8 := dkwX2_judge_2 ++ dktX2_judge_3
def dkwX2_judge_1 : List UInt8 := [62, 29, 42, 180, 0, 66, 162, 0, 56, 28, 42, 180, 0, 23, 16, 14, 29, 96, 46, 2, 159, 0, 33, 42]
abbrev dktX2_judge_1 : List UInt8 := dkwX2_judge_1 ++ dktX2_judge_2
def dkwX2_judge_0 : List UInt8 := [27, 3, 4, 184, 0, 78, 154, 0, 6, 16, 253, 172, 27, 154, 0, 8, 42, 182, 0, 219, 172, 3, 61, 3]
abbrev dktX2_judge_0 : List UInt8 := dkwX2_judge_0 ++ dktX2_judge_1
theorem dksX2_judge_0 : cX2_judge.data.toList.drop 0 = dktX2_judge_0 := by decide +kernel
theorem dksX2_judge_1 : cX2_judge.data.toList.drop 24 = dktX2_judge_1 := dk_seg dksX2_judge_0 24 rfl rfl
theorem dksX2_judge_2 : cX2_judge.data.toList.drop 48 = dktX2_judge_2 := dk_seg dksX2_judge_1 24 rfl rfl
theorem dksX2_judge_3 : cX2_judge.data.toList.drop 70 = dktX2_judge_3 := dk_seg dksX2_judge_2 22 rfl rfl
theorem dX2_judge_0 : decode cX2_judge 0 = .ok (.iload_n 1, 1) := dk_27 (dk_at dksX2_judge_0 0 rfl rfl)
theorem dX2_judge_1 : decode cX2_judge 1 = .ok (.iconst 0, 1) := dk_3 (dk_at dksX2_judge_0 1 rfl rfl)
theorem dX2_judge_2 : decode cX2_judge 2 = .ok (.iconst 1, 1) := dk_4 (dk_at dksX2_judge_0 2 rfl rfl)
theorem dX2_judge_3 : decode cX2_judge 3 = .ok (.invokestatic 78, 3) := dk_184 0 78 (dk_at dksX2_judge_0 3 rfl rfl)
theorem dX2_judge_6 : decode cX2_judge 6 = .ok (.ifCond .ne 6, 3) := dk_154 0 6 (dk_at dksX2_judge_0 6 rfl rfl)
theorem dX2_judge_9 : decode cX2_judge 9 = .ok (.bipush (-3), 2) := dk_16 253 (dk_at dksX2_judge_0 9 rfl rfl)
theorem dX2_judge_11 : decode cX2_judge 11 = .ok (.ireturn, 1) := dk_172 (dk_at dksX2_judge_0 11 rfl rfl)
theorem dX2_judge_12 : decode cX2_judge 12 = .ok (.iload_n 1, 1) := dk_27 (dk_at dksX2_judge_0 12 rfl rfl)
theorem dX2_judge_13 : decode cX2_judge 13 = .ok (.ifCond .ne 8, 3) := dk_154 0 8 (dk_at dksX2_judge_0 13 rfl rfl)
theorem dX2_judge_16 : decode cX2_judge 16 = .ok (.aload_n 0, 1) := dk_42 (dk_at dksX2_judge_0 16 rfl rfl)
theorem dX2_judge_17 : decode cX2_judge 17 = .ok (.invokevirtual 219, 3) := dk_182 0 219 (dk_at dksX2_judge_0 17 rfl rfl)
theorem dX2_judge_20 : decode cX2_judge 20 = .ok (.ireturn, 1) := dk_172 (dk_at dksX2_judge_0 20 rfl rfl)
theorem dX2_judge_21 : decode cX2_judge 21 = .ok (.iconst 0, 1) := dk_3 (dk_at dksX2_judge_0 21 rfl rfl)
theorem dX2_judge_22 : decode cX2_judge 22 = .ok (.istore_n 2, 1) := dk_61 (dk_at dksX2_judge_0 22 rfl rfl)
theorem dX2_judge_23 : decode cX2_judge 23 = .ok (.iconst 0, 1) := dk_3 (dk_at dksX2_judge_0 23 rfl rfl)
theorem dX2_judge_24 : decode cX2_judge 24 = .ok (.istore_n 3, 1) := dk_62 (dk_at dksX2_judge_1 0 rfl rfl)
theorem dX2_judge_25 : decode cX2_judge 25 = .ok (.iload_n 3, 1) := dk_29 (dk_at dksX2_judge_1 1 rfl rfl)
theorem dX2_judge_26 : decode cX2_judge 26 = .ok (.aload_n 0, 1) := dk_42 (dk_at dksX2_judge_1 2 rfl rfl)
theorem dX2_judge_27 : decode cX2_judge 27 = .ok (.getfield 66, 3) := dk_180 0 66 (dk_at dksX2_judge_1 3 rfl rfl)
theorem dX2_judge_30 : decode cX2_judge 30 = .ok (.if_icmp .ge 56, 3) := dk_162 0 56 (dk_at dksX2_judge_1 6 rfl rfl)
theorem dX2_judge_33 : decode cX2_judge 33 = .ok (.iload_n 2, 1) := dk_28 (dk_at dksX2_judge_1 9 rfl rfl)
theorem dX2_judge_34 : decode cX2_judge 34 = .ok (.aload_n 0, 1) := dk_42 (dk_at dksX2_judge_1 10 rfl rfl)
theorem dX2_judge_35 : decode cX2_judge 35 = .ok (.getfield 23, 3) := dk_180 0 23 (dk_at dksX2_judge_1 11 rfl rfl)
theorem dX2_judge_38 : decode cX2_judge 38 = .ok (.bipush 14, 2) := dk_16 14 (dk_at dksX2_judge_1 14 rfl rfl)
theorem dX2_judge_40 : decode cX2_judge 40 = .ok (.iload_n 3, 1) := dk_29 (dk_at dksX2_judge_1 16 rfl rfl)
theorem dX2_judge_41 : decode cX2_judge 41 = .ok (.iadd, 1) := dk_96 (dk_at dksX2_judge_1 17 rfl rfl)
theorem dX2_judge_42 : decode cX2_judge 42 = .ok (.iaload, 1) := dk_46 (dk_at dksX2_judge_1 18 rfl rfl)
theorem dX2_judge_43 : decode cX2_judge 43 = .ok (.iconst (-1), 1) := dk_2 (dk_at dksX2_judge_1 19 rfl rfl)
theorem dX2_judge_44 : decode cX2_judge 44 = .ok (.if_icmp .eq 33, 3) := dk_159 0 33 (dk_at dksX2_judge_1 20 rfl rfl)
theorem dX2_judge_47 : decode cX2_judge 47 = .ok (.aload_n 0, 1) := dk_42 (dk_at dksX2_judge_1 23 rfl rfl)
theorem dX2_judge_48 : decode cX2_judge 48 = .ok (.iload_n 3, 1) := dk_29 (dk_at dksX2_judge_2 0 rfl rfl)
theorem dX2_judge_49 : decode cX2_judge 49 = .ok (.aload_n 0, 1) := dk_42 (dk_at dksX2_judge_2 1 rfl rfl)
theorem dX2_judge_50 : decode cX2_judge 50 = .ok (.aload_n 0, 1) := dk_42 (dk_at dksX2_judge_2 2 rfl rfl)
theorem dX2_judge_51 : decode cX2_judge 51 = .ok (.aload_n 0, 1) := dk_42 (dk_at dksX2_judge_2 3 rfl rfl)
theorem dX2_judge_52 : decode cX2_judge 52 = .ok (.getfield 23, 3) := dk_180 0 23 (dk_at dksX2_judge_2 4 rfl rfl)
theorem dX2_judge_55 : decode cX2_judge 55 = .ok (.bipush 14, 2) := dk_16 14 (dk_at dksX2_judge_2 7 rfl rfl)
theorem dX2_judge_57 : decode cX2_judge 57 = .ok (.iload_n 3, 1) := dk_29 (dk_at dksX2_judge_2 9 rfl rfl)
theorem dX2_judge_58 : decode cX2_judge 58 = .ok (.iadd, 1) := dk_96 (dk_at dksX2_judge_2 10 rfl rfl)
theorem dX2_judge_59 : decode cX2_judge 59 = .ok (.iaload, 1) := dk_46 (dk_at dksX2_judge_2 11 rfl rfl)
theorem dX2_judge_60 : decode cX2_judge 60 = .ok (.iconst 1, 1) := dk_4 (dk_at dksX2_judge_2 12 rfl rfl)
theorem dX2_judge_61 : decode cX2_judge 61 = .ok (.invokevirtual 222, 3) := dk_182 0 222 (dk_at dksX2_judge_2 13 rfl rfl)
theorem dX2_judge_64 : decode cX2_judge 64 = .ok (.invokevirtual 198, 3) := dk_182 0 198 (dk_at dksX2_judge_2 16 rfl rfl)
theorem dX2_judge_67 : decode cX2_judge 67 = .ok (.invokevirtual 225, 3) := dk_182 0 225 (dk_at dksX2_judge_2 19 rfl rfl)
theorem dX2_judge_70 : decode cX2_judge 70 = .ok (.ifCond .eq 7, 3) := dk_153 0 7 (dk_at dksX2_judge_3 0 rfl rfl)
theorem dX2_judge_73 : decode cX2_judge 73 = .ok (.iconst 1, 1) := dk_4 (dk_at dksX2_judge_3 3 rfl rfl)
theorem dX2_judge_74 : decode cX2_judge 74 = .ok (.goto 4, 3) := dk_167 0 4 (dk_at dksX2_judge_3 4 rfl rfl)
theorem dX2_judge_77 : decode cX2_judge 77 = .ok (.iconst 0, 1) := dk_3 (dk_at dksX2_judge_3 7 rfl rfl)
theorem dX2_judge_78 : decode cX2_judge 78 = .ok (.iadd, 1) := dk_96 (dk_at dksX2_judge_3 8 rfl rfl)
theorem dX2_judge_79 : decode cX2_judge 79 = .ok (.istore_n 2, 1) := dk_61 (dk_at dksX2_judge_3 9 rfl rfl)
theorem dX2_judge_80 : decode cX2_judge 80 = .ok (.iinc 3 1, 3) := dk_132 3 1 (dk_at dksX2_judge_3 10 rfl rfl)
theorem dX2_judge_83 : decode cX2_judge 83 = .ok (.goto (-58), 3) := dk_167 255 198 (dk_at dksX2_judge_3 13 rfl rfl)
theorem dX2_judge_86 : decode cX2_judge 86 = .ok (.iload_n 2, 1) := dk_28 (dk_at dksX2_judge_3 16 rfl rfl)
theorem dX2_judge_87 : decode cX2_judge 87 = .ok (.ireturn, 1) := dk_172 (dk_at dksX2_judge_3 17 rfl rfl)
abbrev cX2_seen : ByteArray := prog_17_method_62_code
def yX2_seen : MethodName := ⟨RX2, "seen", "(IIII)I"⟩
def dkwX2_seen_5 : List UInt8 := [4, 96, 181, 0, 72, 42, 180, 0, 72, 172]
abbrev dktX2_seen_5 : List UInt8 := dkwX2_seen_5 ++ []
def dkwX2_seen_4 : List UInt8 := [5, 96, 29, 79, 42, 180, 0, 36, 7, 42, 180, 0, 72, 104, 6, 96, 21, 4, 79, 42, 89, 180, 0, 72]
abbrev dktX2_seen_4 : List UInt8 := dkwX2_seen_4 ++ dktX2_seen_5
def dkwX2_seen_3 : List UInt8 := [42, 180, 0, 36, 7, 42, 180, 0, 72, 104, 4, 96, 28, 79, 42, 180, 0, 36, 7, 42, 180, 0, 72, 104]
abbrev dktX2_seen_3 : List UInt8 := dkwX2_seen_3 ++ dktX2_seen_4
def dkwX2_seen_2 : List UInt8 := [42, 180, 0, 72, 16, 8, 160, 0, 6, 16, 251, 172, 42, 180, 0, 36, 7, 42, 180, 0, 72, 104, 27, 79]
abbrev dktX2_seen_2 : List UInt8 := dkwX2_seen_2 ++ dktX2_seen_3
def dkwX2_seen_1 : List UInt8 := [180, 0, 23, 3, 46, 184, 0, 78, 153, 0, 13, 21, 4, 3, 4, 184, 0, 78, 154, 0, 6, 16, 253, 172]
abbrev dktX2_seen_1 : List UInt8 := dkwX2_seen_1 ++ dktX2_seen_2
def dkwX2_seen_0 : List UInt8 := [42, 27, 182, 0, 82, 153, 0, 11, 42, 28, 182, 0, 195, 154, 0, 6, 16, 254, 172, 29, 3, 42]
abbrev dktX2_seen_0 : List UInt8 := dkwX2_seen_0 ++ dktX2_seen_1
theorem dksX2_seen_0 : cX2_seen.data.toList.drop 0 = dktX2_seen_0 := by decide +kernel
theorem dksX2_seen_1 : cX2_seen.data.toList.drop 22 = dktX2_seen_1 := dk_seg dksX2_seen_0 22 rfl rfl
theorem dksX2_seen_2 : cX2_seen.data.toList.drop 46 = dktX2_seen_2 := dk_seg dksX2_seen_1 24 rfl rfl
theorem dksX2_seen_3 : cX2_seen.data.toList.drop 70 = dktX2_seen_3 := dk_seg dksX2_seen_2 24 rfl rfl
theorem dksX2_seen_4 : cX2_seen.data.toList.drop 94 = dktX2_seen_4 := dk_seg dksX2_seen_3 24 rfl rfl
theorem dksX2_seen_5 : cX2_seen.data.toList.drop 118 = dktX2_seen_5 := dk_seg dksX2_seen_4 24 rfl rfl
theorem dX2_seen_0 : decode cX2_seen 0 = .ok (.aload_n 0, 1) := dk_42 (dk_at dksX2_seen_0 0 rfl rfl)
theorem dX2_seen_1 : decode cX2_seen 1 = .ok (.iload_n 1, 1) := dk_27 (dk_at dksX2_seen_0 1 rfl rfl)
theorem dX2_seen_2 : decode cX2_seen 2 = .ok (.invokevirtual 82, 3) := dk_182 0 82 (dk_at dksX2_seen_0 2 rfl rfl)
theorem dX2_seen_5 : decode cX2_seen 5 = .ok (.ifCond .eq 11, 3) := dk_153 0 11 (dk_at dksX2_seen_0 5 rfl rfl)
theorem dX2_seen_8 : decode cX2_seen 8 = .ok (.aload_n 0, 1) := dk_42 (dk_at dksX2_seen_0 8 rfl rfl)
theorem dX2_seen_9 : decode cX2_seen 9 = .ok (.iload_n 2, 1) := dk_28 (dk_at dksX2_seen_0 9 rfl rfl)
theorem dX2_seen_10 : decode cX2_seen 10 = .ok (.invokevirtual 195, 3) := dk_182 0 195 (dk_at dksX2_seen_0 10 rfl rfl)
theorem dX2_seen_13 : decode cX2_seen 13 = .ok (.ifCond .ne 6, 3) := dk_154 0 6 (dk_at dksX2_seen_0 13 rfl rfl)
theorem dX2_seen_16 : decode cX2_seen 16 = .ok (.bipush (-2), 2) := dk_16 254 (dk_at dksX2_seen_0 16 rfl rfl)
theorem dX2_seen_18 : decode cX2_seen 18 = .ok (.ireturn, 1) := dk_172 (dk_at dksX2_seen_0 18 rfl rfl)
theorem dX2_seen_19 : decode cX2_seen 19 = .ok (.iload_n 3, 1) := dk_29 (dk_at dksX2_seen_0 19 rfl rfl)
theorem dX2_seen_20 : decode cX2_seen 20 = .ok (.iconst 0, 1) := dk_3 (dk_at dksX2_seen_0 20 rfl rfl)
theorem dX2_seen_21 : decode cX2_seen 21 = .ok (.aload_n 0, 1) := dk_42 (dk_at dksX2_seen_0 21 rfl rfl)
theorem dX2_seen_22 : decode cX2_seen 22 = .ok (.getfield 23, 3) := dk_180 0 23 (dk_at dksX2_seen_1 0 rfl rfl)
theorem dX2_seen_25 : decode cX2_seen 25 = .ok (.iconst 0, 1) := dk_3 (dk_at dksX2_seen_1 3 rfl rfl)
theorem dX2_seen_26 : decode cX2_seen 26 = .ok (.iaload, 1) := dk_46 (dk_at dksX2_seen_1 4 rfl rfl)
theorem dX2_seen_27 : decode cX2_seen 27 = .ok (.invokestatic 78, 3) := dk_184 0 78 (dk_at dksX2_seen_1 5 rfl rfl)
theorem dX2_seen_30 : decode cX2_seen 30 = .ok (.ifCond .eq 13, 3) := dk_153 0 13 (dk_at dksX2_seen_1 8 rfl rfl)
theorem dX2_seen_33 : decode cX2_seen 33 = .ok (.iload 4, 2) := dk_21 4 (dk_at dksX2_seen_1 11 rfl rfl)
theorem dX2_seen_35 : decode cX2_seen 35 = .ok (.iconst 0, 1) := dk_3 (dk_at dksX2_seen_1 13 rfl rfl)
theorem dX2_seen_36 : decode cX2_seen 36 = .ok (.iconst 1, 1) := dk_4 (dk_at dksX2_seen_1 14 rfl rfl)
theorem dX2_seen_37 : decode cX2_seen 37 = .ok (.invokestatic 78, 3) := dk_184 0 78 (dk_at dksX2_seen_1 15 rfl rfl)
theorem dX2_seen_40 : decode cX2_seen 40 = .ok (.ifCond .ne 6, 3) := dk_154 0 6 (dk_at dksX2_seen_1 18 rfl rfl)
theorem dX2_seen_43 : decode cX2_seen 43 = .ok (.bipush (-3), 2) := dk_16 253 (dk_at dksX2_seen_1 21 rfl rfl)
theorem dX2_seen_45 : decode cX2_seen 45 = .ok (.ireturn, 1) := dk_172 (dk_at dksX2_seen_1 23 rfl rfl)
theorem dX2_seen_46 : decode cX2_seen 46 = .ok (.aload_n 0, 1) := dk_42 (dk_at dksX2_seen_2 0 rfl rfl)
theorem dX2_seen_47 : decode cX2_seen 47 = .ok (.getfield 72, 3) := dk_180 0 72 (dk_at dksX2_seen_2 1 rfl rfl)
theorem dX2_seen_50 : decode cX2_seen 50 = .ok (.bipush 8, 2) := dk_16 8 (dk_at dksX2_seen_2 4 rfl rfl)
theorem dX2_seen_52 : decode cX2_seen 52 = .ok (.if_icmp .ne 6, 3) := dk_160 0 6 (dk_at dksX2_seen_2 6 rfl rfl)
theorem dX2_seen_55 : decode cX2_seen 55 = .ok (.bipush (-5), 2) := dk_16 251 (dk_at dksX2_seen_2 9 rfl rfl)
theorem dX2_seen_57 : decode cX2_seen 57 = .ok (.ireturn, 1) := dk_172 (dk_at dksX2_seen_2 11 rfl rfl)
theorem dX2_seen_58 : decode cX2_seen 58 = .ok (.aload_n 0, 1) := dk_42 (dk_at dksX2_seen_2 12 rfl rfl)
theorem dX2_seen_59 : decode cX2_seen 59 = .ok (.getfield 36, 3) := dk_180 0 36 (dk_at dksX2_seen_2 13 rfl rfl)
theorem dX2_seen_62 : decode cX2_seen 62 = .ok (.iconst 4, 1) := dk_7 (dk_at dksX2_seen_2 16 rfl rfl)
theorem dX2_seen_63 : decode cX2_seen 63 = .ok (.aload_n 0, 1) := dk_42 (dk_at dksX2_seen_2 17 rfl rfl)
theorem dX2_seen_64 : decode cX2_seen 64 = .ok (.getfield 72, 3) := dk_180 0 72 (dk_at dksX2_seen_2 18 rfl rfl)
theorem dX2_seen_67 : decode cX2_seen 67 = .ok (.imul, 1) := dk_104 (dk_at dksX2_seen_2 21 rfl rfl)
theorem dX2_seen_68 : decode cX2_seen 68 = .ok (.iload_n 1, 1) := dk_27 (dk_at dksX2_seen_2 22 rfl rfl)
theorem dX2_seen_69 : decode cX2_seen 69 = .ok (.iastore, 1) := dk_79 (dk_at dksX2_seen_2 23 rfl rfl)
theorem dX2_seen_70 : decode cX2_seen 70 = .ok (.aload_n 0, 1) := dk_42 (dk_at dksX2_seen_3 0 rfl rfl)
theorem dX2_seen_71 : decode cX2_seen 71 = .ok (.getfield 36, 3) := dk_180 0 36 (dk_at dksX2_seen_3 1 rfl rfl)
theorem dX2_seen_74 : decode cX2_seen 74 = .ok (.iconst 4, 1) := dk_7 (dk_at dksX2_seen_3 4 rfl rfl)
theorem dX2_seen_75 : decode cX2_seen 75 = .ok (.aload_n 0, 1) := dk_42 (dk_at dksX2_seen_3 5 rfl rfl)
theorem dX2_seen_76 : decode cX2_seen 76 = .ok (.getfield 72, 3) := dk_180 0 72 (dk_at dksX2_seen_3 6 rfl rfl)
theorem dX2_seen_79 : decode cX2_seen 79 = .ok (.imul, 1) := dk_104 (dk_at dksX2_seen_3 9 rfl rfl)
theorem dX2_seen_80 : decode cX2_seen 80 = .ok (.iconst 1, 1) := dk_4 (dk_at dksX2_seen_3 10 rfl rfl)
theorem dX2_seen_81 : decode cX2_seen 81 = .ok (.iadd, 1) := dk_96 (dk_at dksX2_seen_3 11 rfl rfl)
theorem dX2_seen_82 : decode cX2_seen 82 = .ok (.iload_n 2, 1) := dk_28 (dk_at dksX2_seen_3 12 rfl rfl)
theorem dX2_seen_83 : decode cX2_seen 83 = .ok (.iastore, 1) := dk_79 (dk_at dksX2_seen_3 13 rfl rfl)
theorem dX2_seen_84 : decode cX2_seen 84 = .ok (.aload_n 0, 1) := dk_42 (dk_at dksX2_seen_3 14 rfl rfl)
theorem dX2_seen_85 : decode cX2_seen 85 = .ok (.getfield 36, 3) := dk_180 0 36 (dk_at dksX2_seen_3 15 rfl rfl)
theorem dX2_seen_88 : decode cX2_seen 88 = .ok (.iconst 4, 1) := dk_7 (dk_at dksX2_seen_3 18 rfl rfl)
theorem dX2_seen_89 : decode cX2_seen 89 = .ok (.aload_n 0, 1) := dk_42 (dk_at dksX2_seen_3 19 rfl rfl)
theorem dX2_seen_90 : decode cX2_seen 90 = .ok (.getfield 72, 3) := dk_180 0 72 (dk_at dksX2_seen_3 20 rfl rfl)
theorem dX2_seen_93 : decode cX2_seen 93 = .ok (.imul, 1) := dk_104 (dk_at dksX2_seen_3 23 rfl rfl)
theorem dX2_seen_94 : decode cX2_seen 94 = .ok (.iconst 2, 1) := dk_5 (dk_at dksX2_seen_4 0 rfl rfl)
theorem dX2_seen_95 : decode cX2_seen 95 = .ok (.iadd, 1) := dk_96 (dk_at dksX2_seen_4 1 rfl rfl)
theorem dX2_seen_96 : decode cX2_seen 96 = .ok (.iload_n 3, 1) := dk_29 (dk_at dksX2_seen_4 2 rfl rfl)
theorem dX2_seen_97 : decode cX2_seen 97 = .ok (.iastore, 1) := dk_79 (dk_at dksX2_seen_4 3 rfl rfl)
theorem dX2_seen_98 : decode cX2_seen 98 = .ok (.aload_n 0, 1) := dk_42 (dk_at dksX2_seen_4 4 rfl rfl)
theorem dX2_seen_99 : decode cX2_seen 99 = .ok (.getfield 36, 3) := dk_180 0 36 (dk_at dksX2_seen_4 5 rfl rfl)
theorem dX2_seen_102 : decode cX2_seen 102 = .ok (.iconst 4, 1) := dk_7 (dk_at dksX2_seen_4 8 rfl rfl)
theorem dX2_seen_103 : decode cX2_seen 103 = .ok (.aload_n 0, 1) := dk_42 (dk_at dksX2_seen_4 9 rfl rfl)
theorem dX2_seen_104 : decode cX2_seen 104 = .ok (.getfield 72, 3) := dk_180 0 72 (dk_at dksX2_seen_4 10 rfl rfl)
theorem dX2_seen_107 : decode cX2_seen 107 = .ok (.imul, 1) := dk_104 (dk_at dksX2_seen_4 13 rfl rfl)
theorem dX2_seen_108 : decode cX2_seen 108 = .ok (.iconst 3, 1) := dk_6 (dk_at dksX2_seen_4 14 rfl rfl)
theorem dX2_seen_109 : decode cX2_seen 109 = .ok (.iadd, 1) := dk_96 (dk_at dksX2_seen_4 15 rfl rfl)
theorem dX2_seen_110 : decode cX2_seen 110 = .ok (.iload 4, 2) := dk_21 4 (dk_at dksX2_seen_4 16 rfl rfl)
theorem dX2_seen_112 : decode cX2_seen 112 = .ok (.iastore, 1) := dk_79 (dk_at dksX2_seen_4 18 rfl rfl)
theorem dX2_seen_113 : decode cX2_seen 113 = .ok (.aload_n 0, 1) := dk_42 (dk_at dksX2_seen_4 19 rfl rfl)
theorem dX2_seen_114 : decode cX2_seen 114 = .ok (.dup, 1) := dk_89 (dk_at dksX2_seen_4 20 rfl rfl)
theorem dX2_seen_115 : decode cX2_seen 115 = .ok (.getfield 72, 3) := dk_180 0 72 (dk_at dksX2_seen_4 21 rfl rfl)
theorem dX2_seen_118 : decode cX2_seen 118 = .ok (.iconst 1, 1) := dk_4 (dk_at dksX2_seen_5 0 rfl rfl)
theorem dX2_seen_119 : decode cX2_seen 119 = .ok (.iadd, 1) := dk_96 (dk_at dksX2_seen_5 1 rfl rfl)
theorem dX2_seen_120 : decode cX2_seen 120 = .ok (.putfield 72, 3) := dk_181 0 72 (dk_at dksX2_seen_5 2 rfl rfl)
theorem dX2_seen_123 : decode cX2_seen 123 = .ok (.aload_n 0, 1) := dk_42 (dk_at dksX2_seen_5 5 rfl rfl)
theorem dX2_seen_124 : decode cX2_seen 124 = .ok (.getfield 72, 3) := dk_180 0 72 (dk_at dksX2_seen_5 6 rfl rfl)
theorem dX2_seen_127 : decode cX2_seen 127 = .ok (.ireturn, 1) := dk_172 (dk_at dksX2_seen_5 9 rfl rfl)
abbrev cX2_forget : ByteArray := prog_17_method_63_code
def yX2_forget : MethodName := ⟨RX2, "forget", "()I"⟩
def dkwX2_forget_0 : List UInt8 := [42, 180, 0, 72, 60, 42, 3, 181, 0, 72, 27, 172]
abbrev dktX2_forget_0 : List UInt8 := dkwX2_forget_0 ++ []
theorem dksX2_forget_0 : cX2_forget.data.toList.drop 0 = dktX2_forget_0 := by decide +kernel
theorem dX2_forget_0 : decode cX2_forget 0 = .ok (.aload_n 0, 1) := dk_42 (dk_at dksX2_forget_0 0 rfl rfl)
theorem dX2_forget_1 : decode cX2_forget 1 = .ok (.getfield 72, 3) := dk_180 0 72 (dk_at dksX2_forget_0 1 rfl rfl)
theorem dX2_forget_4 : decode cX2_forget 4 = .ok (.istore_n 1, 1) := dk_60 (dk_at dksX2_forget_0 4 rfl rfl)
theorem dX2_forget_5 : decode cX2_forget 5 = .ok (.aload_n 0, 1) := dk_42 (dk_at dksX2_forget_0 5 rfl rfl)
theorem dX2_forget_6 : decode cX2_forget 6 = .ok (.iconst 0, 1) := dk_3 (dk_at dksX2_forget_0 6 rfl rfl)
theorem dX2_forget_7 : decode cX2_forget 7 = .ok (.putfield 72, 3) := dk_181 0 72 (dk_at dksX2_forget_0 7 rfl rfl)
theorem dX2_forget_10 : decode cX2_forget 10 = .ok (.iload_n 1, 1) := dk_27 (dk_at dksX2_forget_0 10 rfl rfl)
theorem dX2_forget_11 : decode cX2_forget 11 = .ok (.ireturn, 1) := dk_172 (dk_at dksX2_forget_0 11 rfl rfl)
abbrev cX2_worlds : ByteArray := prog_17_method_65_code
def yX2_worlds : MethodName := ⟨RX2, "worlds", "(I)I"⟩
def dkwX2_worlds_7 : List UInt8 := [160, 0, 7, 29, 167, 0, 5, 21, 4, 172]
abbrev dktX2_worlds_7 : List UInt8 := dkwX2_worlds_7 ++ []
def dkwX2_worlds_6 : List UInt8 := [21, 6, 120, 128, 54, 4, 132, 5, 1, 167, 255, 128, 27, 154, 0, 7, 28, 167, 0, 14, 27, 4]
abbrev dktX2_worlds_6 : List UInt8 := dkwX2_worlds_6 ++ dktX2_worlds_7
def dkwX2_worlds_5 : List UInt8 := [180, 0, 75, 112, 120, 128, 62, 21, 4, 21, 6, 42, 180, 0, 66, 160, 0, 8, 16, 64, 167, 0, 7, 4]
abbrev dktX2_worlds_5 : List UInt8 := dkwX2_worlds_5 ++ dktX2_worlds_6
def dkwX2_worlds_4 : List UInt8 := [182, 0, 252, 153, 0, 51, 132, 2, 1, 29, 4, 21, 8, 21, 7, 42, 180, 0, 23, 3, 46, 104, 96, 42]
abbrev dktX2_worlds_4 : List UInt8 := dkwX2_worlds_4 ++ dktX2_worlds_5
def dkwX2_worlds_3 : List UInt8 := [21, 5, 42, 180, 0, 66, 4, 96, 108, 42, 180, 0, 75, 108, 54, 8, 42, 21, 8, 21, 7, 21, 6]
abbrev dktX2_worlds_3 : List UInt8 := dkwX2_worlds_3 ++ dktX2_worlds_4
def dkwX2_worlds_2 : List UInt8 := [180, 0, 66, 4, 96, 112, 54, 6, 21, 5, 42, 180, 0, 66, 4, 96, 108, 42, 180, 0, 75, 112, 54, 7]
abbrev dktX2_worlds_2 : List UInt8 := dkwX2_worlds_2 ++ dktX2_worlds_3
def dkwX2_worlds_1 : List UInt8 := [42, 180, 0, 75, 42, 180, 0, 75, 104, 42, 180, 0, 66, 4, 96, 104, 162, 0, 113, 21, 5, 42]
abbrev dktX2_worlds_1 : List UInt8 := dkwX2_worlds_1 ++ dktX2_worlds_2
def dkwX2_worlds_0 : List UInt8 := [27, 3, 5, 184, 0, 78, 154, 0, 6, 16, 253, 172, 3, 61, 3, 62, 3, 54, 4, 3, 54, 5, 21, 5]
abbrev dktX2_worlds_0 : List UInt8 := dkwX2_worlds_0 ++ dktX2_worlds_1
theorem dksX2_worlds_0 : cX2_worlds.data.toList.drop 0 = dktX2_worlds_0 := by decide +kernel
theorem dksX2_worlds_1 : cX2_worlds.data.toList.drop 24 = dktX2_worlds_1 := dk_seg dksX2_worlds_0 24 rfl rfl
theorem dksX2_worlds_2 : cX2_worlds.data.toList.drop 46 = dktX2_worlds_2 := dk_seg dksX2_worlds_1 22 rfl rfl
theorem dksX2_worlds_3 : cX2_worlds.data.toList.drop 70 = dktX2_worlds_3 := dk_seg dksX2_worlds_2 24 rfl rfl
theorem dksX2_worlds_4 : cX2_worlds.data.toList.drop 93 = dktX2_worlds_4 := dk_seg dksX2_worlds_3 23 rfl rfl
theorem dksX2_worlds_5 : cX2_worlds.data.toList.drop 117 = dktX2_worlds_5 := dk_seg dksX2_worlds_4 24 rfl rfl
theorem dksX2_worlds_6 : cX2_worlds.data.toList.drop 141 = dktX2_worlds_6 := dk_seg dksX2_worlds_5 24 rfl rfl
theorem dksX2_worlds_7 : cX2_worlds.data.toList.drop 163 = dktX2_worlds_7 := dk_seg dksX2_worlds_6 22 rfl rfl
theorem dX2_worlds_0 : decode cX2_worlds 0 = .ok (.iload_n 1, 1) := dk_27 (dk_at dksX2_worlds_0 0 rfl rfl)
theorem dX2_worlds_1 : decode cX2_worlds 1 = .ok (.iconst 0, 1) := dk_3 (dk_at dksX2_worlds_0 1 rfl rfl)
theorem dX2_worlds_2 : decode cX2_worlds 2 = .ok (.iconst 2, 1) := dk_5 (dk_at dksX2_worlds_0 2 rfl rfl)
theorem dX2_worlds_3 : decode cX2_worlds 3 = .ok (.invokestatic 78, 3) := dk_184 0 78 (dk_at dksX2_worlds_0 3 rfl rfl)
theorem dX2_worlds_6 : decode cX2_worlds 6 = .ok (.ifCond .ne 6, 3) := dk_154 0 6 (dk_at dksX2_worlds_0 6 rfl rfl)
theorem dX2_worlds_9 : decode cX2_worlds 9 = .ok (.bipush (-3), 2) := dk_16 253 (dk_at dksX2_worlds_0 9 rfl rfl)
theorem dX2_worlds_11 : decode cX2_worlds 11 = .ok (.ireturn, 1) := dk_172 (dk_at dksX2_worlds_0 11 rfl rfl)
theorem dX2_worlds_12 : decode cX2_worlds 12 = .ok (.iconst 0, 1) := dk_3 (dk_at dksX2_worlds_0 12 rfl rfl)
theorem dX2_worlds_13 : decode cX2_worlds 13 = .ok (.istore_n 2, 1) := dk_61 (dk_at dksX2_worlds_0 13 rfl rfl)
theorem dX2_worlds_14 : decode cX2_worlds 14 = .ok (.iconst 0, 1) := dk_3 (dk_at dksX2_worlds_0 14 rfl rfl)
theorem dX2_worlds_15 : decode cX2_worlds 15 = .ok (.istore_n 3, 1) := dk_62 (dk_at dksX2_worlds_0 15 rfl rfl)
theorem dX2_worlds_16 : decode cX2_worlds 16 = .ok (.iconst 0, 1) := dk_3 (dk_at dksX2_worlds_0 16 rfl rfl)
theorem dX2_worlds_17 : decode cX2_worlds 17 = .ok (.istore 4, 2) := dk_54 4 (dk_at dksX2_worlds_0 17 rfl rfl)
theorem dX2_worlds_19 : decode cX2_worlds 19 = .ok (.iconst 0, 1) := dk_3 (dk_at dksX2_worlds_0 19 rfl rfl)
theorem dX2_worlds_20 : decode cX2_worlds 20 = .ok (.istore 5, 2) := dk_54 5 (dk_at dksX2_worlds_0 20 rfl rfl)
theorem dX2_worlds_22 : decode cX2_worlds 22 = .ok (.iload 5, 2) := dk_21 5 (dk_at dksX2_worlds_0 22 rfl rfl)
theorem dX2_worlds_24 : decode cX2_worlds 24 = .ok (.aload_n 0, 1) := dk_42 (dk_at dksX2_worlds_1 0 rfl rfl)
theorem dX2_worlds_25 : decode cX2_worlds 25 = .ok (.getfield 75, 3) := dk_180 0 75 (dk_at dksX2_worlds_1 1 rfl rfl)
theorem dX2_worlds_28 : decode cX2_worlds 28 = .ok (.aload_n 0, 1) := dk_42 (dk_at dksX2_worlds_1 4 rfl rfl)
theorem dX2_worlds_29 : decode cX2_worlds 29 = .ok (.getfield 75, 3) := dk_180 0 75 (dk_at dksX2_worlds_1 5 rfl rfl)
theorem dX2_worlds_32 : decode cX2_worlds 32 = .ok (.imul, 1) := dk_104 (dk_at dksX2_worlds_1 8 rfl rfl)
theorem dX2_worlds_33 : decode cX2_worlds 33 = .ok (.aload_n 0, 1) := dk_42 (dk_at dksX2_worlds_1 9 rfl rfl)
theorem dX2_worlds_34 : decode cX2_worlds 34 = .ok (.getfield 66, 3) := dk_180 0 66 (dk_at dksX2_worlds_1 10 rfl rfl)
theorem dX2_worlds_37 : decode cX2_worlds 37 = .ok (.iconst 1, 1) := dk_4 (dk_at dksX2_worlds_1 13 rfl rfl)
theorem dX2_worlds_38 : decode cX2_worlds 38 = .ok (.iadd, 1) := dk_96 (dk_at dksX2_worlds_1 14 rfl rfl)
theorem dX2_worlds_39 : decode cX2_worlds 39 = .ok (.imul, 1) := dk_104 (dk_at dksX2_worlds_1 15 rfl rfl)
theorem dX2_worlds_40 : decode cX2_worlds 40 = .ok (.if_icmp .ge 113, 3) := dk_162 0 113 (dk_at dksX2_worlds_1 16 rfl rfl)
theorem dX2_worlds_43 : decode cX2_worlds 43 = .ok (.iload 5, 2) := dk_21 5 (dk_at dksX2_worlds_1 19 rfl rfl)
theorem dX2_worlds_45 : decode cX2_worlds 45 = .ok (.aload_n 0, 1) := dk_42 (dk_at dksX2_worlds_1 21 rfl rfl)
theorem dX2_worlds_46 : decode cX2_worlds 46 = .ok (.getfield 66, 3) := dk_180 0 66 (dk_at dksX2_worlds_2 0 rfl rfl)
theorem dX2_worlds_49 : decode cX2_worlds 49 = .ok (.iconst 1, 1) := dk_4 (dk_at dksX2_worlds_2 3 rfl rfl)
theorem dX2_worlds_50 : decode cX2_worlds 50 = .ok (.iadd, 1) := dk_96 (dk_at dksX2_worlds_2 4 rfl rfl)
theorem dX2_worlds_51 : decode cX2_worlds 51 = .ok (.irem, 1) := dk_112 (dk_at dksX2_worlds_2 5 rfl rfl)
theorem dX2_worlds_52 : decode cX2_worlds 52 = .ok (.istore 6, 2) := dk_54 6 (dk_at dksX2_worlds_2 6 rfl rfl)
theorem dX2_worlds_54 : decode cX2_worlds 54 = .ok (.iload 5, 2) := dk_21 5 (dk_at dksX2_worlds_2 8 rfl rfl)
theorem dX2_worlds_56 : decode cX2_worlds 56 = .ok (.aload_n 0, 1) := dk_42 (dk_at dksX2_worlds_2 10 rfl rfl)
theorem dX2_worlds_57 : decode cX2_worlds 57 = .ok (.getfield 66, 3) := dk_180 0 66 (dk_at dksX2_worlds_2 11 rfl rfl)
theorem dX2_worlds_60 : decode cX2_worlds 60 = .ok (.iconst 1, 1) := dk_4 (dk_at dksX2_worlds_2 14 rfl rfl)
theorem dX2_worlds_61 : decode cX2_worlds 61 = .ok (.iadd, 1) := dk_96 (dk_at dksX2_worlds_2 15 rfl rfl)
theorem dX2_worlds_62 : decode cX2_worlds 62 = .ok (.idiv, 1) := dk_108 (dk_at dksX2_worlds_2 16 rfl rfl)
theorem dX2_worlds_63 : decode cX2_worlds 63 = .ok (.aload_n 0, 1) := dk_42 (dk_at dksX2_worlds_2 17 rfl rfl)
theorem dX2_worlds_64 : decode cX2_worlds 64 = .ok (.getfield 75, 3) := dk_180 0 75 (dk_at dksX2_worlds_2 18 rfl rfl)
theorem dX2_worlds_67 : decode cX2_worlds 67 = .ok (.irem, 1) := dk_112 (dk_at dksX2_worlds_2 21 rfl rfl)
theorem dX2_worlds_68 : decode cX2_worlds 68 = .ok (.istore 7, 2) := dk_54 7 (dk_at dksX2_worlds_2 22 rfl rfl)
theorem dX2_worlds_70 : decode cX2_worlds 70 = .ok (.iload 5, 2) := dk_21 5 (dk_at dksX2_worlds_3 0 rfl rfl)
theorem dX2_worlds_72 : decode cX2_worlds 72 = .ok (.aload_n 0, 1) := dk_42 (dk_at dksX2_worlds_3 2 rfl rfl)
theorem dX2_worlds_73 : decode cX2_worlds 73 = .ok (.getfield 66, 3) := dk_180 0 66 (dk_at dksX2_worlds_3 3 rfl rfl)
theorem dX2_worlds_76 : decode cX2_worlds 76 = .ok (.iconst 1, 1) := dk_4 (dk_at dksX2_worlds_3 6 rfl rfl)
theorem dX2_worlds_77 : decode cX2_worlds 77 = .ok (.iadd, 1) := dk_96 (dk_at dksX2_worlds_3 7 rfl rfl)
theorem dX2_worlds_78 : decode cX2_worlds 78 = .ok (.idiv, 1) := dk_108 (dk_at dksX2_worlds_3 8 rfl rfl)
theorem dX2_worlds_79 : decode cX2_worlds 79 = .ok (.aload_n 0, 1) := dk_42 (dk_at dksX2_worlds_3 9 rfl rfl)
theorem dX2_worlds_80 : decode cX2_worlds 80 = .ok (.getfield 75, 3) := dk_180 0 75 (dk_at dksX2_worlds_3 10 rfl rfl)
theorem dX2_worlds_83 : decode cX2_worlds 83 = .ok (.idiv, 1) := dk_108 (dk_at dksX2_worlds_3 13 rfl rfl)
theorem dX2_worlds_84 : decode cX2_worlds 84 = .ok (.istore 8, 2) := dk_54 8 (dk_at dksX2_worlds_3 14 rfl rfl)
theorem dX2_worlds_86 : decode cX2_worlds 86 = .ok (.aload_n 0, 1) := dk_42 (dk_at dksX2_worlds_3 16 rfl rfl)
theorem dX2_worlds_87 : decode cX2_worlds 87 = .ok (.iload 8, 2) := dk_21 8 (dk_at dksX2_worlds_3 17 rfl rfl)
theorem dX2_worlds_89 : decode cX2_worlds 89 = .ok (.iload 7, 2) := dk_21 7 (dk_at dksX2_worlds_3 19 rfl rfl)
theorem dX2_worlds_91 : decode cX2_worlds 91 = .ok (.iload 6, 2) := dk_21 6 (dk_at dksX2_worlds_3 21 rfl rfl)
theorem dX2_worlds_93 : decode cX2_worlds 93 = .ok (.invokevirtual 252, 3) := dk_182 0 252 (dk_at dksX2_worlds_4 0 rfl rfl)
theorem dX2_worlds_96 : decode cX2_worlds 96 = .ok (.ifCond .eq 51, 3) := dk_153 0 51 (dk_at dksX2_worlds_4 3 rfl rfl)
theorem dX2_worlds_99 : decode cX2_worlds 99 = .ok (.iinc 2 1, 3) := dk_132 2 1 (dk_at dksX2_worlds_4 6 rfl rfl)
theorem dX2_worlds_102 : decode cX2_worlds 102 = .ok (.iload_n 3, 1) := dk_29 (dk_at dksX2_worlds_4 9 rfl rfl)
theorem dX2_worlds_103 : decode cX2_worlds 103 = .ok (.iconst 1, 1) := dk_4 (dk_at dksX2_worlds_4 10 rfl rfl)
theorem dX2_worlds_104 : decode cX2_worlds 104 = .ok (.iload 8, 2) := dk_21 8 (dk_at dksX2_worlds_4 11 rfl rfl)
theorem dX2_worlds_106 : decode cX2_worlds 106 = .ok (.iload 7, 2) := dk_21 7 (dk_at dksX2_worlds_4 13 rfl rfl)
theorem dX2_worlds_108 : decode cX2_worlds 108 = .ok (.aload_n 0, 1) := dk_42 (dk_at dksX2_worlds_4 15 rfl rfl)
theorem dX2_worlds_109 : decode cX2_worlds 109 = .ok (.getfield 23, 3) := dk_180 0 23 (dk_at dksX2_worlds_4 16 rfl rfl)
theorem dX2_worlds_112 : decode cX2_worlds 112 = .ok (.iconst 0, 1) := dk_3 (dk_at dksX2_worlds_4 19 rfl rfl)
theorem dX2_worlds_113 : decode cX2_worlds 113 = .ok (.iaload, 1) := dk_46 (dk_at dksX2_worlds_4 20 rfl rfl)
theorem dX2_worlds_114 : decode cX2_worlds 114 = .ok (.imul, 1) := dk_104 (dk_at dksX2_worlds_4 21 rfl rfl)
theorem dX2_worlds_115 : decode cX2_worlds 115 = .ok (.iadd, 1) := dk_96 (dk_at dksX2_worlds_4 22 rfl rfl)
theorem dX2_worlds_116 : decode cX2_worlds 116 = .ok (.aload_n 0, 1) := dk_42 (dk_at dksX2_worlds_4 23 rfl rfl)
theorem dX2_worlds_117 : decode cX2_worlds 117 = .ok (.getfield 75, 3) := dk_180 0 75 (dk_at dksX2_worlds_5 0 rfl rfl)
theorem dX2_worlds_120 : decode cX2_worlds 120 = .ok (.irem, 1) := dk_112 (dk_at dksX2_worlds_5 3 rfl rfl)
theorem dX2_worlds_121 : decode cX2_worlds 121 = .ok (.ishl, 1) := dk_120 (dk_at dksX2_worlds_5 4 rfl rfl)
theorem dX2_worlds_122 : decode cX2_worlds 122 = .ok (.ior, 1) := dk_128 (dk_at dksX2_worlds_5 5 rfl rfl)
theorem dX2_worlds_123 : decode cX2_worlds 123 = .ok (.istore_n 3, 1) := dk_62 (dk_at dksX2_worlds_5 6 rfl rfl)
theorem dX2_worlds_124 : decode cX2_worlds 124 = .ok (.iload 4, 2) := dk_21 4 (dk_at dksX2_worlds_5 7 rfl rfl)
theorem dX2_worlds_126 : decode cX2_worlds 126 = .ok (.iload 6, 2) := dk_21 6 (dk_at dksX2_worlds_5 9 rfl rfl)
theorem dX2_worlds_128 : decode cX2_worlds 128 = .ok (.aload_n 0, 1) := dk_42 (dk_at dksX2_worlds_5 11 rfl rfl)
theorem dX2_worlds_129 : decode cX2_worlds 129 = .ok (.getfield 66, 3) := dk_180 0 66 (dk_at dksX2_worlds_5 12 rfl rfl)
theorem dX2_worlds_132 : decode cX2_worlds 132 = .ok (.if_icmp .ne 8, 3) := dk_160 0 8 (dk_at dksX2_worlds_5 15 rfl rfl)
theorem dX2_worlds_135 : decode cX2_worlds 135 = .ok (.bipush 64, 2) := dk_16 64 (dk_at dksX2_worlds_5 18 rfl rfl)
theorem dX2_worlds_137 : decode cX2_worlds 137 = .ok (.goto 7, 3) := dk_167 0 7 (dk_at dksX2_worlds_5 20 rfl rfl)
theorem dX2_worlds_140 : decode cX2_worlds 140 = .ok (.iconst 1, 1) := dk_4 (dk_at dksX2_worlds_5 23 rfl rfl)
theorem dX2_worlds_141 : decode cX2_worlds 141 = .ok (.iload 6, 2) := dk_21 6 (dk_at dksX2_worlds_6 0 rfl rfl)
theorem dX2_worlds_143 : decode cX2_worlds 143 = .ok (.ishl, 1) := dk_120 (dk_at dksX2_worlds_6 2 rfl rfl)
theorem dX2_worlds_144 : decode cX2_worlds 144 = .ok (.ior, 1) := dk_128 (dk_at dksX2_worlds_6 3 rfl rfl)
theorem dX2_worlds_145 : decode cX2_worlds 145 = .ok (.istore 4, 2) := dk_54 4 (dk_at dksX2_worlds_6 4 rfl rfl)
theorem dX2_worlds_147 : decode cX2_worlds 147 = .ok (.iinc 5 1, 3) := dk_132 5 1 (dk_at dksX2_worlds_6 6 rfl rfl)
theorem dX2_worlds_150 : decode cX2_worlds 150 = .ok (.goto (-128), 3) := dk_167 255 128 (dk_at dksX2_worlds_6 9 rfl rfl)
theorem dX2_worlds_153 : decode cX2_worlds 153 = .ok (.iload_n 1, 1) := dk_27 (dk_at dksX2_worlds_6 12 rfl rfl)
theorem dX2_worlds_154 : decode cX2_worlds 154 = .ok (.ifCond .ne 7, 3) := dk_154 0 7 (dk_at dksX2_worlds_6 13 rfl rfl)
theorem dX2_worlds_157 : decode cX2_worlds 157 = .ok (.iload_n 2, 1) := dk_28 (dk_at dksX2_worlds_6 16 rfl rfl)
theorem dX2_worlds_158 : decode cX2_worlds 158 = .ok (.goto 14, 3) := dk_167 0 14 (dk_at dksX2_worlds_6 17 rfl rfl)
theorem dX2_worlds_161 : decode cX2_worlds 161 = .ok (.iload_n 1, 1) := dk_27 (dk_at dksX2_worlds_6 20 rfl rfl)
theorem dX2_worlds_162 : decode cX2_worlds 162 = .ok (.iconst 1, 1) := dk_4 (dk_at dksX2_worlds_6 21 rfl rfl)
theorem dX2_worlds_163 : decode cX2_worlds 163 = .ok (.if_icmp .ne 7, 3) := dk_160 0 7 (dk_at dksX2_worlds_7 0 rfl rfl)
theorem dX2_worlds_166 : decode cX2_worlds 166 = .ok (.iload_n 3, 1) := dk_29 (dk_at dksX2_worlds_7 3 rfl rfl)
theorem dX2_worlds_167 : decode cX2_worlds 167 = .ok (.goto 5, 3) := dk_167 0 5 (dk_at dksX2_worlds_7 4 rfl rfl)
theorem dX2_worlds_170 : decode cX2_worlds 170 = .ok (.iload 4, 2) := dk_21 4 (dk_at dksX2_worlds_7 7 rfl rfl)
theorem dX2_worlds_172 : decode cX2_worlds 172 = .ok (.ireturn, 1) := dk_172 (dk_at dksX2_worlds_7 9 rfl rfl)
abbrev cX2_isWorld : ByteArray := prog_17_method_64_code
def yX2_isWorld : MethodName := ⟨RX2, "isWorld", "(III)Z"⟩
def dkwX2_isWorld_4 : List UInt8 := [167, 0, 4, 3, 160, 0, 7, 4, 167, 0, 4, 3, 54, 4, 132, 5, 1, 167, 255, 153, 21, 4, 172]
abbrev dktX2_isWorld_4 : List UInt8 := dkwX2_isWorld_4 ++ []
def dkwX2_isWorld_3 : List UInt8 := [21, 4, 153, 0, 32, 21, 6, 42, 180, 0, 36, 7, 21, 5, 104, 6, 96, 46, 4, 160, 0, 7, 4]
abbrev dktX2_isWorld_3 : List UInt8 := dkwX2_isWorld_3 ++ dktX2_isWorld_4
def dkwX2_isWorld_2 : List UInt8 := [160, 0, 20, 29, 42, 180, 0, 36, 7, 21, 5, 104, 46, 159, 0, 7, 4, 167, 0, 4, 3, 54, 6]
abbrev dktX2_isWorld_2 : List UInt8 := dkwX2_isWorld_2 ++ dktX2_isWorld_3
def dkwX2_isWorld_1 : List UInt8 := [104, 5, 96, 46, 104, 96, 42, 180, 0, 75, 112, 42, 180, 0, 36, 7, 21, 5, 104, 4, 96, 46]
abbrev dktX2_isWorld_1 : List UInt8 := dkwX2_isWorld_1 ++ dktX2_isWorld_2
def dkwX2_isWorld_0 : List UInt8 := [4, 54, 4, 3, 54, 5, 21, 5, 42, 180, 0, 72, 162, 0, 100, 27, 28, 42, 180, 0, 36, 7, 21, 5]
abbrev dktX2_isWorld_0 : List UInt8 := dkwX2_isWorld_0 ++ dktX2_isWorld_1
theorem dksX2_isWorld_0 : cX2_isWorld.data.toList.drop 0 = dktX2_isWorld_0 := by decide +kernel
theorem dksX2_isWorld_1 : cX2_isWorld.data.toList.drop 24 = dktX2_isWorld_1 := dk_seg dksX2_isWorld_0 24 rfl rfl
theorem dksX2_isWorld_2 : cX2_isWorld.data.toList.drop 46 = dktX2_isWorld_2 := dk_seg dksX2_isWorld_1 22 rfl rfl
theorem dksX2_isWorld_3 : cX2_isWorld.data.toList.drop 69 = dktX2_isWorld_3 := dk_seg dksX2_isWorld_2 23 rfl rfl
theorem dksX2_isWorld_4 : cX2_isWorld.data.toList.drop 92 = dktX2_isWorld_4 := dk_seg dksX2_isWorld_3 23 rfl rfl
theorem dX2_isWorld_0 : decode cX2_isWorld 0 = .ok (.iconst 1, 1) := dk_4 (dk_at dksX2_isWorld_0 0 rfl rfl)
theorem dX2_isWorld_1 : decode cX2_isWorld 1 = .ok (.istore 4, 2) := dk_54 4 (dk_at dksX2_isWorld_0 1 rfl rfl)
theorem dX2_isWorld_3 : decode cX2_isWorld 3 = .ok (.iconst 0, 1) := dk_3 (dk_at dksX2_isWorld_0 3 rfl rfl)
theorem dX2_isWorld_4 : decode cX2_isWorld 4 = .ok (.istore 5, 2) := dk_54 5 (dk_at dksX2_isWorld_0 4 rfl rfl)
theorem dX2_isWorld_6 : decode cX2_isWorld 6 = .ok (.iload 5, 2) := dk_21 5 (dk_at dksX2_isWorld_0 6 rfl rfl)
theorem dX2_isWorld_8 : decode cX2_isWorld 8 = .ok (.aload_n 0, 1) := dk_42 (dk_at dksX2_isWorld_0 8 rfl rfl)
theorem dX2_isWorld_9 : decode cX2_isWorld 9 = .ok (.getfield 72, 3) := dk_180 0 72 (dk_at dksX2_isWorld_0 9 rfl rfl)
theorem dX2_isWorld_12 : decode cX2_isWorld 12 = .ok (.if_icmp .ge 100, 3) := dk_162 0 100 (dk_at dksX2_isWorld_0 12 rfl rfl)
theorem dX2_isWorld_15 : decode cX2_isWorld 15 = .ok (.iload_n 1, 1) := dk_27 (dk_at dksX2_isWorld_0 15 rfl rfl)
theorem dX2_isWorld_16 : decode cX2_isWorld 16 = .ok (.iload_n 2, 1) := dk_28 (dk_at dksX2_isWorld_0 16 rfl rfl)
theorem dX2_isWorld_17 : decode cX2_isWorld 17 = .ok (.aload_n 0, 1) := dk_42 (dk_at dksX2_isWorld_0 17 rfl rfl)
theorem dX2_isWorld_18 : decode cX2_isWorld 18 = .ok (.getfield 36, 3) := dk_180 0 36 (dk_at dksX2_isWorld_0 18 rfl rfl)
theorem dX2_isWorld_21 : decode cX2_isWorld 21 = .ok (.iconst 4, 1) := dk_7 (dk_at dksX2_isWorld_0 21 rfl rfl)
theorem dX2_isWorld_22 : decode cX2_isWorld 22 = .ok (.iload 5, 2) := dk_21 5 (dk_at dksX2_isWorld_0 22 rfl rfl)
theorem dX2_isWorld_24 : decode cX2_isWorld 24 = .ok (.imul, 1) := dk_104 (dk_at dksX2_isWorld_1 0 rfl rfl)
theorem dX2_isWorld_25 : decode cX2_isWorld 25 = .ok (.iconst 2, 1) := dk_5 (dk_at dksX2_isWorld_1 1 rfl rfl)
theorem dX2_isWorld_26 : decode cX2_isWorld 26 = .ok (.iadd, 1) := dk_96 (dk_at dksX2_isWorld_1 2 rfl rfl)
theorem dX2_isWorld_27 : decode cX2_isWorld 27 = .ok (.iaload, 1) := dk_46 (dk_at dksX2_isWorld_1 3 rfl rfl)
theorem dX2_isWorld_28 : decode cX2_isWorld 28 = .ok (.imul, 1) := dk_104 (dk_at dksX2_isWorld_1 4 rfl rfl)
theorem dX2_isWorld_29 : decode cX2_isWorld 29 = .ok (.iadd, 1) := dk_96 (dk_at dksX2_isWorld_1 5 rfl rfl)
theorem dX2_isWorld_30 : decode cX2_isWorld 30 = .ok (.aload_n 0, 1) := dk_42 (dk_at dksX2_isWorld_1 6 rfl rfl)
theorem dX2_isWorld_31 : decode cX2_isWorld 31 = .ok (.getfield 75, 3) := dk_180 0 75 (dk_at dksX2_isWorld_1 7 rfl rfl)
theorem dX2_isWorld_34 : decode cX2_isWorld 34 = .ok (.irem, 1) := dk_112 (dk_at dksX2_isWorld_1 10 rfl rfl)
theorem dX2_isWorld_35 : decode cX2_isWorld 35 = .ok (.aload_n 0, 1) := dk_42 (dk_at dksX2_isWorld_1 11 rfl rfl)
theorem dX2_isWorld_36 : decode cX2_isWorld 36 = .ok (.getfield 36, 3) := dk_180 0 36 (dk_at dksX2_isWorld_1 12 rfl rfl)
theorem dX2_isWorld_39 : decode cX2_isWorld 39 = .ok (.iconst 4, 1) := dk_7 (dk_at dksX2_isWorld_1 15 rfl rfl)
theorem dX2_isWorld_40 : decode cX2_isWorld 40 = .ok (.iload 5, 2) := dk_21 5 (dk_at dksX2_isWorld_1 16 rfl rfl)
theorem dX2_isWorld_42 : decode cX2_isWorld 42 = .ok (.imul, 1) := dk_104 (dk_at dksX2_isWorld_1 18 rfl rfl)
theorem dX2_isWorld_43 : decode cX2_isWorld 43 = .ok (.iconst 1, 1) := dk_4 (dk_at dksX2_isWorld_1 19 rfl rfl)
theorem dX2_isWorld_44 : decode cX2_isWorld 44 = .ok (.iadd, 1) := dk_96 (dk_at dksX2_isWorld_1 20 rfl rfl)
theorem dX2_isWorld_45 : decode cX2_isWorld 45 = .ok (.iaload, 1) := dk_46 (dk_at dksX2_isWorld_1 21 rfl rfl)
theorem dX2_isWorld_46 : decode cX2_isWorld 46 = .ok (.if_icmp .ne 20, 3) := dk_160 0 20 (dk_at dksX2_isWorld_2 0 rfl rfl)
theorem dX2_isWorld_49 : decode cX2_isWorld 49 = .ok (.iload_n 3, 1) := dk_29 (dk_at dksX2_isWorld_2 3 rfl rfl)
theorem dX2_isWorld_50 : decode cX2_isWorld 50 = .ok (.aload_n 0, 1) := dk_42 (dk_at dksX2_isWorld_2 4 rfl rfl)
theorem dX2_isWorld_51 : decode cX2_isWorld 51 = .ok (.getfield 36, 3) := dk_180 0 36 (dk_at dksX2_isWorld_2 5 rfl rfl)
theorem dX2_isWorld_54 : decode cX2_isWorld 54 = .ok (.iconst 4, 1) := dk_7 (dk_at dksX2_isWorld_2 8 rfl rfl)
theorem dX2_isWorld_55 : decode cX2_isWorld 55 = .ok (.iload 5, 2) := dk_21 5 (dk_at dksX2_isWorld_2 9 rfl rfl)
theorem dX2_isWorld_57 : decode cX2_isWorld 57 = .ok (.imul, 1) := dk_104 (dk_at dksX2_isWorld_2 11 rfl rfl)
theorem dX2_isWorld_58 : decode cX2_isWorld 58 = .ok (.iaload, 1) := dk_46 (dk_at dksX2_isWorld_2 12 rfl rfl)
theorem dX2_isWorld_59 : decode cX2_isWorld 59 = .ok (.if_icmp .eq 7, 3) := dk_159 0 7 (dk_at dksX2_isWorld_2 13 rfl rfl)
theorem dX2_isWorld_62 : decode cX2_isWorld 62 = .ok (.iconst 1, 1) := dk_4 (dk_at dksX2_isWorld_2 16 rfl rfl)
theorem dX2_isWorld_63 : decode cX2_isWorld 63 = .ok (.goto 4, 3) := dk_167 0 4 (dk_at dksX2_isWorld_2 17 rfl rfl)
theorem dX2_isWorld_66 : decode cX2_isWorld 66 = .ok (.iconst 0, 1) := dk_3 (dk_at dksX2_isWorld_2 20 rfl rfl)
theorem dX2_isWorld_67 : decode cX2_isWorld 67 = .ok (.istore 6, 2) := dk_54 6 (dk_at dksX2_isWorld_2 21 rfl rfl)
theorem dX2_isWorld_69 : decode cX2_isWorld 69 = .ok (.iload 4, 2) := dk_21 4 (dk_at dksX2_isWorld_3 0 rfl rfl)
theorem dX2_isWorld_71 : decode cX2_isWorld 71 = .ok (.ifCond .eq 32, 3) := dk_153 0 32 (dk_at dksX2_isWorld_3 2 rfl rfl)
theorem dX2_isWorld_74 : decode cX2_isWorld 74 = .ok (.iload 6, 2) := dk_21 6 (dk_at dksX2_isWorld_3 5 rfl rfl)
theorem dX2_isWorld_76 : decode cX2_isWorld 76 = .ok (.aload_n 0, 1) := dk_42 (dk_at dksX2_isWorld_3 7 rfl rfl)
theorem dX2_isWorld_77 : decode cX2_isWorld 77 = .ok (.getfield 36, 3) := dk_180 0 36 (dk_at dksX2_isWorld_3 8 rfl rfl)
theorem dX2_isWorld_80 : decode cX2_isWorld 80 = .ok (.iconst 4, 1) := dk_7 (dk_at dksX2_isWorld_3 11 rfl rfl)
theorem dX2_isWorld_81 : decode cX2_isWorld 81 = .ok (.iload 5, 2) := dk_21 5 (dk_at dksX2_isWorld_3 12 rfl rfl)
theorem dX2_isWorld_83 : decode cX2_isWorld 83 = .ok (.imul, 1) := dk_104 (dk_at dksX2_isWorld_3 14 rfl rfl)
theorem dX2_isWorld_84 : decode cX2_isWorld 84 = .ok (.iconst 3, 1) := dk_6 (dk_at dksX2_isWorld_3 15 rfl rfl)
theorem dX2_isWorld_85 : decode cX2_isWorld 85 = .ok (.iadd, 1) := dk_96 (dk_at dksX2_isWorld_3 16 rfl rfl)
theorem dX2_isWorld_86 : decode cX2_isWorld 86 = .ok (.iaload, 1) := dk_46 (dk_at dksX2_isWorld_3 17 rfl rfl)
theorem dX2_isWorld_87 : decode cX2_isWorld 87 = .ok (.iconst 1, 1) := dk_4 (dk_at dksX2_isWorld_3 18 rfl rfl)
theorem dX2_isWorld_88 : decode cX2_isWorld 88 = .ok (.if_icmp .ne 7, 3) := dk_160 0 7 (dk_at dksX2_isWorld_3 19 rfl rfl)
theorem dX2_isWorld_91 : decode cX2_isWorld 91 = .ok (.iconst 1, 1) := dk_4 (dk_at dksX2_isWorld_3 22 rfl rfl)
theorem dX2_isWorld_92 : decode cX2_isWorld 92 = .ok (.goto 4, 3) := dk_167 0 4 (dk_at dksX2_isWorld_4 0 rfl rfl)
theorem dX2_isWorld_95 : decode cX2_isWorld 95 = .ok (.iconst 0, 1) := dk_3 (dk_at dksX2_isWorld_4 3 rfl rfl)
theorem dX2_isWorld_96 : decode cX2_isWorld 96 = .ok (.if_icmp .ne 7, 3) := dk_160 0 7 (dk_at dksX2_isWorld_4 4 rfl rfl)
theorem dX2_isWorld_99 : decode cX2_isWorld 99 = .ok (.iconst 1, 1) := dk_4 (dk_at dksX2_isWorld_4 7 rfl rfl)
theorem dX2_isWorld_100 : decode cX2_isWorld 100 = .ok (.goto 4, 3) := dk_167 0 4 (dk_at dksX2_isWorld_4 8 rfl rfl)
theorem dX2_isWorld_103 : decode cX2_isWorld 103 = .ok (.iconst 0, 1) := dk_3 (dk_at dksX2_isWorld_4 11 rfl rfl)
theorem dX2_isWorld_104 : decode cX2_isWorld 104 = .ok (.istore 4, 2) := dk_54 4 (dk_at dksX2_isWorld_4 12 rfl rfl)
theorem dX2_isWorld_106 : decode cX2_isWorld 106 = .ok (.iinc 5 1, 3) := dk_132 5 1 (dk_at dksX2_isWorld_4 14 rfl rfl)
theorem dX2_isWorld_109 : decode cX2_isWorld 109 = .ok (.goto (-103), 3) := dk_167 255 153 (dk_at dksX2_isWorld_4 17 rfl rfl)
theorem dX2_isWorld_112 : decode cX2_isWorld 112 = .ok (.iload 4, 2) := dk_21 4 (dk_at dksX2_isWorld_4 20 rfl rfl)
theorem dX2_isWorld_114 : decode cX2_isWorld 114 = .ok (.ireturn, 1) := dk_172 (dk_at dksX2_isWorld_4 22 rfl rfl)
abbrev cX2_safest : ByteArray := prog_17_method_67_code
def yX2_safest : MethodName := ⟨RX2, "safest", "(II)I"⟩
def dkwX2_safest_5 : List UInt8 := [29, 167, 0, 5, 21, 4, 172]
abbrev dktX2_safest_5 : List UInt8 := dkwX2_safest_5 ++ []
def dkwX2_safest_4 : List UInt8 := [21, 6, 167, 0, 5, 21, 4, 54, 4, 132, 5, 1, 167, 255, 180, 29, 2, 159, 0, 7, 28, 154, 0, 7]
abbrev dktX2_safest_4 : List UInt8 := dkwX2_safest_4 ++ dktX2_safest_5
def dkwX2_safest_3 : List UInt8 := [4, 167, 0, 4, 3, 54, 7, 21, 7, 153, 0, 8, 21, 5, 167, 0, 4, 29, 62, 21, 7, 153, 0, 8]
abbrev dktX2_safest_3 : List UInt8 := dkwX2_safest_3 ++ dktX2_safest_4
def dkwX2_safest_2 : List UInt8 := [153, 0, 57, 42, 27, 21, 5, 182, 0, 255, 54, 6, 29, 2, 159, 0, 10, 21, 6, 21, 4, 162, 0, 7]
abbrev dktX2_safest_2 : List UInt8 := dkwX2_safest_2 ++ dktX2_safest_3
def dkwX2_safest_1 : List UInt8 := [62, 3, 54, 4, 3, 54, 5, 21, 5, 42, 180, 0, 75, 162, 0, 73, 42, 27, 21, 5, 182, 0, 189]
abbrev dktX2_safest_1 : List UInt8 := dkwX2_safest_1 ++ dktX2_safest_2
def dkwX2_safest_0 : List UInt8 := [42, 27, 182, 0, 82, 154, 0, 6, 16, 254, 172, 28, 3, 4, 184, 0, 78, 154, 0, 6, 16, 253, 172, 2]
abbrev dktX2_safest_0 : List UInt8 := dkwX2_safest_0 ++ dktX2_safest_1
theorem dksX2_safest_0 : cX2_safest.data.toList.drop 0 = dktX2_safest_0 := by decide +kernel
theorem dksX2_safest_1 : cX2_safest.data.toList.drop 24 = dktX2_safest_1 := dk_seg dksX2_safest_0 24 rfl rfl
theorem dksX2_safest_2 : cX2_safest.data.toList.drop 47 = dktX2_safest_2 := dk_seg dksX2_safest_1 23 rfl rfl
theorem dksX2_safest_3 : cX2_safest.data.toList.drop 71 = dktX2_safest_3 := dk_seg dksX2_safest_2 24 rfl rfl
theorem dksX2_safest_4 : cX2_safest.data.toList.drop 95 = dktX2_safest_4 := dk_seg dksX2_safest_3 24 rfl rfl
theorem dksX2_safest_5 : cX2_safest.data.toList.drop 119 = dktX2_safest_5 := dk_seg dksX2_safest_4 24 rfl rfl
theorem dX2_safest_0 : decode cX2_safest 0 = .ok (.aload_n 0, 1) := dk_42 (dk_at dksX2_safest_0 0 rfl rfl)
theorem dX2_safest_1 : decode cX2_safest 1 = .ok (.iload_n 1, 1) := dk_27 (dk_at dksX2_safest_0 1 rfl rfl)
theorem dX2_safest_2 : decode cX2_safest 2 = .ok (.invokevirtual 82, 3) := dk_182 0 82 (dk_at dksX2_safest_0 2 rfl rfl)
theorem dX2_safest_5 : decode cX2_safest 5 = .ok (.ifCond .ne 6, 3) := dk_154 0 6 (dk_at dksX2_safest_0 5 rfl rfl)
theorem dX2_safest_8 : decode cX2_safest 8 = .ok (.bipush (-2), 2) := dk_16 254 (dk_at dksX2_safest_0 8 rfl rfl)
theorem dX2_safest_10 : decode cX2_safest 10 = .ok (.ireturn, 1) := dk_172 (dk_at dksX2_safest_0 10 rfl rfl)
theorem dX2_safest_11 : decode cX2_safest 11 = .ok (.iload_n 2, 1) := dk_28 (dk_at dksX2_safest_0 11 rfl rfl)
theorem dX2_safest_12 : decode cX2_safest 12 = .ok (.iconst 0, 1) := dk_3 (dk_at dksX2_safest_0 12 rfl rfl)
theorem dX2_safest_13 : decode cX2_safest 13 = .ok (.iconst 1, 1) := dk_4 (dk_at dksX2_safest_0 13 rfl rfl)
theorem dX2_safest_14 : decode cX2_safest 14 = .ok (.invokestatic 78, 3) := dk_184 0 78 (dk_at dksX2_safest_0 14 rfl rfl)
theorem dX2_safest_17 : decode cX2_safest 17 = .ok (.ifCond .ne 6, 3) := dk_154 0 6 (dk_at dksX2_safest_0 17 rfl rfl)
theorem dX2_safest_20 : decode cX2_safest 20 = .ok (.bipush (-3), 2) := dk_16 253 (dk_at dksX2_safest_0 20 rfl rfl)
theorem dX2_safest_22 : decode cX2_safest 22 = .ok (.ireturn, 1) := dk_172 (dk_at dksX2_safest_0 22 rfl rfl)
theorem dX2_safest_23 : decode cX2_safest 23 = .ok (.iconst (-1), 1) := dk_2 (dk_at dksX2_safest_0 23 rfl rfl)
theorem dX2_safest_24 : decode cX2_safest 24 = .ok (.istore_n 3, 1) := dk_62 (dk_at dksX2_safest_1 0 rfl rfl)
theorem dX2_safest_25 : decode cX2_safest 25 = .ok (.iconst 0, 1) := dk_3 (dk_at dksX2_safest_1 1 rfl rfl)
theorem dX2_safest_26 : decode cX2_safest 26 = .ok (.istore 4, 2) := dk_54 4 (dk_at dksX2_safest_1 2 rfl rfl)
theorem dX2_safest_28 : decode cX2_safest 28 = .ok (.iconst 0, 1) := dk_3 (dk_at dksX2_safest_1 4 rfl rfl)
theorem dX2_safest_29 : decode cX2_safest 29 = .ok (.istore 5, 2) := dk_54 5 (dk_at dksX2_safest_1 5 rfl rfl)
theorem dX2_safest_31 : decode cX2_safest 31 = .ok (.iload 5, 2) := dk_21 5 (dk_at dksX2_safest_1 7 rfl rfl)
theorem dX2_safest_33 : decode cX2_safest 33 = .ok (.aload_n 0, 1) := dk_42 (dk_at dksX2_safest_1 9 rfl rfl)
theorem dX2_safest_34 : decode cX2_safest 34 = .ok (.getfield 75, 3) := dk_180 0 75 (dk_at dksX2_safest_1 10 rfl rfl)
theorem dX2_safest_37 : decode cX2_safest 37 = .ok (.if_icmp .ge 73, 3) := dk_162 0 73 (dk_at dksX2_safest_1 13 rfl rfl)
theorem dX2_safest_40 : decode cX2_safest 40 = .ok (.aload_n 0, 1) := dk_42 (dk_at dksX2_safest_1 16 rfl rfl)
theorem dX2_safest_41 : decode cX2_safest 41 = .ok (.iload_n 1, 1) := dk_27 (dk_at dksX2_safest_1 17 rfl rfl)
theorem dX2_safest_42 : decode cX2_safest 42 = .ok (.iload 5, 2) := dk_21 5 (dk_at dksX2_safest_1 18 rfl rfl)
theorem dX2_safest_44 : decode cX2_safest 44 = .ok (.invokevirtual 189, 3) := dk_182 0 189 (dk_at dksX2_safest_1 20 rfl rfl)
theorem dX2_safest_47 : decode cX2_safest 47 = .ok (.ifCond .eq 57, 3) := dk_153 0 57 (dk_at dksX2_safest_2 0 rfl rfl)
theorem dX2_safest_50 : decode cX2_safest 50 = .ok (.aload_n 0, 1) := dk_42 (dk_at dksX2_safest_2 3 rfl rfl)
theorem dX2_safest_51 : decode cX2_safest 51 = .ok (.iload_n 1, 1) := dk_27 (dk_at dksX2_safest_2 4 rfl rfl)
theorem dX2_safest_52 : decode cX2_safest 52 = .ok (.iload 5, 2) := dk_21 5 (dk_at dksX2_safest_2 5 rfl rfl)
theorem dX2_safest_54 : decode cX2_safest 54 = .ok (.invokevirtual 255, 3) := dk_182 0 255 (dk_at dksX2_safest_2 7 rfl rfl)
theorem dX2_safest_57 : decode cX2_safest 57 = .ok (.istore 6, 2) := dk_54 6 (dk_at dksX2_safest_2 10 rfl rfl)
theorem dX2_safest_59 : decode cX2_safest 59 = .ok (.iload_n 3, 1) := dk_29 (dk_at dksX2_safest_2 12 rfl rfl)
theorem dX2_safest_60 : decode cX2_safest 60 = .ok (.iconst (-1), 1) := dk_2 (dk_at dksX2_safest_2 13 rfl rfl)
theorem dX2_safest_61 : decode cX2_safest 61 = .ok (.if_icmp .eq 10, 3) := dk_159 0 10 (dk_at dksX2_safest_2 14 rfl rfl)
theorem dX2_safest_64 : decode cX2_safest 64 = .ok (.iload 6, 2) := dk_21 6 (dk_at dksX2_safest_2 17 rfl rfl)
theorem dX2_safest_66 : decode cX2_safest 66 = .ok (.iload 4, 2) := dk_21 4 (dk_at dksX2_safest_2 19 rfl rfl)
theorem dX2_safest_68 : decode cX2_safest 68 = .ok (.if_icmp .ge 7, 3) := dk_162 0 7 (dk_at dksX2_safest_2 21 rfl rfl)
theorem dX2_safest_71 : decode cX2_safest 71 = .ok (.iconst 1, 1) := dk_4 (dk_at dksX2_safest_3 0 rfl rfl)
theorem dX2_safest_72 : decode cX2_safest 72 = .ok (.goto 4, 3) := dk_167 0 4 (dk_at dksX2_safest_3 1 rfl rfl)
theorem dX2_safest_75 : decode cX2_safest 75 = .ok (.iconst 0, 1) := dk_3 (dk_at dksX2_safest_3 4 rfl rfl)
theorem dX2_safest_76 : decode cX2_safest 76 = .ok (.istore 7, 2) := dk_54 7 (dk_at dksX2_safest_3 5 rfl rfl)
theorem dX2_safest_78 : decode cX2_safest 78 = .ok (.iload 7, 2) := dk_21 7 (dk_at dksX2_safest_3 7 rfl rfl)
theorem dX2_safest_80 : decode cX2_safest 80 = .ok (.ifCond .eq 8, 3) := dk_153 0 8 (dk_at dksX2_safest_3 9 rfl rfl)
theorem dX2_safest_83 : decode cX2_safest 83 = .ok (.iload 5, 2) := dk_21 5 (dk_at dksX2_safest_3 12 rfl rfl)
theorem dX2_safest_85 : decode cX2_safest 85 = .ok (.goto 4, 3) := dk_167 0 4 (dk_at dksX2_safest_3 14 rfl rfl)
theorem dX2_safest_88 : decode cX2_safest 88 = .ok (.iload_n 3, 1) := dk_29 (dk_at dksX2_safest_3 17 rfl rfl)
theorem dX2_safest_89 : decode cX2_safest 89 = .ok (.istore_n 3, 1) := dk_62 (dk_at dksX2_safest_3 18 rfl rfl)
theorem dX2_safest_90 : decode cX2_safest 90 = .ok (.iload 7, 2) := dk_21 7 (dk_at dksX2_safest_3 19 rfl rfl)
theorem dX2_safest_92 : decode cX2_safest 92 = .ok (.ifCond .eq 8, 3) := dk_153 0 8 (dk_at dksX2_safest_3 21 rfl rfl)
theorem dX2_safest_95 : decode cX2_safest 95 = .ok (.iload 6, 2) := dk_21 6 (dk_at dksX2_safest_4 0 rfl rfl)
theorem dX2_safest_97 : decode cX2_safest 97 = .ok (.goto 5, 3) := dk_167 0 5 (dk_at dksX2_safest_4 2 rfl rfl)
theorem dX2_safest_100 : decode cX2_safest 100 = .ok (.iload 4, 2) := dk_21 4 (dk_at dksX2_safest_4 5 rfl rfl)
theorem dX2_safest_102 : decode cX2_safest 102 = .ok (.istore 4, 2) := dk_54 4 (dk_at dksX2_safest_4 7 rfl rfl)
theorem dX2_safest_104 : decode cX2_safest 104 = .ok (.iinc 5 1, 3) := dk_132 5 1 (dk_at dksX2_safest_4 9 rfl rfl)
theorem dX2_safest_107 : decode cX2_safest 107 = .ok (.goto (-76), 3) := dk_167 255 180 (dk_at dksX2_safest_4 12 rfl rfl)
theorem dX2_safest_110 : decode cX2_safest 110 = .ok (.iload_n 3, 1) := dk_29 (dk_at dksX2_safest_4 15 rfl rfl)
theorem dX2_safest_111 : decode cX2_safest 111 = .ok (.iconst (-1), 1) := dk_2 (dk_at dksX2_safest_4 16 rfl rfl)
theorem dX2_safest_112 : decode cX2_safest 112 = .ok (.if_icmp .eq 7, 3) := dk_159 0 7 (dk_at dksX2_safest_4 17 rfl rfl)
theorem dX2_safest_115 : decode cX2_safest 115 = .ok (.iload_n 2, 1) := dk_28 (dk_at dksX2_safest_4 20 rfl rfl)
theorem dX2_safest_116 : decode cX2_safest 116 = .ok (.ifCond .ne 7, 3) := dk_154 0 7 (dk_at dksX2_safest_4 21 rfl rfl)
theorem dX2_safest_119 : decode cX2_safest 119 = .ok (.iload_n 3, 1) := dk_29 (dk_at dksX2_safest_5 0 rfl rfl)
theorem dX2_safest_120 : decode cX2_safest 120 = .ok (.goto 5, 3) := dk_167 0 5 (dk_at dksX2_safest_5 1 rfl rfl)
theorem dX2_safest_123 : decode cX2_safest 123 = .ok (.iload 4, 2) := dk_21 4 (dk_at dksX2_safest_5 4 rfl rfl)
theorem dX2_safest_125 : decode cX2_safest 125 = .ok (.ireturn, 1) := dk_172 (dk_at dksX2_safest_5 6 rfl rfl)
abbrev cX2_dangers : ByteArray := prog_17_method_66_code
def yX2_dangers : MethodName := ⟨RX2, "dangers", "(II)I"⟩
def dkwX2_dangers_5 : List UInt8 := [182, 0, 252, 153, 0, 7, 4, 167, 0, 4, 3, 96, 62, 132, 4, 1, 167, 255, 129, 29, 172]
abbrev dktX2_dangers_5 : List UInt8 := dkwX2_dangers_5 ++ []
def dkwX2_dangers_4 : List UInt8 := [180, 0, 23, 3, 46, 104, 96, 42, 180, 0, 75, 112, 28, 160, 0, 20, 42, 21, 7, 21, 6, 21, 5]
abbrev dktX2_dangers_4 : List UInt8 := dkwX2_dangers_4 ++ dktX2_dangers_5
def dkwX2_dangers_3 : List UInt8 := [4, 96, 108, 42, 180, 0, 75, 108, 54, 7, 29, 21, 5, 27, 159, 0, 41, 21, 7, 21, 6, 42]
abbrev dktX2_dangers_3 : List UInt8 := dkwX2_dangers_3 ++ dktX2_dangers_4
def dkwX2_dangers_2 : List UInt8 := [54, 5, 21, 4, 42, 180, 0, 66, 4, 96, 108, 42, 180, 0, 75, 112, 54, 6, 21, 4, 42, 180, 0, 66]
abbrev dktX2_dangers_2 : List UInt8 := dkwX2_dangers_2 ++ dktX2_dangers_3
def dkwX2_dangers_1 : List UInt8 := [162, 0, 112, 42, 180, 0, 13, 6, 27, 104, 46, 4, 159, 0, 100, 21, 4, 42, 180, 0, 66, 4, 96, 112]
abbrev dktX2_dangers_1 : List UInt8 := dkwX2_dangers_1 ++ dktX2_dangers_2
def dkwX2_dangers_0 : List UInt8 := [3, 62, 3, 54, 4, 21, 4, 42, 180, 0, 75, 42, 180, 0, 75, 104, 42, 180, 0, 66, 4, 96, 104]
abbrev dktX2_dangers_0 : List UInt8 := dkwX2_dangers_0 ++ dktX2_dangers_1
theorem dksX2_dangers_0 : cX2_dangers.data.toList.drop 0 = dktX2_dangers_0 := by decide +kernel
theorem dksX2_dangers_1 : cX2_dangers.data.toList.drop 23 = dktX2_dangers_1 := dk_seg dksX2_dangers_0 23 rfl rfl
theorem dksX2_dangers_2 : cX2_dangers.data.toList.drop 47 = dktX2_dangers_2 := dk_seg dksX2_dangers_1 24 rfl rfl
theorem dksX2_dangers_3 : cX2_dangers.data.toList.drop 71 = dktX2_dangers_3 := dk_seg dksX2_dangers_2 24 rfl rfl
theorem dksX2_dangers_4 : cX2_dangers.data.toList.drop 93 = dktX2_dangers_4 := dk_seg dksX2_dangers_3 22 rfl rfl
theorem dksX2_dangers_5 : cX2_dangers.data.toList.drop 116 = dktX2_dangers_5 := dk_seg dksX2_dangers_4 23 rfl rfl
theorem dX2_dangers_0 : decode cX2_dangers 0 = .ok (.iconst 0, 1) := dk_3 (dk_at dksX2_dangers_0 0 rfl rfl)
theorem dX2_dangers_1 : decode cX2_dangers 1 = .ok (.istore_n 3, 1) := dk_62 (dk_at dksX2_dangers_0 1 rfl rfl)
theorem dX2_dangers_2 : decode cX2_dangers 2 = .ok (.iconst 0, 1) := dk_3 (dk_at dksX2_dangers_0 2 rfl rfl)
theorem dX2_dangers_3 : decode cX2_dangers 3 = .ok (.istore 4, 2) := dk_54 4 (dk_at dksX2_dangers_0 3 rfl rfl)
theorem dX2_dangers_5 : decode cX2_dangers 5 = .ok (.iload 4, 2) := dk_21 4 (dk_at dksX2_dangers_0 5 rfl rfl)
theorem dX2_dangers_7 : decode cX2_dangers 7 = .ok (.aload_n 0, 1) := dk_42 (dk_at dksX2_dangers_0 7 rfl rfl)
theorem dX2_dangers_8 : decode cX2_dangers 8 = .ok (.getfield 75, 3) := dk_180 0 75 (dk_at dksX2_dangers_0 8 rfl rfl)
theorem dX2_dangers_11 : decode cX2_dangers 11 = .ok (.aload_n 0, 1) := dk_42 (dk_at dksX2_dangers_0 11 rfl rfl)
theorem dX2_dangers_12 : decode cX2_dangers 12 = .ok (.getfield 75, 3) := dk_180 0 75 (dk_at dksX2_dangers_0 12 rfl rfl)
theorem dX2_dangers_15 : decode cX2_dangers 15 = .ok (.imul, 1) := dk_104 (dk_at dksX2_dangers_0 15 rfl rfl)
theorem dX2_dangers_16 : decode cX2_dangers 16 = .ok (.aload_n 0, 1) := dk_42 (dk_at dksX2_dangers_0 16 rfl rfl)
theorem dX2_dangers_17 : decode cX2_dangers 17 = .ok (.getfield 66, 3) := dk_180 0 66 (dk_at dksX2_dangers_0 17 rfl rfl)
theorem dX2_dangers_20 : decode cX2_dangers 20 = .ok (.iconst 1, 1) := dk_4 (dk_at dksX2_dangers_0 20 rfl rfl)
theorem dX2_dangers_21 : decode cX2_dangers 21 = .ok (.iadd, 1) := dk_96 (dk_at dksX2_dangers_0 21 rfl rfl)
theorem dX2_dangers_22 : decode cX2_dangers 22 = .ok (.imul, 1) := dk_104 (dk_at dksX2_dangers_0 22 rfl rfl)
theorem dX2_dangers_23 : decode cX2_dangers 23 = .ok (.if_icmp .ge 112, 3) := dk_162 0 112 (dk_at dksX2_dangers_1 0 rfl rfl)
theorem dX2_dangers_26 : decode cX2_dangers 26 = .ok (.aload_n 0, 1) := dk_42 (dk_at dksX2_dangers_1 3 rfl rfl)
theorem dX2_dangers_27 : decode cX2_dangers 27 = .ok (.getfield 13, 3) := dk_180 0 13 (dk_at dksX2_dangers_1 4 rfl rfl)
theorem dX2_dangers_30 : decode cX2_dangers 30 = .ok (.iconst 3, 1) := dk_6 (dk_at dksX2_dangers_1 7 rfl rfl)
theorem dX2_dangers_31 : decode cX2_dangers 31 = .ok (.iload_n 1, 1) := dk_27 (dk_at dksX2_dangers_1 8 rfl rfl)
theorem dX2_dangers_32 : decode cX2_dangers 32 = .ok (.imul, 1) := dk_104 (dk_at dksX2_dangers_1 9 rfl rfl)
theorem dX2_dangers_33 : decode cX2_dangers 33 = .ok (.iaload, 1) := dk_46 (dk_at dksX2_dangers_1 10 rfl rfl)
theorem dX2_dangers_34 : decode cX2_dangers 34 = .ok (.iconst 1, 1) := dk_4 (dk_at dksX2_dangers_1 11 rfl rfl)
theorem dX2_dangers_35 : decode cX2_dangers 35 = .ok (.if_icmp .eq 100, 3) := dk_159 0 100 (dk_at dksX2_dangers_1 12 rfl rfl)
theorem dX2_dangers_38 : decode cX2_dangers 38 = .ok (.iload 4, 2) := dk_21 4 (dk_at dksX2_dangers_1 15 rfl rfl)
theorem dX2_dangers_40 : decode cX2_dangers 40 = .ok (.aload_n 0, 1) := dk_42 (dk_at dksX2_dangers_1 17 rfl rfl)
theorem dX2_dangers_41 : decode cX2_dangers 41 = .ok (.getfield 66, 3) := dk_180 0 66 (dk_at dksX2_dangers_1 18 rfl rfl)
theorem dX2_dangers_44 : decode cX2_dangers 44 = .ok (.iconst 1, 1) := dk_4 (dk_at dksX2_dangers_1 21 rfl rfl)
theorem dX2_dangers_45 : decode cX2_dangers 45 = .ok (.iadd, 1) := dk_96 (dk_at dksX2_dangers_1 22 rfl rfl)
theorem dX2_dangers_46 : decode cX2_dangers 46 = .ok (.irem, 1) := dk_112 (dk_at dksX2_dangers_1 23 rfl rfl)
theorem dX2_dangers_47 : decode cX2_dangers 47 = .ok (.istore 5, 2) := dk_54 5 (dk_at dksX2_dangers_2 0 rfl rfl)
theorem dX2_dangers_49 : decode cX2_dangers 49 = .ok (.iload 4, 2) := dk_21 4 (dk_at dksX2_dangers_2 2 rfl rfl)
theorem dX2_dangers_51 : decode cX2_dangers 51 = .ok (.aload_n 0, 1) := dk_42 (dk_at dksX2_dangers_2 4 rfl rfl)
theorem dX2_dangers_52 : decode cX2_dangers 52 = .ok (.getfield 66, 3) := dk_180 0 66 (dk_at dksX2_dangers_2 5 rfl rfl)
theorem dX2_dangers_55 : decode cX2_dangers 55 = .ok (.iconst 1, 1) := dk_4 (dk_at dksX2_dangers_2 8 rfl rfl)
theorem dX2_dangers_56 : decode cX2_dangers 56 = .ok (.iadd, 1) := dk_96 (dk_at dksX2_dangers_2 9 rfl rfl)
theorem dX2_dangers_57 : decode cX2_dangers 57 = .ok (.idiv, 1) := dk_108 (dk_at dksX2_dangers_2 10 rfl rfl)
theorem dX2_dangers_58 : decode cX2_dangers 58 = .ok (.aload_n 0, 1) := dk_42 (dk_at dksX2_dangers_2 11 rfl rfl)
theorem dX2_dangers_59 : decode cX2_dangers 59 = .ok (.getfield 75, 3) := dk_180 0 75 (dk_at dksX2_dangers_2 12 rfl rfl)
theorem dX2_dangers_62 : decode cX2_dangers 62 = .ok (.irem, 1) := dk_112 (dk_at dksX2_dangers_2 15 rfl rfl)
theorem dX2_dangers_63 : decode cX2_dangers 63 = .ok (.istore 6, 2) := dk_54 6 (dk_at dksX2_dangers_2 16 rfl rfl)
theorem dX2_dangers_65 : decode cX2_dangers 65 = .ok (.iload 4, 2) := dk_21 4 (dk_at dksX2_dangers_2 18 rfl rfl)
theorem dX2_dangers_67 : decode cX2_dangers 67 = .ok (.aload_n 0, 1) := dk_42 (dk_at dksX2_dangers_2 20 rfl rfl)
theorem dX2_dangers_68 : decode cX2_dangers 68 = .ok (.getfield 66, 3) := dk_180 0 66 (dk_at dksX2_dangers_2 21 rfl rfl)
theorem dX2_dangers_71 : decode cX2_dangers 71 = .ok (.iconst 1, 1) := dk_4 (dk_at dksX2_dangers_3 0 rfl rfl)
theorem dX2_dangers_72 : decode cX2_dangers 72 = .ok (.iadd, 1) := dk_96 (dk_at dksX2_dangers_3 1 rfl rfl)
theorem dX2_dangers_73 : decode cX2_dangers 73 = .ok (.idiv, 1) := dk_108 (dk_at dksX2_dangers_3 2 rfl rfl)
theorem dX2_dangers_74 : decode cX2_dangers 74 = .ok (.aload_n 0, 1) := dk_42 (dk_at dksX2_dangers_3 3 rfl rfl)
theorem dX2_dangers_75 : decode cX2_dangers 75 = .ok (.getfield 75, 3) := dk_180 0 75 (dk_at dksX2_dangers_3 4 rfl rfl)
theorem dX2_dangers_78 : decode cX2_dangers 78 = .ok (.idiv, 1) := dk_108 (dk_at dksX2_dangers_3 7 rfl rfl)
theorem dX2_dangers_79 : decode cX2_dangers 79 = .ok (.istore 7, 2) := dk_54 7 (dk_at dksX2_dangers_3 8 rfl rfl)
theorem dX2_dangers_81 : decode cX2_dangers 81 = .ok (.iload_n 3, 1) := dk_29 (dk_at dksX2_dangers_3 10 rfl rfl)
theorem dX2_dangers_82 : decode cX2_dangers 82 = .ok (.iload 5, 2) := dk_21 5 (dk_at dksX2_dangers_3 11 rfl rfl)
theorem dX2_dangers_84 : decode cX2_dangers 84 = .ok (.iload_n 1, 1) := dk_27 (dk_at dksX2_dangers_3 13 rfl rfl)
theorem dX2_dangers_85 : decode cX2_dangers 85 = .ok (.if_icmp .eq 41, 3) := dk_159 0 41 (dk_at dksX2_dangers_3 14 rfl rfl)
theorem dX2_dangers_88 : decode cX2_dangers 88 = .ok (.iload 7, 2) := dk_21 7 (dk_at dksX2_dangers_3 17 rfl rfl)
theorem dX2_dangers_90 : decode cX2_dangers 90 = .ok (.iload 6, 2) := dk_21 6 (dk_at dksX2_dangers_3 19 rfl rfl)
theorem dX2_dangers_92 : decode cX2_dangers 92 = .ok (.aload_n 0, 1) := dk_42 (dk_at dksX2_dangers_3 21 rfl rfl)
theorem dX2_dangers_93 : decode cX2_dangers 93 = .ok (.getfield 23, 3) := dk_180 0 23 (dk_at dksX2_dangers_4 0 rfl rfl)
theorem dX2_dangers_96 : decode cX2_dangers 96 = .ok (.iconst 0, 1) := dk_3 (dk_at dksX2_dangers_4 3 rfl rfl)
theorem dX2_dangers_97 : decode cX2_dangers 97 = .ok (.iaload, 1) := dk_46 (dk_at dksX2_dangers_4 4 rfl rfl)
theorem dX2_dangers_98 : decode cX2_dangers 98 = .ok (.imul, 1) := dk_104 (dk_at dksX2_dangers_4 5 rfl rfl)
theorem dX2_dangers_99 : decode cX2_dangers 99 = .ok (.iadd, 1) := dk_96 (dk_at dksX2_dangers_4 6 rfl rfl)
theorem dX2_dangers_100 : decode cX2_dangers 100 = .ok (.aload_n 0, 1) := dk_42 (dk_at dksX2_dangers_4 7 rfl rfl)
theorem dX2_dangers_101 : decode cX2_dangers 101 = .ok (.getfield 75, 3) := dk_180 0 75 (dk_at dksX2_dangers_4 8 rfl rfl)
theorem dX2_dangers_104 : decode cX2_dangers 104 = .ok (.irem, 1) := dk_112 (dk_at dksX2_dangers_4 11 rfl rfl)
theorem dX2_dangers_105 : decode cX2_dangers 105 = .ok (.iload_n 2, 1) := dk_28 (dk_at dksX2_dangers_4 12 rfl rfl)
theorem dX2_dangers_106 : decode cX2_dangers 106 = .ok (.if_icmp .ne 20, 3) := dk_160 0 20 (dk_at dksX2_dangers_4 13 rfl rfl)
theorem dX2_dangers_109 : decode cX2_dangers 109 = .ok (.aload_n 0, 1) := dk_42 (dk_at dksX2_dangers_4 16 rfl rfl)
theorem dX2_dangers_110 : decode cX2_dangers 110 = .ok (.iload 7, 2) := dk_21 7 (dk_at dksX2_dangers_4 17 rfl rfl)
theorem dX2_dangers_112 : decode cX2_dangers 112 = .ok (.iload 6, 2) := dk_21 6 (dk_at dksX2_dangers_4 19 rfl rfl)
theorem dX2_dangers_114 : decode cX2_dangers 114 = .ok (.iload 5, 2) := dk_21 5 (dk_at dksX2_dangers_4 21 rfl rfl)
theorem dX2_dangers_116 : decode cX2_dangers 116 = .ok (.invokevirtual 252, 3) := dk_182 0 252 (dk_at dksX2_dangers_5 0 rfl rfl)
theorem dX2_dangers_119 : decode cX2_dangers 119 = .ok (.ifCond .eq 7, 3) := dk_153 0 7 (dk_at dksX2_dangers_5 3 rfl rfl)
theorem dX2_dangers_122 : decode cX2_dangers 122 = .ok (.iconst 1, 1) := dk_4 (dk_at dksX2_dangers_5 6 rfl rfl)
theorem dX2_dangers_123 : decode cX2_dangers 123 = .ok (.goto 4, 3) := dk_167 0 4 (dk_at dksX2_dangers_5 7 rfl rfl)
theorem dX2_dangers_126 : decode cX2_dangers 126 = .ok (.iconst 0, 1) := dk_3 (dk_at dksX2_dangers_5 10 rfl rfl)
theorem dX2_dangers_127 : decode cX2_dangers 127 = .ok (.iadd, 1) := dk_96 (dk_at dksX2_dangers_5 11 rfl rfl)
theorem dX2_dangers_128 : decode cX2_dangers 128 = .ok (.istore_n 3, 1) := dk_62 (dk_at dksX2_dangers_5 12 rfl rfl)
theorem dX2_dangers_129 : decode cX2_dangers 129 = .ok (.iinc 4 1, 3) := dk_132 4 1 (dk_at dksX2_dangers_5 13 rfl rfl)
theorem dX2_dangers_132 : decode cX2_dangers 132 = .ok (.goto (-127), 3) := dk_167 255 129 (dk_at dksX2_dangers_5 16 rfl rfl)
theorem dX2_dangers_135 : decode cX2_dangers 135 = .ok (.iload_n 3, 1) := dk_29 (dk_at dksX2_dangers_5 19 rfl rfl)
theorem dX2_dangers_136 : decode cX2_dangers 136 = .ok (.ireturn, 1) := dk_172 (dk_at dksX2_dangers_5 20 rfl rfl)
abbrev cX2_quests : ByteArray := prog_17_method_68_code
def yX2_quests : MethodName := ⟨RX2, "quests", "(IIIII)J"⟩
def dkwX2_quests_10 : List UInt8 := [55, 12, 167, 255, 234, 21, 5, 154, 0, 8, 22, 6, 167, 0, 5, 22, 8, 22, 10, 109, 173]
abbrev dktX2_quests_10 : List UInt8 := dkwX2_quests_10 ++ []
def dkwX2_quests_9 : List UInt8 := [22, 8, 55, 12, 22, 12, 9, 148, 158, 0, 21, 22, 10, 22, 12, 113, 55, 14, 22, 12, 55, 10, 22, 14]
abbrev dktX2_quests_9 : List UInt8 := dkwX2_quests_9 ++ dktX2_quests_10
def dkwX2_quests_8 : List UInt8 := [21, 10, 29, 162, 0, 17, 22, 8, 20, 1, 6, 105, 55, 8, 132, 10, 1, 167, 255, 239, 22, 6, 55, 10]
abbrev dktX2_quests_8 : List UInt8 := dkwX2_quests_8 ++ dktX2_quests_9
def dkwX2_quests_7 : List UInt8 := [182, 0, 186, 153, 0, 8, 22, 12, 167, 0, 4, 9, 97, 55, 6, 132, 10, 1, 167, 255, 137, 3, 54, 10]
abbrev dktX2_quests_7 : List UInt8 := dkwX2_quests_7 ++ dktX2_quests_8
def dkwX2_quests_6 : List UInt8 := [167, 0, 14, 42, 180, 0, 23, 5, 27, 96, 46, 21, 11, 96, 54, 14, 22, 6, 42, 27, 28, 21, 14]
abbrev dktX2_quests_6 : List UInt8 := dkwX2_quests_6 ++ dktX2_quests_7
def dkwX2_quests_5 : List UInt8 := [132, 14, 1, 167, 255, 220, 42, 180, 0, 23, 5, 27, 96, 46, 21, 11, 96, 16, 9, 164, 0, 8, 16, 9]
abbrev dktX2_quests_5 : List UInt8 := dkwX2_quests_5 ++ dktX2_quests_6
def dkwX2_quests_4 : List UInt8 := [21, 14, 184, 0, 86, 153, 0, 9, 21, 4, 133, 167, 0, 9, 16, 10, 21, 4, 100, 133, 105, 55, 12]
abbrev dktX2_quests_4 : List UInt8 := dkwX2_quests_4 ++ dktX2_quests_5
def dkwX2_quests_3 : List UInt8 := [21, 10, 184, 0, 210, 54, 11, 10, 55, 12, 3, 54, 14, 21, 14, 29, 162, 0, 36, 22, 12, 21, 10]
abbrev dktX2_quests_3 : List UInt8 := dkwX2_quests_3 ++ dktX2_quests_4
def dkwX2_quests_2 : List UInt8 := [154, 0, 7, 20, 1, 4, 173, 9, 55, 6, 10, 55, 8, 3, 54, 10, 21, 10, 4, 29, 120, 162, 0, 117]
abbrev dktX2_quests_2 : List UInt8 := dkwX2_quests_2 ++ dktX2_quests_3
def dkwX2_quests_1 : List UInt8 := [184, 0, 78, 153, 0, 24, 21, 4, 3, 16, 10, 184, 0, 78, 153, 0, 13, 21, 5, 3, 4, 184, 0, 78]
abbrev dktX2_quests_1 : List UInt8 := dkwX2_quests_1 ++ dktX2_quests_2
def dkwX2_quests_0 : List UInt8 := [42, 27, 182, 0, 82, 153, 0, 11, 42, 28, 182, 0, 195, 154, 0, 7, 20, 1, 2, 173, 29, 3, 16, 8]
abbrev dktX2_quests_0 : List UInt8 := dkwX2_quests_0 ++ dktX2_quests_1
theorem dksX2_quests_0 : cX2_quests.data.toList.drop 0 = dktX2_quests_0 := by decide +kernel
theorem dksX2_quests_1 : cX2_quests.data.toList.drop 24 = dktX2_quests_1 := dk_seg dksX2_quests_0 24 rfl rfl
theorem dksX2_quests_2 : cX2_quests.data.toList.drop 48 = dktX2_quests_2 := dk_seg dksX2_quests_1 24 rfl rfl
theorem dksX2_quests_3 : cX2_quests.data.toList.drop 72 = dktX2_quests_3 := dk_seg dksX2_quests_2 24 rfl rfl
theorem dksX2_quests_4 : cX2_quests.data.toList.drop 95 = dktX2_quests_4 := dk_seg dksX2_quests_3 23 rfl rfl
theorem dksX2_quests_5 : cX2_quests.data.toList.drop 118 = dktX2_quests_5 := dk_seg dksX2_quests_4 23 rfl rfl
theorem dksX2_quests_6 : cX2_quests.data.toList.drop 142 = dktX2_quests_6 := dk_seg dksX2_quests_5 24 rfl rfl
theorem dksX2_quests_7 : cX2_quests.data.toList.drop 165 = dktX2_quests_7 := dk_seg dksX2_quests_6 23 rfl rfl
theorem dksX2_quests_8 : cX2_quests.data.toList.drop 189 = dktX2_quests_8 := dk_seg dksX2_quests_7 24 rfl rfl
theorem dksX2_quests_9 : cX2_quests.data.toList.drop 213 = dktX2_quests_9 := dk_seg dksX2_quests_8 24 rfl rfl
theorem dksX2_quests_10 : cX2_quests.data.toList.drop 237 = dktX2_quests_10 := dk_seg dksX2_quests_9 24 rfl rfl
theorem dX2_quests_0 : decode cX2_quests 0 = .ok (.aload_n 0, 1) := dk_42 (dk_at dksX2_quests_0 0 rfl rfl)
theorem dX2_quests_1 : decode cX2_quests 1 = .ok (.iload_n 1, 1) := dk_27 (dk_at dksX2_quests_0 1 rfl rfl)
theorem dX2_quests_2 : decode cX2_quests 2 = .ok (.invokevirtual 82, 3) := dk_182 0 82 (dk_at dksX2_quests_0 2 rfl rfl)
theorem dX2_quests_5 : decode cX2_quests 5 = .ok (.ifCond .eq 11, 3) := dk_153 0 11 (dk_at dksX2_quests_0 5 rfl rfl)
theorem dX2_quests_8 : decode cX2_quests 8 = .ok (.aload_n 0, 1) := dk_42 (dk_at dksX2_quests_0 8 rfl rfl)
theorem dX2_quests_9 : decode cX2_quests 9 = .ok (.iload_n 2, 1) := dk_28 (dk_at dksX2_quests_0 9 rfl rfl)
theorem dX2_quests_10 : decode cX2_quests 10 = .ok (.invokevirtual 195, 3) := dk_182 0 195 (dk_at dksX2_quests_0 10 rfl rfl)
theorem dX2_quests_13 : decode cX2_quests 13 = .ok (.ifCond .ne 7, 3) := dk_154 0 7 (dk_at dksX2_quests_0 13 rfl rfl)
theorem dX2_quests_16 : decode cX2_quests 16 = .ok (.ldc2_w 258, 3) := dk_20 1 2 (dk_at dksX2_quests_0 16 rfl rfl)
theorem dX2_quests_19 : decode cX2_quests 19 = .ok (.lreturn, 1) := dk_173 (dk_at dksX2_quests_0 19 rfl rfl)
theorem dX2_quests_20 : decode cX2_quests 20 = .ok (.iload_n 3, 1) := dk_29 (dk_at dksX2_quests_0 20 rfl rfl)
theorem dX2_quests_21 : decode cX2_quests 21 = .ok (.iconst 0, 1) := dk_3 (dk_at dksX2_quests_0 21 rfl rfl)
theorem dX2_quests_22 : decode cX2_quests 22 = .ok (.bipush 8, 2) := dk_16 8 (dk_at dksX2_quests_0 22 rfl rfl)
theorem dX2_quests_24 : decode cX2_quests 24 = .ok (.invokestatic 78, 3) := dk_184 0 78 (dk_at dksX2_quests_1 0 rfl rfl)
theorem dX2_quests_27 : decode cX2_quests 27 = .ok (.ifCond .eq 24, 3) := dk_153 0 24 (dk_at dksX2_quests_1 3 rfl rfl)
theorem dX2_quests_30 : decode cX2_quests 30 = .ok (.iload 4, 2) := dk_21 4 (dk_at dksX2_quests_1 6 rfl rfl)
theorem dX2_quests_32 : decode cX2_quests 32 = .ok (.iconst 0, 1) := dk_3 (dk_at dksX2_quests_1 8 rfl rfl)
theorem dX2_quests_33 : decode cX2_quests 33 = .ok (.bipush 10, 2) := dk_16 10 (dk_at dksX2_quests_1 9 rfl rfl)
theorem dX2_quests_35 : decode cX2_quests 35 = .ok (.invokestatic 78, 3) := dk_184 0 78 (dk_at dksX2_quests_1 11 rfl rfl)
theorem dX2_quests_38 : decode cX2_quests 38 = .ok (.ifCond .eq 13, 3) := dk_153 0 13 (dk_at dksX2_quests_1 14 rfl rfl)
theorem dX2_quests_41 : decode cX2_quests 41 = .ok (.iload 5, 2) := dk_21 5 (dk_at dksX2_quests_1 17 rfl rfl)
theorem dX2_quests_43 : decode cX2_quests 43 = .ok (.iconst 0, 1) := dk_3 (dk_at dksX2_quests_1 19 rfl rfl)
theorem dX2_quests_44 : decode cX2_quests 44 = .ok (.iconst 1, 1) := dk_4 (dk_at dksX2_quests_1 20 rfl rfl)
theorem dX2_quests_45 : decode cX2_quests 45 = .ok (.invokestatic 78, 3) := dk_184 0 78 (dk_at dksX2_quests_1 21 rfl rfl)
theorem dX2_quests_48 : decode cX2_quests 48 = .ok (.ifCond .ne 7, 3) := dk_154 0 7 (dk_at dksX2_quests_2 0 rfl rfl)
theorem dX2_quests_51 : decode cX2_quests 51 = .ok (.ldc2_w 260, 3) := dk_20 1 4 (dk_at dksX2_quests_2 3 rfl rfl)
theorem dX2_quests_54 : decode cX2_quests 54 = .ok (.lreturn, 1) := dk_173 (dk_at dksX2_quests_2 6 rfl rfl)
theorem dX2_quests_55 : decode cX2_quests 55 = .ok (.lconst 0, 1) := dk_9 (dk_at dksX2_quests_2 7 rfl rfl)
theorem dX2_quests_56 : decode cX2_quests 56 = .ok (.lstore 6, 2) := dk_55 6 (dk_at dksX2_quests_2 8 rfl rfl)
theorem dX2_quests_58 : decode cX2_quests 58 = .ok (.lconst 1, 1) := dk_10 (dk_at dksX2_quests_2 10 rfl rfl)
theorem dX2_quests_59 : decode cX2_quests 59 = .ok (.lstore 8, 2) := dk_55 8 (dk_at dksX2_quests_2 11 rfl rfl)
theorem dX2_quests_61 : decode cX2_quests 61 = .ok (.iconst 0, 1) := dk_3 (dk_at dksX2_quests_2 13 rfl rfl)
theorem dX2_quests_62 : decode cX2_quests 62 = .ok (.istore 10, 2) := dk_54 10 (dk_at dksX2_quests_2 14 rfl rfl)
theorem dX2_quests_64 : decode cX2_quests 64 = .ok (.iload 10, 2) := dk_21 10 (dk_at dksX2_quests_2 16 rfl rfl)
theorem dX2_quests_66 : decode cX2_quests 66 = .ok (.iconst 1, 1) := dk_4 (dk_at dksX2_quests_2 18 rfl rfl)
theorem dX2_quests_67 : decode cX2_quests 67 = .ok (.iload_n 3, 1) := dk_29 (dk_at dksX2_quests_2 19 rfl rfl)
theorem dX2_quests_68 : decode cX2_quests 68 = .ok (.ishl, 1) := dk_120 (dk_at dksX2_quests_2 20 rfl rfl)
theorem dX2_quests_69 : decode cX2_quests 69 = .ok (.if_icmp .ge 117, 3) := dk_162 0 117 (dk_at dksX2_quests_2 21 rfl rfl)
theorem dX2_quests_72 : decode cX2_quests 72 = .ok (.iload 10, 2) := dk_21 10 (dk_at dksX2_quests_3 0 rfl rfl)
theorem dX2_quests_74 : decode cX2_quests 74 = .ok (.invokestatic 210, 3) := dk_184 0 210 (dk_at dksX2_quests_3 2 rfl rfl)
theorem dX2_quests_77 : decode cX2_quests 77 = .ok (.istore 11, 2) := dk_54 11 (dk_at dksX2_quests_3 5 rfl rfl)
theorem dX2_quests_79 : decode cX2_quests 79 = .ok (.lconst 1, 1) := dk_10 (dk_at dksX2_quests_3 7 rfl rfl)
theorem dX2_quests_80 : decode cX2_quests 80 = .ok (.lstore 12, 2) := dk_55 12 (dk_at dksX2_quests_3 8 rfl rfl)
theorem dX2_quests_82 : decode cX2_quests 82 = .ok (.iconst 0, 1) := dk_3 (dk_at dksX2_quests_3 10 rfl rfl)
theorem dX2_quests_83 : decode cX2_quests 83 = .ok (.istore 14, 2) := dk_54 14 (dk_at dksX2_quests_3 11 rfl rfl)
theorem dX2_quests_85 : decode cX2_quests 85 = .ok (.iload 14, 2) := dk_21 14 (dk_at dksX2_quests_3 13 rfl rfl)
theorem dX2_quests_87 : decode cX2_quests 87 = .ok (.iload_n 3, 1) := dk_29 (dk_at dksX2_quests_3 15 rfl rfl)
theorem dX2_quests_88 : decode cX2_quests 88 = .ok (.if_icmp .ge 36, 3) := dk_162 0 36 (dk_at dksX2_quests_3 16 rfl rfl)
theorem dX2_quests_91 : decode cX2_quests 91 = .ok (.lload 12, 2) := dk_22 12 (dk_at dksX2_quests_3 19 rfl rfl)
theorem dX2_quests_93 : decode cX2_quests 93 = .ok (.iload 10, 2) := dk_21 10 (dk_at dksX2_quests_3 21 rfl rfl)
theorem dX2_quests_95 : decode cX2_quests 95 = .ok (.iload 14, 2) := dk_21 14 (dk_at dksX2_quests_4 0 rfl rfl)
theorem dX2_quests_97 : decode cX2_quests 97 = .ok (.invokestatic 86, 3) := dk_184 0 86 (dk_at dksX2_quests_4 2 rfl rfl)
theorem dX2_quests_100 : decode cX2_quests 100 = .ok (.ifCond .eq 9, 3) := dk_153 0 9 (dk_at dksX2_quests_4 5 rfl rfl)
theorem dX2_quests_103 : decode cX2_quests 103 = .ok (.iload 4, 2) := dk_21 4 (dk_at dksX2_quests_4 8 rfl rfl)
theorem dX2_quests_105 : decode cX2_quests 105 = .ok (.i2l, 1) := dk_133 (dk_at dksX2_quests_4 10 rfl rfl)
theorem dX2_quests_106 : decode cX2_quests 106 = .ok (.goto 9, 3) := dk_167 0 9 (dk_at dksX2_quests_4 11 rfl rfl)
theorem dX2_quests_109 : decode cX2_quests 109 = .ok (.bipush 10, 2) := dk_16 10 (dk_at dksX2_quests_4 14 rfl rfl)
theorem dX2_quests_111 : decode cX2_quests 111 = .ok (.iload 4, 2) := dk_21 4 (dk_at dksX2_quests_4 16 rfl rfl)
theorem dX2_quests_113 : decode cX2_quests 113 = .ok (.isub, 1) := dk_100 (dk_at dksX2_quests_4 18 rfl rfl)
theorem dX2_quests_114 : decode cX2_quests 114 = .ok (.i2l, 1) := dk_133 (dk_at dksX2_quests_4 19 rfl rfl)
theorem dX2_quests_115 : decode cX2_quests 115 = .ok (.lmul, 1) := dk_105 (dk_at dksX2_quests_4 20 rfl rfl)
theorem dX2_quests_116 : decode cX2_quests 116 = .ok (.lstore 12, 2) := dk_55 12 (dk_at dksX2_quests_4 21 rfl rfl)
theorem dX2_quests_118 : decode cX2_quests 118 = .ok (.iinc 14 1, 3) := dk_132 14 1 (dk_at dksX2_quests_5 0 rfl rfl)
theorem dX2_quests_121 : decode cX2_quests 121 = .ok (.goto (-36), 3) := dk_167 255 220 (dk_at dksX2_quests_5 3 rfl rfl)
theorem dX2_quests_124 : decode cX2_quests 124 = .ok (.aload_n 0, 1) := dk_42 (dk_at dksX2_quests_5 6 rfl rfl)
theorem dX2_quests_125 : decode cX2_quests 125 = .ok (.getfield 23, 3) := dk_180 0 23 (dk_at dksX2_quests_5 7 rfl rfl)
theorem dX2_quests_128 : decode cX2_quests 128 = .ok (.iconst 2, 1) := dk_5 (dk_at dksX2_quests_5 10 rfl rfl)
theorem dX2_quests_129 : decode cX2_quests 129 = .ok (.iload_n 1, 1) := dk_27 (dk_at dksX2_quests_5 11 rfl rfl)
theorem dX2_quests_130 : decode cX2_quests 130 = .ok (.iadd, 1) := dk_96 (dk_at dksX2_quests_5 12 rfl rfl)
theorem dX2_quests_131 : decode cX2_quests 131 = .ok (.iaload, 1) := dk_46 (dk_at dksX2_quests_5 13 rfl rfl)
theorem dX2_quests_132 : decode cX2_quests 132 = .ok (.iload 11, 2) := dk_21 11 (dk_at dksX2_quests_5 14 rfl rfl)
theorem dX2_quests_134 : decode cX2_quests 134 = .ok (.iadd, 1) := dk_96 (dk_at dksX2_quests_5 16 rfl rfl)
theorem dX2_quests_135 : decode cX2_quests 135 = .ok (.bipush 9, 2) := dk_16 9 (dk_at dksX2_quests_5 17 rfl rfl)
theorem dX2_quests_137 : decode cX2_quests 137 = .ok (.if_icmp .le 8, 3) := dk_164 0 8 (dk_at dksX2_quests_5 19 rfl rfl)
theorem dX2_quests_140 : decode cX2_quests 140 = .ok (.bipush 9, 2) := dk_16 9 (dk_at dksX2_quests_5 22 rfl rfl)
theorem dX2_quests_142 : decode cX2_quests 142 = .ok (.goto 14, 3) := dk_167 0 14 (dk_at dksX2_quests_6 0 rfl rfl)
theorem dX2_quests_145 : decode cX2_quests 145 = .ok (.aload_n 0, 1) := dk_42 (dk_at dksX2_quests_6 3 rfl rfl)
theorem dX2_quests_146 : decode cX2_quests 146 = .ok (.getfield 23, 3) := dk_180 0 23 (dk_at dksX2_quests_6 4 rfl rfl)
theorem dX2_quests_149 : decode cX2_quests 149 = .ok (.iconst 2, 1) := dk_5 (dk_at dksX2_quests_6 7 rfl rfl)
theorem dX2_quests_150 : decode cX2_quests 150 = .ok (.iload_n 1, 1) := dk_27 (dk_at dksX2_quests_6 8 rfl rfl)
theorem dX2_quests_151 : decode cX2_quests 151 = .ok (.iadd, 1) := dk_96 (dk_at dksX2_quests_6 9 rfl rfl)
theorem dX2_quests_152 : decode cX2_quests 152 = .ok (.iaload, 1) := dk_46 (dk_at dksX2_quests_6 10 rfl rfl)
theorem dX2_quests_153 : decode cX2_quests 153 = .ok (.iload 11, 2) := dk_21 11 (dk_at dksX2_quests_6 11 rfl rfl)
theorem dX2_quests_155 : decode cX2_quests 155 = .ok (.iadd, 1) := dk_96 (dk_at dksX2_quests_6 13 rfl rfl)
theorem dX2_quests_156 : decode cX2_quests 156 = .ok (.istore 14, 2) := dk_54 14 (dk_at dksX2_quests_6 14 rfl rfl)
theorem dX2_quests_158 : decode cX2_quests 158 = .ok (.lload 6, 2) := dk_22 6 (dk_at dksX2_quests_6 16 rfl rfl)
theorem dX2_quests_160 : decode cX2_quests 160 = .ok (.aload_n 0, 1) := dk_42 (dk_at dksX2_quests_6 18 rfl rfl)
theorem dX2_quests_161 : decode cX2_quests 161 = .ok (.iload_n 1, 1) := dk_27 (dk_at dksX2_quests_6 19 rfl rfl)
theorem dX2_quests_162 : decode cX2_quests 162 = .ok (.iload_n 2, 1) := dk_28 (dk_at dksX2_quests_6 20 rfl rfl)
theorem dX2_quests_163 : decode cX2_quests 163 = .ok (.iload 14, 2) := dk_21 14 (dk_at dksX2_quests_6 21 rfl rfl)
theorem dX2_quests_165 : decode cX2_quests 165 = .ok (.invokevirtual 186, 3) := dk_182 0 186 (dk_at dksX2_quests_7 0 rfl rfl)
theorem dX2_quests_168 : decode cX2_quests 168 = .ok (.ifCond .eq 8, 3) := dk_153 0 8 (dk_at dksX2_quests_7 3 rfl rfl)
theorem dX2_quests_171 : decode cX2_quests 171 = .ok (.lload 12, 2) := dk_22 12 (dk_at dksX2_quests_7 6 rfl rfl)
theorem dX2_quests_173 : decode cX2_quests 173 = .ok (.goto 4, 3) := dk_167 0 4 (dk_at dksX2_quests_7 8 rfl rfl)
theorem dX2_quests_176 : decode cX2_quests 176 = .ok (.lconst 0, 1) := dk_9 (dk_at dksX2_quests_7 11 rfl rfl)
theorem dX2_quests_177 : decode cX2_quests 177 = .ok (.ladd, 1) := dk_97 (dk_at dksX2_quests_7 12 rfl rfl)
theorem dX2_quests_178 : decode cX2_quests 178 = .ok (.lstore 6, 2) := dk_55 6 (dk_at dksX2_quests_7 13 rfl rfl)
theorem dX2_quests_180 : decode cX2_quests 180 = .ok (.iinc 10 1, 3) := dk_132 10 1 (dk_at dksX2_quests_7 15 rfl rfl)
theorem dX2_quests_183 : decode cX2_quests 183 = .ok (.goto (-119), 3) := dk_167 255 137 (dk_at dksX2_quests_7 18 rfl rfl)
theorem dX2_quests_186 : decode cX2_quests 186 = .ok (.iconst 0, 1) := dk_3 (dk_at dksX2_quests_7 21 rfl rfl)
theorem dX2_quests_187 : decode cX2_quests 187 = .ok (.istore 10, 2) := dk_54 10 (dk_at dksX2_quests_7 22 rfl rfl)
theorem dX2_quests_189 : decode cX2_quests 189 = .ok (.iload 10, 2) := dk_21 10 (dk_at dksX2_quests_8 0 rfl rfl)
theorem dX2_quests_191 : decode cX2_quests 191 = .ok (.iload_n 3, 1) := dk_29 (dk_at dksX2_quests_8 2 rfl rfl)
theorem dX2_quests_192 : decode cX2_quests 192 = .ok (.if_icmp .ge 17, 3) := dk_162 0 17 (dk_at dksX2_quests_8 3 rfl rfl)
theorem dX2_quests_195 : decode cX2_quests 195 = .ok (.lload 8, 2) := dk_22 8 (dk_at dksX2_quests_8 6 rfl rfl)
theorem dX2_quests_197 : decode cX2_quests 197 = .ok (.ldc2_w 262, 3) := dk_20 1 6 (dk_at dksX2_quests_8 8 rfl rfl)
theorem dX2_quests_200 : decode cX2_quests 200 = .ok (.lmul, 1) := dk_105 (dk_at dksX2_quests_8 11 rfl rfl)
theorem dX2_quests_201 : decode cX2_quests 201 = .ok (.lstore 8, 2) := dk_55 8 (dk_at dksX2_quests_8 12 rfl rfl)
theorem dX2_quests_203 : decode cX2_quests 203 = .ok (.iinc 10 1, 3) := dk_132 10 1 (dk_at dksX2_quests_8 14 rfl rfl)
theorem dX2_quests_206 : decode cX2_quests 206 = .ok (.goto (-17), 3) := dk_167 255 239 (dk_at dksX2_quests_8 17 rfl rfl)
theorem dX2_quests_209 : decode cX2_quests 209 = .ok (.lload 6, 2) := dk_22 6 (dk_at dksX2_quests_8 20 rfl rfl)
theorem dX2_quests_211 : decode cX2_quests 211 = .ok (.lstore 10, 2) := dk_55 10 (dk_at dksX2_quests_8 22 rfl rfl)
theorem dX2_quests_213 : decode cX2_quests 213 = .ok (.lload 8, 2) := dk_22 8 (dk_at dksX2_quests_9 0 rfl rfl)
theorem dX2_quests_215 : decode cX2_quests 215 = .ok (.lstore 12, 2) := dk_55 12 (dk_at dksX2_quests_9 2 rfl rfl)
theorem dX2_quests_217 : decode cX2_quests 217 = .ok (.lload 12, 2) := dk_22 12 (dk_at dksX2_quests_9 4 rfl rfl)
theorem dX2_quests_219 : decode cX2_quests 219 = .ok (.lconst 0, 1) := dk_9 (dk_at dksX2_quests_9 6 rfl rfl)
theorem dX2_quests_220 : decode cX2_quests 220 = .ok (.lcmp, 1) := dk_148 (dk_at dksX2_quests_9 7 rfl rfl)
theorem dX2_quests_221 : decode cX2_quests 221 = .ok (.ifCond .le 21, 3) := dk_158 0 21 (dk_at dksX2_quests_9 8 rfl rfl)
theorem dX2_quests_224 : decode cX2_quests 224 = .ok (.lload 10, 2) := dk_22 10 (dk_at dksX2_quests_9 11 rfl rfl)
theorem dX2_quests_226 : decode cX2_quests 226 = .ok (.lload 12, 2) := dk_22 12 (dk_at dksX2_quests_9 13 rfl rfl)
theorem dX2_quests_228 : decode cX2_quests 228 = .ok (.lrem, 1) := dk_113 (dk_at dksX2_quests_9 15 rfl rfl)
theorem dX2_quests_229 : decode cX2_quests 229 = .ok (.lstore 14, 2) := dk_55 14 (dk_at dksX2_quests_9 16 rfl rfl)
theorem dX2_quests_231 : decode cX2_quests 231 = .ok (.lload 12, 2) := dk_22 12 (dk_at dksX2_quests_9 18 rfl rfl)
theorem dX2_quests_233 : decode cX2_quests 233 = .ok (.lstore 10, 2) := dk_55 10 (dk_at dksX2_quests_9 20 rfl rfl)
theorem dX2_quests_235 : decode cX2_quests 235 = .ok (.lload 14, 2) := dk_22 14 (dk_at dksX2_quests_9 22 rfl rfl)
theorem dX2_quests_237 : decode cX2_quests 237 = .ok (.lstore 12, 2) := dk_55 12 (dk_at dksX2_quests_10 0 rfl rfl)
theorem dX2_quests_239 : decode cX2_quests 239 = .ok (.goto (-22), 3) := dk_167 255 234 (dk_at dksX2_quests_10 2 rfl rfl)
theorem dX2_quests_242 : decode cX2_quests 242 = .ok (.iload 5, 2) := dk_21 5 (dk_at dksX2_quests_10 5 rfl rfl)
theorem dX2_quests_244 : decode cX2_quests 244 = .ok (.ifCond .ne 8, 3) := dk_154 0 8 (dk_at dksX2_quests_10 7 rfl rfl)
theorem dX2_quests_247 : decode cX2_quests 247 = .ok (.lload 6, 2) := dk_22 6 (dk_at dksX2_quests_10 10 rfl rfl)
theorem dX2_quests_249 : decode cX2_quests 249 = .ok (.goto 5, 3) := dk_167 0 5 (dk_at dksX2_quests_10 12 rfl rfl)
theorem dX2_quests_252 : decode cX2_quests 252 = .ok (.lload 8, 2) := dk_22 8 (dk_at dksX2_quests_10 15 rfl rfl)
theorem dX2_quests_254 : decode cX2_quests 254 = .ok (.lload 10, 2) := dk_22 10 (dk_at dksX2_quests_10 17 rfl rfl)
theorem dX2_quests_256 : decode cX2_quests 256 = .ok (.ldiv, 1) := dk_109 (dk_at dksX2_quests_10 19 rfl rfl)
theorem dX2_quests_257 : decode cX2_quests 257 = .ok (.lreturn, 1) := dk_173 (dk_at dksX2_quests_10 20 rfl rfl)
abbrev cX2_lent : ByteArray := prog_17_method_69_code
def yX2_lent : MethodName := ⟨RX2, "lent", "(I)I"⟩
def dkwX2_lent_1 : List UInt8 := [181, 0, 57, 42, 3, 182, 0, 249, 42, 2, 181, 0, 57, 42, 180, 0, 231, 28, 100, 172]
abbrev dktX2_lent_1 : List UInt8 := dkwX2_lent_1 ++ []
def dkwX2_lent_0 : List UInt8 := [42, 27, 182, 0, 195, 154, 0, 6, 16, 254, 172, 42, 3, 182, 0, 249, 42, 180, 0, 231, 61, 42, 27]
abbrev dktX2_lent_0 : List UInt8 := dkwX2_lent_0 ++ dktX2_lent_1
theorem dksX2_lent_0 : cX2_lent.data.toList.drop 0 = dktX2_lent_0 := by decide +kernel
theorem dksX2_lent_1 : cX2_lent.data.toList.drop 23 = dktX2_lent_1 := dk_seg dksX2_lent_0 23 rfl rfl
theorem dX2_lent_0 : decode cX2_lent 0 = .ok (.aload_n 0, 1) := dk_42 (dk_at dksX2_lent_0 0 rfl rfl)
theorem dX2_lent_1 : decode cX2_lent 1 = .ok (.iload_n 1, 1) := dk_27 (dk_at dksX2_lent_0 1 rfl rfl)
theorem dX2_lent_2 : decode cX2_lent 2 = .ok (.invokevirtual 195, 3) := dk_182 0 195 (dk_at dksX2_lent_0 2 rfl rfl)
theorem dX2_lent_5 : decode cX2_lent 5 = .ok (.ifCond .ne 6, 3) := dk_154 0 6 (dk_at dksX2_lent_0 5 rfl rfl)
theorem dX2_lent_8 : decode cX2_lent 8 = .ok (.bipush (-2), 2) := dk_16 254 (dk_at dksX2_lent_0 8 rfl rfl)
theorem dX2_lent_10 : decode cX2_lent 10 = .ok (.ireturn, 1) := dk_172 (dk_at dksX2_lent_0 10 rfl rfl)
theorem dX2_lent_11 : decode cX2_lent 11 = .ok (.aload_n 0, 1) := dk_42 (dk_at dksX2_lent_0 11 rfl rfl)
theorem dX2_lent_12 : decode cX2_lent 12 = .ok (.iconst 0, 1) := dk_3 (dk_at dksX2_lent_0 12 rfl rfl)
theorem dX2_lent_13 : decode cX2_lent 13 = .ok (.invokevirtual 249, 3) := dk_182 0 249 (dk_at dksX2_lent_0 13 rfl rfl)
theorem dX2_lent_16 : decode cX2_lent 16 = .ok (.aload_n 0, 1) := dk_42 (dk_at dksX2_lent_0 16 rfl rfl)
theorem dX2_lent_17 : decode cX2_lent 17 = .ok (.getfield 231, 3) := dk_180 0 231 (dk_at dksX2_lent_0 17 rfl rfl)
theorem dX2_lent_20 : decode cX2_lent 20 = .ok (.istore_n 2, 1) := dk_61 (dk_at dksX2_lent_0 20 rfl rfl)
theorem dX2_lent_21 : decode cX2_lent 21 = .ok (.aload_n 0, 1) := dk_42 (dk_at dksX2_lent_0 21 rfl rfl)
theorem dX2_lent_22 : decode cX2_lent 22 = .ok (.iload_n 1, 1) := dk_27 (dk_at dksX2_lent_0 22 rfl rfl)
theorem dX2_lent_23 : decode cX2_lent 23 = .ok (.putfield 57, 3) := dk_181 0 57 (dk_at dksX2_lent_1 0 rfl rfl)
theorem dX2_lent_26 : decode cX2_lent 26 = .ok (.aload_n 0, 1) := dk_42 (dk_at dksX2_lent_1 3 rfl rfl)
theorem dX2_lent_27 : decode cX2_lent 27 = .ok (.iconst 0, 1) := dk_3 (dk_at dksX2_lent_1 4 rfl rfl)
theorem dX2_lent_28 : decode cX2_lent 28 = .ok (.invokevirtual 249, 3) := dk_182 0 249 (dk_at dksX2_lent_1 5 rfl rfl)
theorem dX2_lent_31 : decode cX2_lent 31 = .ok (.aload_n 0, 1) := dk_42 (dk_at dksX2_lent_1 8 rfl rfl)
theorem dX2_lent_32 : decode cX2_lent 32 = .ok (.iconst (-1), 1) := dk_2 (dk_at dksX2_lent_1 9 rfl rfl)
theorem dX2_lent_33 : decode cX2_lent 33 = .ok (.putfield 57, 3) := dk_181 0 57 (dk_at dksX2_lent_1 10 rfl rfl)
theorem dX2_lent_36 : decode cX2_lent 36 = .ok (.aload_n 0, 1) := dk_42 (dk_at dksX2_lent_1 13 rfl rfl)
theorem dX2_lent_37 : decode cX2_lent 37 = .ok (.getfield 231, 3) := dk_180 0 231 (dk_at dksX2_lent_1 14 rfl rfl)
theorem dX2_lent_40 : decode cX2_lent 40 = .ok (.iload_n 2, 1) := dk_28 (dk_at dksX2_lent_1 17 rfl rfl)
theorem dX2_lent_41 : decode cX2_lent 41 = .ok (.isub, 1) := dk_100 (dk_at dksX2_lent_1 18 rfl rfl)
theorem dX2_lent_42 : decode cX2_lent 42 = .ok (.ireturn, 1) := dk_172 (dk_at dksX2_lent_1 19 rfl rfl)
abbrev cX2_count : ByteArray := prog_17_method_70_code
def yX2_count : MethodName := ⟨RX2, "count", "(I)I"⟩
def dkwX2_count_5 : List UInt8 := [28, 5, 108, 172, 42, 180, 0, 69, 172, 42, 180, 0, 90, 172, 16, 253, 172]
abbrev dktX2_count_5 : List UInt8 := dkwX2_count_5 ++ []
def dkwX2_count_4 : List UInt8 := [180, 0, 66, 162, 0, 21, 28, 42, 180, 0, 16, 29, 46, 184, 0, 210, 96, 61, 132, 3, 1, 167, 255, 233]
abbrev dktX2_count_4 : List UInt8 := dkwX2_count_4 ++ dktX2_count_5
def dkwX2_count_3 : List UInt8 := [180, 0, 23, 4, 46, 172, 42, 182, 0, 207, 172, 42, 180, 0, 72, 172, 3, 61, 3, 62, 29, 42]
abbrev dktX2_count_3 : List UInt8 := dkwX2_count_3 ++ dktX2_count_4
def dkwX2_count_2 : List UInt8 := [42, 180, 0, 75, 172, 42, 180, 0, 66, 172, 42, 180, 0, 23, 3, 46, 172, 42, 182, 0, 192, 172, 42]
abbrev dktX2_count_2 : List UInt8 := dkwX2_count_2 ++ dktX2_count_3
def dkwX2_count_1 : List UInt8 := [170, 0, 0, 0, 0, 0, 138, 0, 0, 0, 0, 0, 0, 0, 9, 0, 0, 0, 55, 0, 0, 0, 60, 0, 0, 0, 65, 0, 0, 0, 72, 0, 0, 0, 77, 0, 0, 0, 84, 0, 0, 0, 89, 0, 0, 0, 94, 0, 0, 0, 128, 0, 0, 0, 133]
abbrev dktX2_count_1 : List UInt8 := dkwX2_count_1 ++ dktX2_count_2
def dkwX2_count_0 : List UInt8 := [27]
abbrev dktX2_count_0 : List UInt8 := dkwX2_count_0 ++ dktX2_count_1
theorem dksX2_count_0 : cX2_count.data.toList.drop 0 = dktX2_count_0 := by decide +kernel
theorem dksX2_count_1 : cX2_count.data.toList.drop 1 = dktX2_count_1 := dk_seg dksX2_count_0 1 rfl rfl
theorem dksX2_count_2 : cX2_count.data.toList.drop 56 = dktX2_count_2 := dk_seg dksX2_count_1 55 rfl rfl
theorem dksX2_count_3 : cX2_count.data.toList.drop 79 = dktX2_count_3 := dk_seg dksX2_count_2 23 rfl rfl
theorem dksX2_count_4 : cX2_count.data.toList.drop 101 = dktX2_count_4 := dk_seg dksX2_count_3 22 rfl rfl
theorem dksX2_count_5 : cX2_count.data.toList.drop 125 = dktX2_count_5 := dk_seg dksX2_count_4 24 rfl rfl
theorem dX2_count_0 : decode cX2_count 0 = .ok (.iload_n 1, 1) := dk_27 (dk_at dksX2_count_0 0 rfl rfl)
theorem dX2_count_1 : decode cX2_count 1 = .ok (.tableswitch 138 0 9 #[55, 60, 65, 72, 77, 84, 89, 94, 128, 133], 55) := by decide +kernel
theorem dX2_count_56 : decode cX2_count 56 = .ok (.aload_n 0, 1) := dk_42 (dk_at dksX2_count_2 0 rfl rfl)
theorem dX2_count_57 : decode cX2_count 57 = .ok (.getfield 75, 3) := dk_180 0 75 (dk_at dksX2_count_2 1 rfl rfl)
theorem dX2_count_60 : decode cX2_count 60 = .ok (.ireturn, 1) := dk_172 (dk_at dksX2_count_2 4 rfl rfl)
theorem dX2_count_61 : decode cX2_count 61 = .ok (.aload_n 0, 1) := dk_42 (dk_at dksX2_count_2 5 rfl rfl)
theorem dX2_count_62 : decode cX2_count 62 = .ok (.getfield 66, 3) := dk_180 0 66 (dk_at dksX2_count_2 6 rfl rfl)
theorem dX2_count_65 : decode cX2_count 65 = .ok (.ireturn, 1) := dk_172 (dk_at dksX2_count_2 9 rfl rfl)
theorem dX2_count_66 : decode cX2_count 66 = .ok (.aload_n 0, 1) := dk_42 (dk_at dksX2_count_2 10 rfl rfl)
theorem dX2_count_67 : decode cX2_count 67 = .ok (.getfield 23, 3) := dk_180 0 23 (dk_at dksX2_count_2 11 rfl rfl)
theorem dX2_count_70 : decode cX2_count 70 = .ok (.iconst 0, 1) := dk_3 (dk_at dksX2_count_2 14 rfl rfl)
theorem dX2_count_71 : decode cX2_count 71 = .ok (.iaload, 1) := dk_46 (dk_at dksX2_count_2 15 rfl rfl)
theorem dX2_count_72 : decode cX2_count 72 = .ok (.ireturn, 1) := dk_172 (dk_at dksX2_count_2 16 rfl rfl)
theorem dX2_count_73 : decode cX2_count 73 = .ok (.aload_n 0, 1) := dk_42 (dk_at dksX2_count_2 17 rfl rfl)
theorem dX2_count_74 : decode cX2_count 74 = .ok (.invokevirtual 192, 3) := dk_182 0 192 (dk_at dksX2_count_2 18 rfl rfl)
theorem dX2_count_77 : decode cX2_count 77 = .ok (.ireturn, 1) := dk_172 (dk_at dksX2_count_2 21 rfl rfl)
theorem dX2_count_78 : decode cX2_count 78 = .ok (.aload_n 0, 1) := dk_42 (dk_at dksX2_count_2 22 rfl rfl)
theorem dX2_count_79 : decode cX2_count 79 = .ok (.getfield 23, 3) := dk_180 0 23 (dk_at dksX2_count_3 0 rfl rfl)
theorem dX2_count_82 : decode cX2_count 82 = .ok (.iconst 1, 1) := dk_4 (dk_at dksX2_count_3 3 rfl rfl)
theorem dX2_count_83 : decode cX2_count 83 = .ok (.iaload, 1) := dk_46 (dk_at dksX2_count_3 4 rfl rfl)
theorem dX2_count_84 : decode cX2_count 84 = .ok (.ireturn, 1) := dk_172 (dk_at dksX2_count_3 5 rfl rfl)
theorem dX2_count_85 : decode cX2_count 85 = .ok (.aload_n 0, 1) := dk_42 (dk_at dksX2_count_3 6 rfl rfl)
theorem dX2_count_86 : decode cX2_count 86 = .ok (.invokevirtual 207, 3) := dk_182 0 207 (dk_at dksX2_count_3 7 rfl rfl)
theorem dX2_count_89 : decode cX2_count 89 = .ok (.ireturn, 1) := dk_172 (dk_at dksX2_count_3 10 rfl rfl)
theorem dX2_count_90 : decode cX2_count 90 = .ok (.aload_n 0, 1) := dk_42 (dk_at dksX2_count_3 11 rfl rfl)
theorem dX2_count_91 : decode cX2_count 91 = .ok (.getfield 72, 3) := dk_180 0 72 (dk_at dksX2_count_3 12 rfl rfl)
theorem dX2_count_94 : decode cX2_count 94 = .ok (.ireturn, 1) := dk_172 (dk_at dksX2_count_3 15 rfl rfl)
theorem dX2_count_95 : decode cX2_count 95 = .ok (.iconst 0, 1) := dk_3 (dk_at dksX2_count_3 16 rfl rfl)
theorem dX2_count_96 : decode cX2_count 96 = .ok (.istore_n 2, 1) := dk_61 (dk_at dksX2_count_3 17 rfl rfl)
theorem dX2_count_97 : decode cX2_count 97 = .ok (.iconst 0, 1) := dk_3 (dk_at dksX2_count_3 18 rfl rfl)
theorem dX2_count_98 : decode cX2_count 98 = .ok (.istore_n 3, 1) := dk_62 (dk_at dksX2_count_3 19 rfl rfl)
theorem dX2_count_99 : decode cX2_count 99 = .ok (.iload_n 3, 1) := dk_29 (dk_at dksX2_count_3 20 rfl rfl)
theorem dX2_count_100 : decode cX2_count 100 = .ok (.aload_n 0, 1) := dk_42 (dk_at dksX2_count_3 21 rfl rfl)
theorem dX2_count_101 : decode cX2_count 101 = .ok (.getfield 66, 3) := dk_180 0 66 (dk_at dksX2_count_4 0 rfl rfl)
theorem dX2_count_104 : decode cX2_count 104 = .ok (.if_icmp .ge 21, 3) := dk_162 0 21 (dk_at dksX2_count_4 3 rfl rfl)
theorem dX2_count_107 : decode cX2_count 107 = .ok (.iload_n 2, 1) := dk_28 (dk_at dksX2_count_4 6 rfl rfl)
theorem dX2_count_108 : decode cX2_count 108 = .ok (.aload_n 0, 1) := dk_42 (dk_at dksX2_count_4 7 rfl rfl)
theorem dX2_count_109 : decode cX2_count 109 = .ok (.getfield 16, 3) := dk_180 0 16 (dk_at dksX2_count_4 8 rfl rfl)
theorem dX2_count_112 : decode cX2_count 112 = .ok (.iload_n 3, 1) := dk_29 (dk_at dksX2_count_4 11 rfl rfl)
theorem dX2_count_113 : decode cX2_count 113 = .ok (.iaload, 1) := dk_46 (dk_at dksX2_count_4 12 rfl rfl)
theorem dX2_count_114 : decode cX2_count 114 = .ok (.invokestatic 210, 3) := dk_184 0 210 (dk_at dksX2_count_4 13 rfl rfl)
theorem dX2_count_117 : decode cX2_count 117 = .ok (.iadd, 1) := dk_96 (dk_at dksX2_count_4 16 rfl rfl)
theorem dX2_count_118 : decode cX2_count 118 = .ok (.istore_n 2, 1) := dk_61 (dk_at dksX2_count_4 17 rfl rfl)
theorem dX2_count_119 : decode cX2_count 119 = .ok (.iinc 3 1, 3) := dk_132 3 1 (dk_at dksX2_count_4 18 rfl rfl)
theorem dX2_count_122 : decode cX2_count 122 = .ok (.goto (-23), 3) := dk_167 255 233 (dk_at dksX2_count_4 21 rfl rfl)
theorem dX2_count_125 : decode cX2_count 125 = .ok (.iload_n 2, 1) := dk_28 (dk_at dksX2_count_5 0 rfl rfl)
theorem dX2_count_126 : decode cX2_count 126 = .ok (.iconst 2, 1) := dk_5 (dk_at dksX2_count_5 1 rfl rfl)
theorem dX2_count_127 : decode cX2_count 127 = .ok (.idiv, 1) := dk_108 (dk_at dksX2_count_5 2 rfl rfl)
theorem dX2_count_128 : decode cX2_count 128 = .ok (.ireturn, 1) := dk_172 (dk_at dksX2_count_5 3 rfl rfl)
theorem dX2_count_129 : decode cX2_count 129 = .ok (.aload_n 0, 1) := dk_42 (dk_at dksX2_count_5 4 rfl rfl)
theorem dX2_count_130 : decode cX2_count 130 = .ok (.getfield 69, 3) := dk_180 0 69 (dk_at dksX2_count_5 5 rfl rfl)
theorem dX2_count_133 : decode cX2_count 133 = .ok (.ireturn, 1) := dk_172 (dk_at dksX2_count_5 8 rfl rfl)
theorem dX2_count_134 : decode cX2_count 134 = .ok (.aload_n 0, 1) := dk_42 (dk_at dksX2_count_5 9 rfl rfl)
theorem dX2_count_135 : decode cX2_count 135 = .ok (.getfield 90, 3) := dk_180 0 90 (dk_at dksX2_count_5 10 rfl rfl)
theorem dX2_count_138 : decode cX2_count 138 = .ok (.ireturn, 1) := dk_172 (dk_at dksX2_count_5 13 rfl rfl)
theorem dX2_count_139 : decode cX2_count 139 = .ok (.bipush (-3), 2) := dk_16 253 (dk_at dksX2_count_5 14 rfl rfl)
theorem dX2_count_141 : decode cX2_count 141 = .ok (.ireturn, 1) := dk_172 (dk_at dksX2_count_5 16 rfl rfl)
theorem q70 : (Jvm.Cond.initialized "PerilSeatModel") ∈ lw_all := lw_g (lw_at lw_m1 4 rfl) rfl
theorem q1096 : (Jvm.Cond.instantiable "PerilSeatModel" (38 : Nat)) ∈ lw_all := lw_g (lw_at lw_m5 70 rfl) rfl
theorem q1098 : (Jvm.Cond.instanceMethod ({ cls := "PerilSeatModel", name := "<init>", desc := "()V" } : Jvm.MethodName)) ∈ lw_all := lw_g (lw_at lw_m5 72 rfl) rfl
theorem q1099 : (Jvm.Cond.code ({ cls := "PerilSeatModel", name := "<init>", desc := "()V" } : Jvm.MethodName) prog_17_method_1_code (1 : Nat) (Option.none : Option Jvm.ClassFile.FieldType)) ∈ lw_all := lw_g (lw_at lw_m5 73 rfl) rfl
theorem q1100 : (Jvm.Cond.methodLink "PerilSeatModel" (1 : Nat) ({ cls := "java/lang/Object", name := "<init>", desc := "()V" } : Jvm.MethodName)) ∈ lw_all := lw_g (lw_at lw_m5 74 rfl) rfl
theorem q1101 : (Jvm.Cond.methodLink "PerilSeatModel" (63 : Nat) ({ cls := "PerilSeatModel", name := "begins", desc := "()V" } : Jvm.MethodName)) ∈ lw_all := lw_g (lw_at lw_m5 75 rfl) rfl
theorem q1102 : (Jvm.Cond.privateMethod ({ cls := "PerilSeatModel", name := "begins", desc := "()V" } : Jvm.MethodName)) ∈ lw_tbl := lw_at lw_m5 76 rfl
theorem q1103 : (Jvm.Cond.instanceMethod ({ cls := "PerilSeatModel", name := "begins", desc := "()V" } : Jvm.MethodName)) ∈ lw_all := lw_g (lw_at lw_m5 77 rfl) rfl
theorem q1104 : (Jvm.Cond.code ({ cls := "PerilSeatModel", name := "begins", desc := "()V" } : Jvm.MethodName) prog_17_method_3_code (2 : Nat) (Option.none : Option Jvm.ClassFile.FieldType)) ∈ lw_all := lw_g (lw_at lw_m5 78 rfl) rfl
theorem q1105 : (Jvm.Cond.fieldLink "PerilSeatModel" (75 : Nat) "PerilSeatModel" "seats" "I") ∈ lw_all := lw_g (lw_at lw_m5 79 rfl) rfl
theorem q1106 : (Jvm.Cond.fieldLink "PerilSeatModel" (7 : Nat) "PerilSeatModel" "name" "[I") ∈ lw_all := lw_g (lw_at lw_m5 80 rfl) rfl
theorem q1107 : (Jvm.Cond.fieldLink "PerilSeatModel" (66 : Nat) "PerilSeatModel" "knights" "I") ∈ lw_all := lw_g (lw_at lw_m5 81 rfl) rfl
theorem q1108 : (Jvm.Cond.fieldLink "PerilSeatModel" (13 : Nat) "PerilSeatModel" "knight" "[I") ∈ lw_all := lw_g (lw_at lw_m5 82 rfl) rfl
theorem q1109 : (Jvm.Cond.fieldLink "PerilSeatModel" (16 : Nat) "PerilSeatModel" "enemies" "[I") ∈ lw_all := lw_g (lw_at lw_m5 83 rfl) rfl
theorem q1110 : (Jvm.Cond.fieldLink "PerilSeatModel" (171 : Nat) "PerilSeatModel" "perilFrom" "I") ∈ lw_all := lw_g (lw_at lw_m5 84 rfl) rfl
theorem q1111 : (Jvm.Cond.fieldLink "PerilSeatModel" (174 : Nat) "PerilSeatModel" "perilStep" "I") ∈ lw_all := lw_g (lw_at lw_m5 85 rfl) rfl
theorem q1112 : (Jvm.Cond.fieldLink "PerilSeatModel" (19 : Nat) "PerilSeatModel" "meant" "I") ∈ lw_all := lw_g (lw_at lw_m5 86 rfl) rfl
theorem q1113 : (Jvm.Cond.fieldLink "PerilSeatModel" (23 : Nat) "PerilSeatModel" "st" "[I") ∈ lw_all := lw_g (lw_at lw_m5 87 rfl) rfl
theorem q1114 : (Jvm.Cond.fieldLink "PerilSeatModel" (69 : Nat) "PerilSeatModel" "acts" "I") ∈ lw_all := lw_g (lw_at lw_m5 88 rfl) rfl
theorem q1115 : (Jvm.Cond.fieldLink "PerilSeatModel" (26 : Nat) "PerilSeatModel" "was" "[I") ∈ lw_all := lw_g (lw_at lw_m5 89 rfl) rfl
theorem q1116 : (Jvm.Cond.fieldLink "PerilSeatModel" (29 : Nat) "PerilSeatModel" "kept" "[I") ∈ lw_all := lw_g (lw_at lw_m5 90 rfl) rfl
theorem q1117 : (Jvm.Cond.fieldLink "PerilSeatModel" (32 : Nat) "PerilSeatModel" "isKept" "[Z") ∈ lw_all := lw_g (lw_at lw_m5 91 rfl) rfl
theorem q1118 : (Jvm.Cond.fieldLink "PerilSeatModel" (72 : Nat) "PerilSeatModel" "seens" "I") ∈ lw_all := lw_g (lw_at lw_m5 92 rfl) rfl
theorem q1119 : (Jvm.Cond.fieldLink "PerilSeatModel" (36 : Nat) "PerilSeatModel" "seen" "[I") ∈ lw_all := lw_g (lw_at lw_m5 93 rfl) rfl
theorem q1120 : (Jvm.Cond.fieldLink "PerilSeatModel" (39 : Nat) "PerilSeatModel" "text" "[I") ∈ lw_all := lw_g (lw_at lw_m5 94 rfl) rfl
theorem q1121 : (Jvm.Cond.fieldLink "PerilSeatModel" (90 : Nat) "PerilSeatModel" "texted" "I") ∈ lw_all := lw_g (lw_at lw_m5 95 rfl) rfl
theorem q1122 : (Jvm.Cond.fieldLink "PerilSeatModel" (93 : Nat) "PerilSeatModel" "at" "I") ∈ lw_all := lw_g (lw_at lw_m5 96 rfl) rfl
theorem q1123 : (Jvm.Cond.fieldLink "PerilSeatModel" (100 : Nat) "PerilSeatModel" "place" "I") ∈ lw_all := lw_g (lw_at lw_m5 97 rfl) rfl
theorem q1124 : (Jvm.Cond.fieldLink "PerilSeatModel" (106 : Nat) "PerilSeatModel" "token" "I") ∈ lw_all := lw_g (lw_at lw_m5 98 rfl) rfl
theorem q1125 : (Jvm.Cond.fieldLink "PerilSeatModel" (103 : Nat) "PerilSeatModel" "value" "I") ∈ lw_all := lw_g (lw_at lw_m5 99 rfl) rfl
theorem q1126 : (Jvm.Cond.fieldLink "PerilSeatModel" (123 : Nat) "PerilSeatModel" "isWell" "Z") ∈ lw_all := lw_g (lw_at lw_m5 100 rfl) rfl
theorem q1127 : (Jvm.Cond.fieldLink "PerilSeatModel" (177 : Nat) "PerilSeatModel" "clauses" "I") ∈ lw_all := lw_g (lw_at lw_m5 101 rfl) rfl
theorem q1128 : (Jvm.Cond.fieldLink "PerilSeatModel" (130 : Nat) "PerilSeatModel" "saidSeats" "I") ∈ lw_all := lw_g (lw_at lw_m5 102 rfl) rfl
theorem q1129 : (Jvm.Cond.fieldLink "PerilSeatModel" (42 : Nat) "PerilSeatModel" "saidName" "[I") ∈ lw_all := lw_g (lw_at lw_m5 103 rfl) rfl
theorem q1130 : (Jvm.Cond.fieldLink "PerilSeatModel" (133 : Nat) "PerilSeatModel" "saidKnights" "I") ∈ lw_all := lw_g (lw_at lw_m5 104 rfl) rfl
theorem q1131 : (Jvm.Cond.fieldLink "PerilSeatModel" (45 : Nat) "PerilSeatModel" "saidKnight" "[I") ∈ lw_all := lw_g (lw_at lw_m5 105 rfl) rfl
theorem q1132 : (Jvm.Cond.fieldLink "PerilSeatModel" (48 : Nat) "PerilSeatModel" "saidEnemies" "[I") ∈ lw_all := lw_g (lw_at lw_m5 106 rfl) rfl
theorem q1133 : (Jvm.Cond.fieldLink "PerilSeatModel" (136 : Nat) "PerilSeatModel" "saidFrom" "I") ∈ lw_all := lw_g (lw_at lw_m5 107 rfl) rfl
theorem q1134 : (Jvm.Cond.fieldLink "PerilSeatModel" (139 : Nat) "PerilSeatModel" "saidStep" "I") ∈ lw_all := lw_g (lw_at lw_m5 108 rfl) rfl
theorem q1135 : (Jvm.Cond.fieldLink "PerilSeatModel" (142 : Nat) "PerilSeatModel" "saidMeant" "I") ∈ lw_all := lw_g (lw_at lw_m5 109 rfl) rfl
theorem q1136 : (Jvm.Cond.fieldLink "PerilSeatModel" (51 : Nat) "PerilSeatModel" "heard" "[I") ∈ lw_all := lw_g (lw_at lw_m5 110 rfl) rfl
theorem q1137 : (Jvm.Cond.fieldLink "PerilSeatModel" (54 : Nat) "PerilSeatModel" "sits" "[I") ∈ lw_all := lw_g (lw_at lw_m5 111 rfl) rfl
theorem q1138 : (Jvm.Cond.fieldLink "PerilSeatModel" (57 : Nat) "PerilSeatModel" "lentSeat" "I") ∈ lw_all := lw_g (lw_at lw_m5 112 rfl) rfl
theorem q1139 : (Jvm.Cond.fieldLink "PerilSeatModel" (231 : Nat) "PerilSeatModel" "found" "I") ∈ lw_all := lw_g (lw_at lw_m5 113 rfl) rfl
theorem q1140 : (Jvm.Cond.fieldLink "PerilSeatModel" (60 : Nat) "PerilSeatModel" "first" "[I") ∈ lw_all := lw_g (lw_at lw_m5 114 rfl) rfl
theorem q1141 : (Jvm.Cond.fieldLink "PerilSeatModel" (234 : Nat) "PerilSeatModel" "fewest" "I") ∈ lw_all := lw_g (lw_at lw_m5 115 rfl) rfl
theorem q1142 : (Jvm.Cond.fieldLink "PerilSeatModel" (237 : Nat) "PerilSeatModel" "mostKnow" "I") ∈ lw_all := lw_g (lw_at lw_m5 116 rfl) rfl
theorem q1143 : (Jvm.Cond.lays "PerilSeatModel" "PerilSeatModel" "seats" "I") ∈ lw_all := lw_g (lw_at lw_m5 117 rfl) rfl
theorem q1144 : (Jvm.Cond.soleField "PerilSeatModel" "seats") ∈ lw_all := lw_g (lw_at lw_m5 118 rfl) rfl
theorem q1145 : (Jvm.Cond.laysFinal "PerilSeatModel" "PerilSeatModel" "name" "[I") ∈ lw_all := lw_g (lw_at lw_m5 119 rfl) rfl
theorem q1146 : (Jvm.Cond.soleField "PerilSeatModel" "name") ∈ lw_all := lw_g (lw_at lw_m5 120 rfl) rfl
theorem q1147 : (Jvm.Cond.lays "PerilSeatModel" "PerilSeatModel" "knights" "I") ∈ lw_all := lw_g (lw_at lw_m5 121 rfl) rfl
theorem q1148 : (Jvm.Cond.soleField "PerilSeatModel" "knights") ∈ lw_all := lw_g (lw_at lw_m5 122 rfl) rfl
theorem q1149 : (Jvm.Cond.laysFinal "PerilSeatModel" "PerilSeatModel" "knight" "[I") ∈ lw_all := lw_g (lw_at lw_m5 123 rfl) rfl
theorem q1150 : (Jvm.Cond.soleField "PerilSeatModel" "knight") ∈ lw_all := lw_g (lw_at lw_m5 124 rfl) rfl
theorem q1151 : (Jvm.Cond.laysFinal "PerilSeatModel" "PerilSeatModel" "enemies" "[I") ∈ lw_all := lw_g (lw_at lw_m5 125 rfl) rfl
theorem q1152 : (Jvm.Cond.soleField "PerilSeatModel" "enemies") ∈ lw_all := lw_g (lw_at lw_m5 126 rfl) rfl
theorem q1153 : (Jvm.Cond.lays "PerilSeatModel" "PerilSeatModel" "perilFrom" "I") ∈ lw_all := lw_g (lw_at lw_m5 127 rfl) rfl
theorem q1154 : (Jvm.Cond.soleField "PerilSeatModel" "perilFrom") ∈ lw_all := lw_g (lw_at lw_m5 128 rfl) rfl
theorem q1155 : (Jvm.Cond.lays "PerilSeatModel" "PerilSeatModel" "perilStep" "I") ∈ lw_all := lw_g (lw_at lw_m5 129 rfl) rfl
theorem q1156 : (Jvm.Cond.soleField "PerilSeatModel" "perilStep") ∈ lw_all := lw_g (lw_at lw_m5 130 rfl) rfl
theorem q1157 : (Jvm.Cond.lays "PerilSeatModel" "PerilSeatModel" "meant" "I") ∈ lw_all := lw_g (lw_at lw_m5 131 rfl) rfl
theorem q1158 : (Jvm.Cond.soleField "PerilSeatModel" "meant") ∈ lw_all := lw_g (lw_at lw_m5 132 rfl) rfl
theorem q1159 : (Jvm.Cond.laysFinal "PerilSeatModel" "PerilSeatModel" "st" "[I") ∈ lw_all := lw_g (lw_at lw_m5 133 rfl) rfl
theorem q1160 : (Jvm.Cond.soleField "PerilSeatModel" "st") ∈ lw_all := lw_g (lw_at lw_m5 134 rfl) rfl
theorem q1161 : (Jvm.Cond.lays "PerilSeatModel" "PerilSeatModel" "acts" "I") ∈ lw_all := lw_g (lw_at lw_m5 135 rfl) rfl
theorem q1162 : (Jvm.Cond.soleField "PerilSeatModel" "acts") ∈ lw_all := lw_g (lw_at lw_m5 136 rfl) rfl
theorem q1163 : (Jvm.Cond.laysFinal "PerilSeatModel" "PerilSeatModel" "was" "[I") ∈ lw_all := lw_g (lw_at lw_m5 137 rfl) rfl
theorem q1164 : (Jvm.Cond.soleField "PerilSeatModel" "was") ∈ lw_all := lw_g (lw_at lw_m5 138 rfl) rfl
theorem q1165 : (Jvm.Cond.laysFinal "PerilSeatModel" "PerilSeatModel" "kept" "[I") ∈ lw_all := lw_g (lw_at lw_m5 139 rfl) rfl
theorem q1166 : (Jvm.Cond.soleField "PerilSeatModel" "kept") ∈ lw_all := lw_g (lw_at lw_m5 140 rfl) rfl
theorem q1167 : (Jvm.Cond.laysFinal "PerilSeatModel" "PerilSeatModel" "isKept" "[Z") ∈ lw_all := lw_g (lw_at lw_m5 141 rfl) rfl
theorem q1168 : (Jvm.Cond.soleField "PerilSeatModel" "isKept") ∈ lw_all := lw_g (lw_at lw_m5 142 rfl) rfl
theorem q1169 : (Jvm.Cond.lays "PerilSeatModel" "PerilSeatModel" "seens" "I") ∈ lw_all := lw_g (lw_at lw_m5 143 rfl) rfl
theorem q1170 : (Jvm.Cond.soleField "PerilSeatModel" "seens") ∈ lw_all := lw_g (lw_at lw_m5 144 rfl) rfl
theorem q1171 : (Jvm.Cond.laysFinal "PerilSeatModel" "PerilSeatModel" "seen" "[I") ∈ lw_all := lw_g (lw_at lw_m5 145 rfl) rfl
theorem q1172 : (Jvm.Cond.soleField "PerilSeatModel" "seen") ∈ lw_all := lw_g (lw_at lw_m5 146 rfl) rfl
theorem q1173 : (Jvm.Cond.laysFinal "PerilSeatModel" "PerilSeatModel" "text" "[I") ∈ lw_all := lw_g (lw_at lw_m5 147 rfl) rfl
theorem q1174 : (Jvm.Cond.soleField "PerilSeatModel" "text") ∈ lw_all := lw_g (lw_at lw_m5 148 rfl) rfl
theorem q1175 : (Jvm.Cond.lays "PerilSeatModel" "PerilSeatModel" "texted" "I") ∈ lw_all := lw_g (lw_at lw_m5 149 rfl) rfl
theorem q1176 : (Jvm.Cond.soleField "PerilSeatModel" "texted") ∈ lw_all := lw_g (lw_at lw_m5 150 rfl) rfl
theorem q1177 : (Jvm.Cond.lays "PerilSeatModel" "PerilSeatModel" "at" "I") ∈ lw_all := lw_g (lw_at lw_m5 151 rfl) rfl
theorem q1178 : (Jvm.Cond.soleField "PerilSeatModel" "at") ∈ lw_all := lw_g (lw_at lw_m5 152 rfl) rfl
theorem q1179 : (Jvm.Cond.lays "PerilSeatModel" "PerilSeatModel" "place" "I") ∈ lw_all := lw_g (lw_at lw_m5 153 rfl) rfl
theorem q1180 : (Jvm.Cond.soleField "PerilSeatModel" "place") ∈ lw_all := lw_g (lw_at lw_m5 154 rfl) rfl
theorem q1181 : (Jvm.Cond.lays "PerilSeatModel" "PerilSeatModel" "token" "I") ∈ lw_all := lw_g (lw_at lw_m5 155 rfl) rfl
theorem q1182 : (Jvm.Cond.soleField "PerilSeatModel" "token") ∈ lw_all := lw_g (lw_at lw_m5 156 rfl) rfl
theorem q1183 : (Jvm.Cond.lays "PerilSeatModel" "PerilSeatModel" "value" "I") ∈ lw_all := lw_g (lw_at lw_m5 157 rfl) rfl
theorem q1184 : (Jvm.Cond.soleField "PerilSeatModel" "value") ∈ lw_all := lw_g (lw_at lw_m5 158 rfl) rfl
theorem q1185 : (Jvm.Cond.lays "PerilSeatModel" "PerilSeatModel" "isWell" "Z") ∈ lw_all := lw_g (lw_at lw_m5 159 rfl) rfl
theorem q1186 : (Jvm.Cond.soleField "PerilSeatModel" "isWell") ∈ lw_all := lw_g (lw_at lw_m5 160 rfl) rfl
theorem q1187 : (Jvm.Cond.lays "PerilSeatModel" "PerilSeatModel" "clauses" "I") ∈ lw_all := lw_g (lw_at lw_m5 161 rfl) rfl
theorem q1188 : (Jvm.Cond.soleField "PerilSeatModel" "clauses") ∈ lw_all := lw_g (lw_at lw_m5 162 rfl) rfl
theorem q1189 : (Jvm.Cond.lays "PerilSeatModel" "PerilSeatModel" "saidSeats" "I") ∈ lw_all := lw_g (lw_at lw_m5 163 rfl) rfl
theorem q1190 : (Jvm.Cond.soleField "PerilSeatModel" "saidSeats") ∈ lw_all := lw_g (lw_at lw_m5 164 rfl) rfl
theorem q1191 : (Jvm.Cond.laysFinal "PerilSeatModel" "PerilSeatModel" "saidName" "[I") ∈ lw_all := lw_g (lw_at lw_m5 165 rfl) rfl
theorem q1192 : (Jvm.Cond.soleField "PerilSeatModel" "saidName") ∈ lw_all := lw_g (lw_at lw_m5 166 rfl) rfl
theorem q1193 : (Jvm.Cond.lays "PerilSeatModel" "PerilSeatModel" "saidKnights" "I") ∈ lw_all := lw_g (lw_at lw_m5 167 rfl) rfl
theorem q1194 : (Jvm.Cond.soleField "PerilSeatModel" "saidKnights") ∈ lw_all := lw_g (lw_at lw_m5 168 rfl) rfl
theorem q1195 : (Jvm.Cond.laysFinal "PerilSeatModel" "PerilSeatModel" "saidKnight" "[I") ∈ lw_all := lw_g (lw_at lw_m5 169 rfl) rfl
theorem q1196 : (Jvm.Cond.soleField "PerilSeatModel" "saidKnight") ∈ lw_all := lw_g (lw_at lw_m5 170 rfl) rfl
theorem q1197 : (Jvm.Cond.laysFinal "PerilSeatModel" "PerilSeatModel" "saidEnemies" "[I") ∈ lw_all := lw_g (lw_at lw_m5 171 rfl) rfl
theorem q1198 : (Jvm.Cond.soleField "PerilSeatModel" "saidEnemies") ∈ lw_all := lw_g (lw_at lw_m5 172 rfl) rfl
theorem q1199 : (Jvm.Cond.lays "PerilSeatModel" "PerilSeatModel" "saidFrom" "I") ∈ lw_all := lw_g (lw_at lw_m5 173 rfl) rfl
theorem q1200 : (Jvm.Cond.soleField "PerilSeatModel" "saidFrom") ∈ lw_all := lw_g (lw_at lw_m5 174 rfl) rfl
theorem q1201 : (Jvm.Cond.lays "PerilSeatModel" "PerilSeatModel" "saidStep" "I") ∈ lw_all := lw_g (lw_at lw_m5 175 rfl) rfl
theorem q1202 : (Jvm.Cond.soleField "PerilSeatModel" "saidStep") ∈ lw_all := lw_g (lw_at lw_m5 176 rfl) rfl
theorem q1203 : (Jvm.Cond.lays "PerilSeatModel" "PerilSeatModel" "saidMeant" "I") ∈ lw_all := lw_g (lw_at lw_m5 177 rfl) rfl
theorem q1204 : (Jvm.Cond.soleField "PerilSeatModel" "saidMeant") ∈ lw_all := lw_g (lw_at lw_m5 178 rfl) rfl
theorem q1205 : (Jvm.Cond.laysFinal "PerilSeatModel" "PerilSeatModel" "heard" "[I") ∈ lw_all := lw_g (lw_at lw_m5 179 rfl) rfl
theorem q1206 : (Jvm.Cond.soleField "PerilSeatModel" "heard") ∈ lw_all := lw_g (lw_at lw_m5 180 rfl) rfl
theorem q1207 : (Jvm.Cond.laysFinal "PerilSeatModel" "PerilSeatModel" "sits" "[I") ∈ lw_all := lw_g (lw_at lw_m5 181 rfl) rfl
theorem q1208 : (Jvm.Cond.soleField "PerilSeatModel" "sits") ∈ lw_all := lw_g (lw_at lw_m5 182 rfl) rfl
theorem q1209 : (Jvm.Cond.lays "PerilSeatModel" "PerilSeatModel" "lentSeat" "I") ∈ lw_all := lw_g (lw_at lw_m5 183 rfl) rfl
theorem q1210 : (Jvm.Cond.soleField "PerilSeatModel" "lentSeat") ∈ lw_all := lw_g (lw_at lw_m5 184 rfl) rfl
theorem q1211 : (Jvm.Cond.lays "PerilSeatModel" "PerilSeatModel" "found" "I") ∈ lw_all := lw_g (lw_at lw_m5 185 rfl) rfl
theorem q1212 : (Jvm.Cond.soleField "PerilSeatModel" "found") ∈ lw_all := lw_g (lw_at lw_m5 186 rfl) rfl
theorem q1213 : (Jvm.Cond.laysFinal "PerilSeatModel" "PerilSeatModel" "first" "[I") ∈ lw_all := lw_g (lw_at lw_m5 187 rfl) rfl
theorem q1214 : (Jvm.Cond.soleField "PerilSeatModel" "first") ∈ lw_all := lw_g (lw_at lw_m5 188 rfl) rfl
theorem q1215 : (Jvm.Cond.lays "PerilSeatModel" "PerilSeatModel" "fewest" "I") ∈ lw_all := lw_g (lw_at lw_m5 189 rfl) rfl
theorem q1216 : (Jvm.Cond.soleField "PerilSeatModel" "fewest") ∈ lw_all := lw_g (lw_at lw_m5 190 rfl) rfl
theorem q1217 : (Jvm.Cond.lays "PerilSeatModel" "PerilSeatModel" "mostKnow" "I") ∈ lw_all := lw_g (lw_at lw_m5 191 rfl) rfl
theorem q1218 : (Jvm.Cond.soleField "PerilSeatModel" "mostKnow") ∈ lw_all := lw_g (lw_at lw_m5 192 rfl) rfl
theorem q1219 : (Jvm.Cond.superclass "PerilSeatModel" "java/lang/Object") ∈ lw_all := lw_g (lw_at lw_m5 193 rfl) rfl
theorem q1222 : (Jvm.Cond.instanceMethod ({ cls := "PerilSeatModel", name := "write", desc := "(I)I" } : Jvm.MethodName)) ∈ lw_all := lw_g (lw_at lw_m5 196 rfl) rfl
theorem q1223 : (Jvm.Cond.selects "PerilSeatModel" ({ cls := "PerilSeatModel", name := "write", desc := "(I)I" } : Jvm.MethodName) ({ cls := "PerilSeatModel", name := "write", desc := "(I)I" } : Jvm.MethodName)) ∈ lw_all := lw_g (lw_at lw_m5 197 rfl) rfl
theorem q1224 : (Jvm.Cond.code ({ cls := "PerilSeatModel", name := "write", desc := "(I)I" } : Jvm.MethodName) prog_17_method_10_code (2 : Nat) (Option.some Jvm.ClassFile.FieldType.int)) ∈ lw_all := lw_g (lw_at lw_m5 198 rfl) rfl
theorem q1225 : (Jvm.Cond.methodLink "PerilSeatModel" (78 : Nat) ({ cls := "PerilSeatModel", name := "in", desc := "(III)Z" } : Jvm.MethodName)) ∈ lw_all := lw_g (lw_at lw_m5 199 rfl) rfl
theorem q1226 : (Jvm.Cond.static ({ cls := "PerilSeatModel", name := "in", desc := "(III)Z" } : Jvm.MethodName)) ∈ lw_all := lw_g (lw_at lw_m5 200 rfl) rfl
theorem q1227 : (Jvm.Cond.code ({ cls := "PerilSeatModel", name := "in", desc := "(III)Z" } : Jvm.MethodName) prog_17_method_4_code (3 : Nat) (Option.some Jvm.ClassFile.FieldType.boolean)) ∈ lw_all := lw_g (lw_at lw_m5 201 rfl) rfl
theorem q1229 : (Jvm.Cond.instanceMethod ({ cls := "PerilSeatModel", name := "erase", desc := "()I" } : Jvm.MethodName)) ∈ lw_all := lw_g (lw_at lw_m5 203 rfl) rfl
theorem q1230 : (Jvm.Cond.selects "PerilSeatModel" ({ cls := "PerilSeatModel", name := "erase", desc := "()I" } : Jvm.MethodName) ({ cls := "PerilSeatModel", name := "erase", desc := "()I" } : Jvm.MethodName)) ∈ lw_all := lw_g (lw_at lw_m5 204 rfl) rfl
theorem q1231 : (Jvm.Cond.code ({ cls := "PerilSeatModel", name := "erase", desc := "()I" } : Jvm.MethodName) prog_17_method_11_code (2 : Nat) (Option.some Jvm.ClassFile.FieldType.int)) ∈ lw_all := lw_g (lw_at lw_m5 205 rfl) rfl
theorem q1233 : (Jvm.Cond.instanceMethod ({ cls := "PerilSeatModel", name := "fault", desc := "()I" } : Jvm.MethodName)) ∈ lw_all := lw_g (lw_at lw_m5 207 rfl) rfl
theorem q1234 : (Jvm.Cond.selects "PerilSeatModel" ({ cls := "PerilSeatModel", name := "fault", desc := "()I" } : Jvm.MethodName) ({ cls := "PerilSeatModel", name := "fault", desc := "()I" } : Jvm.MethodName)) ∈ lw_all := lw_g (lw_at lw_m5 208 rfl) rfl
theorem q1235 : (Jvm.Cond.code ({ cls := "PerilSeatModel", name := "fault", desc := "()I" } : Jvm.MethodName) prog_17_method_28_code (1 : Nat) (Option.some Jvm.ClassFile.FieldType.int)) ∈ lw_all := lw_g (lw_at lw_m5 209 rfl) rfl
theorem q1236 : (Jvm.Cond.methodLink "PerilSeatModel" (183 : Nat) ({ cls := "PerilSeatModel", name := "reads", desc := "()V" } : Jvm.MethodName)) ∈ lw_all := lw_g (lw_at lw_m5 210 rfl) rfl
theorem q1237 : (Jvm.Cond.privateMethod ({ cls := "PerilSeatModel", name := "reads", desc := "()V" } : Jvm.MethodName)) ∈ lw_tbl := lw_at lw_m5 211 rfl
theorem q1238 : (Jvm.Cond.instanceMethod ({ cls := "PerilSeatModel", name := "reads", desc := "()V" } : Jvm.MethodName)) ∈ lw_all := lw_g (lw_at lw_m5 212 rfl) rfl
theorem q1239 : (Jvm.Cond.code ({ cls := "PerilSeatModel", name := "reads", desc := "()V" } : Jvm.MethodName) prog_17_method_27_code (2 : Nat) (Option.none : Option Jvm.ClassFile.FieldType)) ∈ lw_all := lw_g (lw_at lw_m5 213 rfl) rfl
theorem q1240 : (Jvm.Cond.methodLink "PerilSeatModel" (127 : Nat) ({ cls := "PerilSeatModel", name := "next", desc := "()V" } : Jvm.MethodName)) ∈ lw_all := lw_g (lw_at lw_m5 214 rfl) rfl
theorem q1241 : (Jvm.Cond.privateMethod ({ cls := "PerilSeatModel", name := "next", desc := "()V" } : Jvm.MethodName)) ∈ lw_tbl := lw_at lw_m5 215 rfl
theorem q1242 : (Jvm.Cond.instanceMethod ({ cls := "PerilSeatModel", name := "next", desc := "()V" } : Jvm.MethodName)) ∈ lw_all := lw_g (lw_at lw_m5 216 rfl) rfl
theorem q1243 : (Jvm.Cond.code ({ cls := "PerilSeatModel", name := "next", desc := "()V" } : Jvm.MethodName) prog_17_method_15_code (2 : Nat) (Option.none : Option Jvm.ClassFile.FieldType)) ∈ lw_all := lw_g (lw_at lw_m5 217 rfl) rfl
theorem q1244 : (Jvm.Cond.methodLink "PerilSeatModel" (96 : Nat) ({ cls := "PerilSeatModel", name := "letterAt", desc := "(I)I" } : Jvm.MethodName)) ∈ lw_all := lw_g (lw_at lw_m5 218 rfl) rfl
theorem q1245 : (Jvm.Cond.privateMethod ({ cls := "PerilSeatModel", name := "letterAt", desc := "(I)I" } : Jvm.MethodName)) ∈ lw_tbl := lw_at lw_m5 219 rfl
theorem q1246 : (Jvm.Cond.instanceMethod ({ cls := "PerilSeatModel", name := "letterAt", desc := "(I)I" } : Jvm.MethodName)) ∈ lw_all := lw_g (lw_at lw_m5 220 rfl) rfl
theorem q1247 : (Jvm.Cond.code ({ cls := "PerilSeatModel", name := "letterAt", desc := "(I)I" } : Jvm.MethodName) prog_17_method_12_code (2 : Nat) (Option.some Jvm.ClassFile.FieldType.int)) ∈ lw_all := lw_g (lw_at lw_m5 221 rfl) rfl
theorem q1248 : (Jvm.Cond.methodLink "PerilSeatModel" (109 : Nat) ({ cls := "PerilSeatModel", name := "isSmall", desc := "(I)Z" } : Jvm.MethodName)) ∈ lw_all := lw_g (lw_at lw_m5 222 rfl) rfl
theorem q1249 : (Jvm.Cond.static ({ cls := "PerilSeatModel", name := "isSmall", desc := "(I)Z" } : Jvm.MethodName)) ∈ lw_all := lw_g (lw_at lw_m5 223 rfl) rfl
theorem q1250 : (Jvm.Cond.code ({ cls := "PerilSeatModel", name := "isSmall", desc := "(I)Z" } : Jvm.MethodName) prog_17_method_13_code (1 : Nat) (Option.some Jvm.ClassFile.FieldType.boolean)) ∈ lw_all := lw_g (lw_at lw_m5 224 rfl) rfl
theorem q1251 : (Jvm.Cond.methodLink "PerilSeatModel" (112 : Nat) ({ cls := "PerilSeatModel", name := "isFigure", desc := "(I)Z" } : Jvm.MethodName)) ∈ lw_all := lw_g (lw_at lw_m5 225 rfl) rfl
theorem q1252 : (Jvm.Cond.static ({ cls := "PerilSeatModel", name := "isFigure", desc := "(I)Z" } : Jvm.MethodName)) ∈ lw_all := lw_g (lw_at lw_m5 226 rfl) rfl
theorem q1253 : (Jvm.Cond.code ({ cls := "PerilSeatModel", name := "isFigure", desc := "(I)Z" } : Jvm.MethodName) prog_17_method_14_code (1 : Nat) (Option.some Jvm.ClassFile.FieldType.boolean)) ∈ lw_all := lw_g (lw_at lw_m5 227 rfl) rfl
theorem q1254 : (Jvm.Cond.methodLink "PerilSeatModel" (180 : Nat) ({ cls := "PerilSeatModel", name := "readClause", desc := "()V" } : Jvm.MethodName)) ∈ lw_all := lw_g (lw_at lw_m5 228 rfl) rfl
theorem q1255 : (Jvm.Cond.privateMethod ({ cls := "PerilSeatModel", name := "readClause", desc := "()V" } : Jvm.MethodName)) ∈ lw_tbl := lw_at lw_m5 229 rfl
theorem q1256 : (Jvm.Cond.instanceMethod ({ cls := "PerilSeatModel", name := "readClause", desc := "()V" } : Jvm.MethodName)) ∈ lw_all := lw_g (lw_at lw_m5 230 rfl) rfl
theorem q1257 : (Jvm.Cond.code ({ cls := "PerilSeatModel", name := "readClause", desc := "()V" } : Jvm.MethodName) prog_17_method_26_code (3 : Nat) (Option.none : Option Jvm.ClassFile.FieldType)) ∈ lw_all := lw_g (lw_at lw_m5 231 rfl) rfl
theorem q1258 : (Jvm.Cond.methodLink "PerilSeatModel" (153 : Nat) ({ cls := "PerilSeatModel", name := "wordOf", desc := "()I" } : Jvm.MethodName)) ∈ lw_all := lw_g (lw_at lw_m5 232 rfl) rfl
theorem q1259 : (Jvm.Cond.privateMethod ({ cls := "PerilSeatModel", name := "wordOf", desc := "()I" } : Jvm.MethodName)) ∈ lw_tbl := lw_at lw_m5 233 rfl
theorem q1260 : (Jvm.Cond.instanceMethod ({ cls := "PerilSeatModel", name := "wordOf", desc := "()I" } : Jvm.MethodName)) ∈ lw_all := lw_g (lw_at lw_m5 234 rfl) rfl
theorem q1261 : (Jvm.Cond.code ({ cls := "PerilSeatModel", name := "wordOf", desc := "()I" } : Jvm.MethodName) prog_17_method_17_code (1 : Nat) (Option.some Jvm.ClassFile.FieldType.int)) ∈ lw_all := lw_g (lw_at lw_m5 235 rfl) rfl
theorem q1262 : (Jvm.Cond.methodLink "PerilSeatModel" (115 : Nat) ({ cls := "PerilSeatModel", name := "spells", desc := "(IIIII)Z" } : Jvm.MethodName)) ∈ lw_all := lw_g (lw_at lw_m5 236 rfl) rfl
theorem q1263 : (Jvm.Cond.privateMethod ({ cls := "PerilSeatModel", name := "spells", desc := "(IIIII)Z" } : Jvm.MethodName)) ∈ lw_tbl := lw_at lw_m5 237 rfl
theorem q1264 : (Jvm.Cond.instanceMethod ({ cls := "PerilSeatModel", name := "spells", desc := "(IIIII)Z" } : Jvm.MethodName)) ∈ lw_all := lw_g (lw_at lw_m5 238 rfl) rfl
theorem q1265 : (Jvm.Cond.code ({ cls := "PerilSeatModel", name := "spells", desc := "(IIIII)Z" } : Jvm.MethodName) prog_17_method_16_code (6 : Nat) (Option.some Jvm.ClassFile.FieldType.boolean)) ∈ lw_all := lw_g (lw_at lw_m5 239 rfl) rfl
theorem q1266 : (Jvm.Cond.methodLink "PerilSeatModel" (119 : Nat) ({ cls := "PerilSeatModel", name := "otherWord", desc := "()I" } : Jvm.MethodName)) ∈ lw_all := lw_g (lw_at lw_m6 0 rfl) rfl
theorem q1267 : (Jvm.Cond.privateMethod ({ cls := "PerilSeatModel", name := "otherWord", desc := "()I" } : Jvm.MethodName)) ∈ lw_tbl := lw_at lw_m6 1 rfl
theorem q1268 : (Jvm.Cond.instanceMethod ({ cls := "PerilSeatModel", name := "otherWord", desc := "()I" } : Jvm.MethodName)) ∈ lw_all := lw_g (lw_at lw_m6 2 rfl) rfl
theorem q1269 : (Jvm.Cond.code ({ cls := "PerilSeatModel", name := "otherWord", desc := "()I" } : Jvm.MethodName) prog_17_method_18_code (1 : Nat) (Option.some Jvm.ClassFile.FieldType.int)) ∈ lw_all := lw_g (lw_at lw_m6 3 rfl) rfl
theorem q1270 : (Jvm.Cond.methodLink "PerilSeatModel" (156 : Nat) ({ cls := "PerilSeatModel", name := "readTable", desc := "()V" } : Jvm.MethodName)) ∈ lw_all := lw_g (lw_at lw_m6 4 rfl) rfl
theorem q1271 : (Jvm.Cond.privateMethod ({ cls := "PerilSeatModel", name := "readTable", desc := "()V" } : Jvm.MethodName)) ∈ lw_tbl := lw_at lw_m6 5 rfl
theorem q1272 : (Jvm.Cond.instanceMethod ({ cls := "PerilSeatModel", name := "readTable", desc := "()V" } : Jvm.MethodName)) ∈ lw_all := lw_g (lw_at lw_m6 6 rfl) rfl
theorem q1273 : (Jvm.Cond.code ({ cls := "PerilSeatModel", name := "readTable", desc := "()V" } : Jvm.MethodName) prog_17_method_21_code (2 : Nat) (Option.none : Option Jvm.ClassFile.FieldType)) ∈ lw_all := lw_g (lw_at lw_m6 7 rfl) rfl
theorem q1274 : (Jvm.Cond.methodLink "PerilSeatModel" (145 : Nat) ({ cls := "PerilSeatModel", name := "number", desc := "(II)I" } : Jvm.MethodName)) ∈ lw_all := lw_g (lw_at lw_m6 8 rfl) rfl
theorem q1275 : (Jvm.Cond.privateMethod ({ cls := "PerilSeatModel", name := "number", desc := "(II)I" } : Jvm.MethodName)) ∈ lw_tbl := lw_at lw_m6 9 rfl
theorem q1276 : (Jvm.Cond.instanceMethod ({ cls := "PerilSeatModel", name := "number", desc := "(II)I" } : Jvm.MethodName)) ∈ lw_all := lw_g (lw_at lw_m6 10 rfl) rfl
theorem q1277 : (Jvm.Cond.code ({ cls := "PerilSeatModel", name := "number", desc := "(II)I" } : Jvm.MethodName) prog_17_method_19_code (5 : Nat) (Option.some Jvm.ClassFile.FieldType.int)) ∈ lw_all := lw_g (lw_at lw_m6 11 rfl) rfl
theorem q1278 : (Jvm.Cond.methodLink "PerilSeatModel" (149 : Nat) ({ cls := "PerilSeatModel", name := "laysTable", desc := "(I)V" } : Jvm.MethodName)) ∈ lw_all := lw_g (lw_at lw_m6 12 rfl) rfl
theorem q1279 : (Jvm.Cond.privateMethod ({ cls := "PerilSeatModel", name := "laysTable", desc := "(I)V" } : Jvm.MethodName)) ∈ lw_tbl := lw_at lw_m6 13 rfl
theorem q1280 : (Jvm.Cond.instanceMethod ({ cls := "PerilSeatModel", name := "laysTable", desc := "(I)V" } : Jvm.MethodName)) ∈ lw_all := lw_g (lw_at lw_m6 14 rfl) rfl
theorem q1281 : (Jvm.Cond.code ({ cls := "PerilSeatModel", name := "laysTable", desc := "(I)V" } : Jvm.MethodName) prog_17_method_20_code (3 : Nat) (Option.none : Option Jvm.ClassFile.FieldType)) ∈ lw_all := lw_g (lw_at lw_m6 15 rfl) rfl
theorem q1282 : (Jvm.Cond.methodLink "PerilSeatModel" (159 : Nat) ({ cls := "PerilSeatModel", name := "readName", desc := "(I)V" } : Jvm.MethodName)) ∈ lw_all := lw_g (lw_at lw_m6 16 rfl) rfl
theorem q1283 : (Jvm.Cond.privateMethod ({ cls := "PerilSeatModel", name := "readName", desc := "(I)V" } : Jvm.MethodName)) ∈ lw_tbl := lw_at lw_m6 17 rfl
theorem q1284 : (Jvm.Cond.instanceMethod ({ cls := "PerilSeatModel", name := "readName", desc := "(I)V" } : Jvm.MethodName)) ∈ lw_all := lw_g (lw_at lw_m6 18 rfl) rfl
theorem q1285 : (Jvm.Cond.code ({ cls := "PerilSeatModel", name := "readName", desc := "(I)V" } : Jvm.MethodName) prog_17_method_22_code (4 : Nat) (Option.none : Option Jvm.ClassFile.FieldType)) ∈ lw_all := lw_g (lw_at lw_m6 19 rfl) rfl
theorem q1286 : (Jvm.Cond.methodLink "PerilSeatModel" (162 : Nat) ({ cls := "PerilSeatModel", name := "readKnight", desc := "(I)V" } : Jvm.MethodName)) ∈ lw_all := lw_g (lw_at lw_m6 20 rfl) rfl
theorem q1287 : (Jvm.Cond.privateMethod ({ cls := "PerilSeatModel", name := "readKnight", desc := "(I)V" } : Jvm.MethodName)) ∈ lw_tbl := lw_at lw_m6 21 rfl
theorem q1288 : (Jvm.Cond.instanceMethod ({ cls := "PerilSeatModel", name := "readKnight", desc := "(I)V" } : Jvm.MethodName)) ∈ lw_all := lw_g (lw_at lw_m6 22 rfl) rfl
theorem q1289 : (Jvm.Cond.code ({ cls := "PerilSeatModel", name := "readKnight", desc := "(I)V" } : Jvm.MethodName) prog_17_method_23_code (4 : Nat) (Option.none : Option Jvm.ClassFile.FieldType)) ∈ lw_all := lw_g (lw_at lw_m6 23 rfl) rfl
theorem q1290 : (Jvm.Cond.methodLink "PerilSeatModel" (165 : Nat) ({ cls := "PerilSeatModel", name := "readEnemies", desc := "()V" } : Jvm.MethodName)) ∈ lw_all := lw_g (lw_at lw_m6 24 rfl) rfl
theorem q1291 : (Jvm.Cond.privateMethod ({ cls := "PerilSeatModel", name := "readEnemies", desc := "()V" } : Jvm.MethodName)) ∈ lw_tbl := lw_at lw_m6 25 rfl
theorem q1292 : (Jvm.Cond.instanceMethod ({ cls := "PerilSeatModel", name := "readEnemies", desc := "()V" } : Jvm.MethodName)) ∈ lw_all := lw_g (lw_at lw_m6 26 rfl) rfl
theorem q1293 : (Jvm.Cond.code ({ cls := "PerilSeatModel", name := "readEnemies", desc := "()V" } : Jvm.MethodName) prog_17_method_24_code (3 : Nat) (Option.none : Option Jvm.ClassFile.FieldType)) ∈ lw_all := lw_g (lw_at lw_m6 27 rfl) rfl
theorem q1294 : (Jvm.Cond.methodLink "PerilSeatModel" (168 : Nat) ({ cls := "PerilSeatModel", name := "readPeril", desc := "()V" } : Jvm.MethodName)) ∈ lw_all := lw_g (lw_at lw_m6 28 rfl) rfl
theorem q1295 : (Jvm.Cond.privateMethod ({ cls := "PerilSeatModel", name := "readPeril", desc := "()V" } : Jvm.MethodName)) ∈ lw_tbl := lw_at lw_m6 29 rfl
theorem q1296 : (Jvm.Cond.instanceMethod ({ cls := "PerilSeatModel", name := "readPeril", desc := "()V" } : Jvm.MethodName)) ∈ lw_all := lw_g (lw_at lw_m6 30 rfl) rfl
theorem q1297 : (Jvm.Cond.code ({ cls := "PerilSeatModel", name := "readPeril", desc := "()V" } : Jvm.MethodName) prog_17_method_25_code (3 : Nat) (Option.none : Option Jvm.ClassFile.FieldType)) ∈ lw_all := lw_g (lw_at lw_m6 31 rfl) rfl
theorem q1299 : (Jvm.Cond.instanceMethod ({ cls := "PerilSeatModel", name := "table", desc := "()I" } : Jvm.MethodName)) ∈ lw_all := lw_g (lw_at lw_m6 33 rfl) rfl
theorem q1300 : (Jvm.Cond.selects "PerilSeatModel" ({ cls := "PerilSeatModel", name := "table", desc := "()I" } : Jvm.MethodName) ({ cls := "PerilSeatModel", name := "table", desc := "()I" } : Jvm.MethodName)) ∈ lw_all := lw_g (lw_at lw_m6 34 rfl) rfl
theorem q1301 : (Jvm.Cond.code ({ cls := "PerilSeatModel", name := "table", desc := "()I" } : Jvm.MethodName) prog_17_method_29_code (2 : Nat) (Option.some Jvm.ClassFile.FieldType.int)) ∈ lw_all := lw_g (lw_at lw_m6 35 rfl) rfl
theorem q1303 : (Jvm.Cond.instanceMethod ({ cls := "PerilSeatModel", name := "seat", desc := "(II)I" } : Jvm.MethodName)) ∈ lw_all := lw_g (lw_at lw_m6 37 rfl) rfl
theorem q1304 : (Jvm.Cond.selects "PerilSeatModel" ({ cls := "PerilSeatModel", name := "seat", desc := "(II)I" } : Jvm.MethodName) ({ cls := "PerilSeatModel", name := "seat", desc := "(II)I" } : Jvm.MethodName)) ∈ lw_all := lw_g (lw_at lw_m6 38 rfl) rfl
theorem q1305 : (Jvm.Cond.code ({ cls := "PerilSeatModel", name := "seat", desc := "(II)I" } : Jvm.MethodName) prog_17_method_35_code (3 : Nat) (Option.some Jvm.ClassFile.FieldType.int)) ∈ lw_all := lw_g (lw_at lw_m6 39 rfl) rfl
theorem q1306 : (Jvm.Cond.methodLink "PerilSeatModel" (195 : Nat) ({ cls := "PerilSeatModel", name := "isSeat", desc := "(I)Z" } : Jvm.MethodName)) ∈ lw_all := lw_g (lw_at lw_m6 40 rfl) rfl
theorem q1307 : (Jvm.Cond.privateMethod ({ cls := "PerilSeatModel", name := "isSeat", desc := "(I)Z" } : Jvm.MethodName)) ∈ lw_tbl := lw_at lw_m6 41 rfl
theorem q1308 : (Jvm.Cond.instanceMethod ({ cls := "PerilSeatModel", name := "isSeat", desc := "(I)Z" } : Jvm.MethodName)) ∈ lw_all := lw_g (lw_at lw_m6 42 rfl) rfl
theorem q1309 : (Jvm.Cond.code ({ cls := "PerilSeatModel", name := "isSeat", desc := "(I)Z" } : Jvm.MethodName) prog_17_method_7_code (2 : Nat) (Option.some Jvm.ClassFile.FieldType.boolean)) ∈ lw_all := lw_g (lw_at lw_m6 43 rfl) rfl
theorem q1310 : (Jvm.Cond.methodLink "PerilSeatModel" (198 : Nat) ({ cls := "PerilSeatModel", name := "sitter", desc := "(I)I" } : Jvm.MethodName)) ∈ lw_all := lw_g (lw_at lw_m6 44 rfl) rfl
theorem q1311 : (Jvm.Cond.privateMethod ({ cls := "PerilSeatModel", name := "sitter", desc := "(I)I" } : Jvm.MethodName)) ∈ lw_tbl := lw_at lw_m6 45 rfl
theorem q1312 : (Jvm.Cond.instanceMethod ({ cls := "PerilSeatModel", name := "sitter", desc := "(I)I" } : Jvm.MethodName)) ∈ lw_all := lw_g (lw_at lw_m6 46 rfl) rfl
theorem q1313 : (Jvm.Cond.code ({ cls := "PerilSeatModel", name := "sitter", desc := "(I)I" } : Jvm.MethodName) prog_17_method_34_code (4 : Nat) (Option.some Jvm.ClassFile.FieldType.int)) ∈ lw_all := lw_g (lw_at lw_m6 47 rfl) rfl
theorem q1314 : (Jvm.Cond.methodLink "PerilSeatModel" (192 : Nat) ({ cls := "PerilSeatModel", name := "perilOn", desc := "()I" } : Jvm.MethodName)) ∈ lw_all := lw_g (lw_at lw_m6 48 rfl) rfl
theorem q1315 : (Jvm.Cond.privateMethod ({ cls := "PerilSeatModel", name := "perilOn", desc := "()I" } : Jvm.MethodName)) ∈ lw_tbl := lw_at lw_m6 49 rfl
theorem q1316 : (Jvm.Cond.instanceMethod ({ cls := "PerilSeatModel", name := "perilOn", desc := "()I" } : Jvm.MethodName)) ∈ lw_all := lw_g (lw_at lw_m6 50 rfl) rfl
theorem q1317 : (Jvm.Cond.code ({ cls := "PerilSeatModel", name := "perilOn", desc := "()I" } : Jvm.MethodName) prog_17_method_32_code (1 : Nat) (Option.some Jvm.ClassFile.FieldType.int)) ∈ lw_all := lw_g (lw_at lw_m6 51 rfl) rfl
theorem q1319 : (Jvm.Cond.instanceMethod ({ cls := "PerilSeatModel", name := "knight", desc := "(II)I" } : Jvm.MethodName)) ∈ lw_all := lw_g (lw_at lw_m6 53 rfl) rfl
theorem q1320 : (Jvm.Cond.selects "PerilSeatModel" ({ cls := "PerilSeatModel", name := "knight", desc := "(II)I" } : Jvm.MethodName) ({ cls := "PerilSeatModel", name := "knight", desc := "(II)I" } : Jvm.MethodName)) ∈ lw_all := lw_g (lw_at lw_m6 54 rfl) rfl
theorem q1321 : (Jvm.Cond.code ({ cls := "PerilSeatModel", name := "knight", desc := "(II)I" } : Jvm.MethodName) prog_17_method_36_code (3 : Nat) (Option.some Jvm.ClassFile.FieldType.int)) ∈ lw_all := lw_g (lw_at lw_m6 55 rfl) rfl
theorem q1322 : (Jvm.Cond.methodLink "PerilSeatModel" (82 : Nat) ({ cls := "PerilSeatModel", name := "isKnight", desc := "(I)Z" } : Jvm.MethodName)) ∈ lw_all := lw_g (lw_at lw_m6 56 rfl) rfl
theorem q1323 : (Jvm.Cond.privateMethod ({ cls := "PerilSeatModel", name := "isKnight", desc := "(I)Z" } : Jvm.MethodName)) ∈ lw_tbl := lw_at lw_m6 57 rfl
theorem q1324 : (Jvm.Cond.instanceMethod ({ cls := "PerilSeatModel", name := "isKnight", desc := "(I)Z" } : Jvm.MethodName)) ∈ lw_all := lw_g (lw_at lw_m6 58 rfl) rfl
theorem q1325 : (Jvm.Cond.code ({ cls := "PerilSeatModel", name := "isKnight", desc := "(I)Z" } : Jvm.MethodName) prog_17_method_8_code (2 : Nat) (Option.some Jvm.ClassFile.FieldType.boolean)) ∈ lw_all := lw_g (lw_at lw_m6 59 rfl) rfl
theorem q1326 : (Jvm.Cond.methodLink "PerilSeatModel" (86 : Nat) ({ cls := "PerilSeatModel", name := "has", desc := "(II)Z" } : Jvm.MethodName)) ∈ lw_all := lw_g (lw_at lw_m6 60 rfl) rfl
theorem q1327 : (Jvm.Cond.static ({ cls := "PerilSeatModel", name := "has", desc := "(II)Z" } : Jvm.MethodName)) ∈ lw_all := lw_g (lw_at lw_m6 61 rfl) rfl
theorem q1328 : (Jvm.Cond.code ({ cls := "PerilSeatModel", name := "has", desc := "(II)Z" } : Jvm.MethodName) prog_17_method_5_code (2 : Nat) (Option.some Jvm.ClassFile.FieldType.boolean)) ∈ lw_all := lw_g (lw_at lw_m6 62 rfl) rfl
theorem q1330 : (Jvm.Cond.instanceMethod ({ cls := "PerilSeatModel", name := "as", desc := "(II)I" } : Jvm.MethodName)) ∈ lw_all := lw_g (lw_at lw_m6 64 rfl) rfl
theorem q1331 : (Jvm.Cond.selects "PerilSeatModel" ({ cls := "PerilSeatModel", name := "as", desc := "(II)I" } : Jvm.MethodName) ({ cls := "PerilSeatModel", name := "as", desc := "(II)I" } : Jvm.MethodName)) ∈ lw_all := lw_g (lw_at lw_m6 65 rfl) rfl
theorem q1332 : (Jvm.Cond.code ({ cls := "PerilSeatModel", name := "as", desc := "(II)I" } : Jvm.MethodName) prog_17_method_37_code (6 : Nat) (Option.some Jvm.ClassFile.FieldType.int)) ∈ lw_all := lw_g (lw_at lw_m6 66 rfl) rfl
theorem q1333 : (Jvm.Cond.methodLink "PerilSeatModel" (189 : Nat) ({ cls := "PerilSeatModel", name := "fits", desc := "(II)Z" } : Jvm.MethodName)) ∈ lw_all := lw_g (lw_at lw_m6 67 rfl) rfl
theorem q1334 : (Jvm.Cond.privateMethod ({ cls := "PerilSeatModel", name := "fits", desc := "(II)Z" } : Jvm.MethodName)) ∈ lw_tbl := lw_at lw_m6 68 rfl
theorem q1335 : (Jvm.Cond.instanceMethod ({ cls := "PerilSeatModel", name := "fits", desc := "(II)Z" } : Jvm.MethodName)) ∈ lw_all := lw_g (lw_at lw_m6 69 rfl) rfl
theorem q1336 : (Jvm.Cond.code ({ cls := "PerilSeatModel", name := "fits", desc := "(II)Z" } : Jvm.MethodName) prog_17_method_31_code (3 : Nat) (Option.some Jvm.ClassFile.FieldType.boolean)) ∈ lw_all := lw_g (lw_at lw_m6 70 rfl) rfl
theorem q1337 : (Jvm.Cond.methodLink "PerilSeatModel" (186 : Nat) ({ cls := "PerilSeatModel", name := "fitsBy", desc := "(III)Z" } : Jvm.MethodName)) ∈ lw_all := lw_g (lw_at lw_m6 71 rfl) rfl
theorem q1338 : (Jvm.Cond.privateMethod ({ cls := "PerilSeatModel", name := "fitsBy", desc := "(III)Z" } : Jvm.MethodName)) ∈ lw_tbl := lw_at lw_m6 72 rfl
theorem q1339 : (Jvm.Cond.instanceMethod ({ cls := "PerilSeatModel", name := "fitsBy", desc := "(III)Z" } : Jvm.MethodName)) ∈ lw_all := lw_g (lw_at lw_m6 73 rfl) rfl
theorem q1340 : (Jvm.Cond.code ({ cls := "PerilSeatModel", name := "fitsBy", desc := "(III)Z" } : Jvm.MethodName) prog_17_method_30_code (6 : Nat) (Option.some Jvm.ClassFile.FieldType.boolean)) ∈ lw_all := lw_g (lw_at lw_m6 74 rfl) rfl
theorem q1342 : (Jvm.Cond.instanceMethod ({ cls := "PerilSeatModel", name := "seatAs", desc := "(II)I" } : Jvm.MethodName)) ∈ lw_all := lw_g (lw_at lw_m6 76 rfl) rfl
theorem q1343 : (Jvm.Cond.selects "PerilSeatModel" ({ cls := "PerilSeatModel", name := "seatAs", desc := "(II)I" } : Jvm.MethodName) ({ cls := "PerilSeatModel", name := "seatAs", desc := "(II)I" } : Jvm.MethodName)) ∈ lw_all := lw_g (lw_at lw_m6 77 rfl) rfl
theorem q1344 : (Jvm.Cond.code ({ cls := "PerilSeatModel", name := "seatAs", desc := "(II)I" } : Jvm.MethodName) prog_17_method_38_code (6 : Nat) (Option.some Jvm.ClassFile.FieldType.int)) ∈ lw_all := lw_g (lw_at lw_m6 78 rfl) rfl
theorem q1345 : (Jvm.Cond.methodLink "PerilSeatModel" (201 : Nat) ({ cls := "PerilSeatModel", name := "isThere", desc := "(I)Z" } : Jvm.MethodName)) ∈ lw_all := lw_g (lw_at lw_m6 79 rfl) rfl
theorem q1346 : (Jvm.Cond.privateMethod ({ cls := "PerilSeatModel", name := "isThere", desc := "(I)Z" } : Jvm.MethodName)) ∈ lw_tbl := lw_at lw_m6 80 rfl
theorem q1347 : (Jvm.Cond.instanceMethod ({ cls := "PerilSeatModel", name := "isThere", desc := "(I)Z" } : Jvm.MethodName)) ∈ lw_all := lw_g (lw_at lw_m6 81 rfl) rfl
theorem q1348 : (Jvm.Cond.code ({ cls := "PerilSeatModel", name := "isThere", desc := "(I)Z" } : Jvm.MethodName) prog_17_method_9_code (2 : Nat) (Option.some Jvm.ClassFile.FieldType.boolean)) ∈ lw_all := lw_g (lw_at lw_m6 82 rfl) rfl
theorem q1350 : (Jvm.Cond.instanceMethod ({ cls := "PerilSeatModel", name := "sit", desc := "(II)I" } : Jvm.MethodName)) ∈ lw_all := lw_g (lw_at lw_m6 84 rfl) rfl
theorem q1351 : (Jvm.Cond.selects "PerilSeatModel" ({ cls := "PerilSeatModel", name := "sit", desc := "(II)I" } : Jvm.MethodName) ({ cls := "PerilSeatModel", name := "sit", desc := "(II)I" } : Jvm.MethodName)) ∈ lw_all := lw_g (lw_at lw_m6 85 rfl) rfl
theorem q1352 : (Jvm.Cond.code ({ cls := "PerilSeatModel", name := "sit", desc := "(II)I" } : Jvm.MethodName) prog_17_method_42_code (3 : Nat) (Option.some Jvm.ClassFile.FieldType.int)) ∈ lw_all := lw_g (lw_at lw_m6 86 rfl) rfl
theorem q1353 : (Jvm.Cond.methodLink "PerilSeatModel" (204 : Nat) ({ cls := "PerilSeatModel", name := "remembers", desc := "()V" } : Jvm.MethodName)) ∈ lw_all := lw_g (lw_at lw_m6 87 rfl) rfl
theorem q1354 : (Jvm.Cond.privateMethod ({ cls := "PerilSeatModel", name := "remembers", desc := "()V" } : Jvm.MethodName)) ∈ lw_tbl := lw_at lw_m6 88 rfl
theorem q1355 : (Jvm.Cond.instanceMethod ({ cls := "PerilSeatModel", name := "remembers", desc := "()V" } : Jvm.MethodName)) ∈ lw_all := lw_g (lw_at lw_m6 89 rfl) rfl
theorem q1356 : (Jvm.Cond.code ({ cls := "PerilSeatModel", name := "remembers", desc := "()V" } : Jvm.MethodName) prog_17_method_39_code (2 : Nat) (Option.none : Option Jvm.ClassFile.FieldType)) ∈ lw_all := lw_g (lw_at lw_m6 90 rfl) rfl
theorem q1357 : (Jvm.Cond.methodLink "PerilSeatModel" (207 : Nat) ({ cls := "PerilSeatModel", name := "sitting", desc := "()I" } : Jvm.MethodName)) ∈ lw_all := lw_g (lw_at lw_m6 91 rfl) rfl
theorem q1358 : (Jvm.Cond.privateMethod ({ cls := "PerilSeatModel", name := "sitting", desc := "()I" } : Jvm.MethodName)) ∈ lw_tbl := lw_at lw_m6 92 rfl
theorem q1359 : (Jvm.Cond.instanceMethod ({ cls := "PerilSeatModel", name := "sitting", desc := "()I" } : Jvm.MethodName)) ∈ lw_all := lw_g (lw_at lw_m6 93 rfl) rfl
theorem q1360 : (Jvm.Cond.code ({ cls := "PerilSeatModel", name := "sitting", desc := "()I" } : Jvm.MethodName) prog_17_method_40_code (3 : Nat) (Option.some Jvm.ClassFile.FieldType.int)) ∈ lw_all := lw_g (lw_at lw_m6 94 rfl) rfl
theorem q1361 : (Jvm.Cond.methodLink "PerilSeatModel" (210 : Nat) ({ cls := "PerilSeatModel", name := "bits", desc := "(I)I" } : Jvm.MethodName)) ∈ lw_all := lw_g (lw_at lw_m6 95 rfl) rfl
theorem q1362 : (Jvm.Cond.static ({ cls := "PerilSeatModel", name := "bits", desc := "(I)I" } : Jvm.MethodName)) ∈ lw_all := lw_g (lw_at lw_m6 96 rfl) rfl
theorem q1363 : (Jvm.Cond.code ({ cls := "PerilSeatModel", name := "bits", desc := "(I)I" } : Jvm.MethodName) prog_17_method_6_code (3 : Nat) (Option.some Jvm.ClassFile.FieldType.int)) ∈ lw_all := lw_g (lw_at lw_m6 97 rfl) rfl
theorem q1365 : (Jvm.Cond.instanceMethod ({ cls := "PerilSeatModel", name := "rise", desc := "()I" } : Jvm.MethodName)) ∈ lw_all := lw_g (lw_at lw_m6 99 rfl) rfl
theorem q1366 : (Jvm.Cond.selects "PerilSeatModel" ({ cls := "PerilSeatModel", name := "rise", desc := "()I" } : Jvm.MethodName) ({ cls := "PerilSeatModel", name := "rise", desc := "()I" } : Jvm.MethodName)) ∈ lw_all := lw_g (lw_at lw_m6 100 rfl) rfl
theorem q1367 : (Jvm.Cond.code ({ cls := "PerilSeatModel", name := "rise", desc := "()I" } : Jvm.MethodName) prog_17_method_43_code (2 : Nat) (Option.some Jvm.ClassFile.FieldType.int)) ∈ lw_all := lw_g (lw_at lw_m6 101 rfl) rfl
theorem q1368 : (Jvm.Cond.methodLink "PerilSeatModel" (213 : Nat) ({ cls := "PerilSeatModel", name := "allRise", desc := "()V" } : Jvm.MethodName)) ∈ lw_all := lw_g (lw_at lw_m6 102 rfl) rfl
theorem q1369 : (Jvm.Cond.privateMethod ({ cls := "PerilSeatModel", name := "allRise", desc := "()V" } : Jvm.MethodName)) ∈ lw_tbl := lw_at lw_m6 103 rfl
theorem q1370 : (Jvm.Cond.instanceMethod ({ cls := "PerilSeatModel", name := "allRise", desc := "()V" } : Jvm.MethodName)) ∈ lw_all := lw_g (lw_at lw_m6 104 rfl) rfl
theorem q1371 : (Jvm.Cond.code ({ cls := "PerilSeatModel", name := "allRise", desc := "()V" } : Jvm.MethodName) prog_17_method_41_code (2 : Nat) (Option.none : Option Jvm.ClassFile.FieldType)) ∈ lw_all := lw_g (lw_at lw_m6 105 rfl) rfl
theorem q1373 : (Jvm.Cond.instanceMethod ({ cls := "PerilSeatModel", name := "tell", desc := "(II)I" } : Jvm.MethodName)) ∈ lw_all := lw_g (lw_at lw_m6 107 rfl) rfl
theorem q1374 : (Jvm.Cond.selects "PerilSeatModel" ({ cls := "PerilSeatModel", name := "tell", desc := "(II)I" } : Jvm.MethodName) ({ cls := "PerilSeatModel", name := "tell", desc := "(II)I" } : Jvm.MethodName)) ∈ lw_all := lw_g (lw_at lw_m6 108 rfl) rfl
theorem q1375 : (Jvm.Cond.code ({ cls := "PerilSeatModel", name := "tell", desc := "(II)I" } : Jvm.MethodName) prog_17_method_44_code (3 : Nat) (Option.some Jvm.ClassFile.FieldType.int)) ∈ lw_all := lw_g (lw_at lw_m6 109 rfl) rfl
theorem q1377 : (Jvm.Cond.instanceMethod ({ cls := "PerilSeatModel", name := "feast", desc := "()I" } : Jvm.MethodName)) ∈ lw_all := lw_g (lw_at lw_m6 111 rfl) rfl
theorem q1378 : (Jvm.Cond.selects "PerilSeatModel" ({ cls := "PerilSeatModel", name := "feast", desc := "()I" } : Jvm.MethodName) ({ cls := "PerilSeatModel", name := "feast", desc := "()I" } : Jvm.MethodName)) ∈ lw_all := lw_g (lw_at lw_m6 112 rfl) rfl
theorem q1379 : (Jvm.Cond.code ({ cls := "PerilSeatModel", name := "feast", desc := "()I" } : Jvm.MethodName) prog_17_method_48_code (6 : Nat) (Option.some Jvm.ClassFile.FieldType.int)) ∈ lw_all := lw_g (lw_at lw_m6 113 rfl) rfl
theorem q1380 : (Jvm.Cond.methodLink "PerilSeatModel" (219 : Nat) ({ cls := "PerilSeatModel", name := "wrongs", desc := "()I" } : Jvm.MethodName)) ∈ lw_all := lw_g (lw_at lw_m6 114 rfl) rfl
theorem q1381 : (Jvm.Cond.privateMethod ({ cls := "PerilSeatModel", name := "wrongs", desc := "()I" } : Jvm.MethodName)) ∈ lw_tbl := lw_at lw_m6 115 rfl
theorem q1382 : (Jvm.Cond.instanceMethod ({ cls := "PerilSeatModel", name := "wrongs", desc := "()I" } : Jvm.MethodName)) ∈ lw_all := lw_g (lw_at lw_m6 116 rfl) rfl
theorem q1383 : (Jvm.Cond.code ({ cls := "PerilSeatModel", name := "wrongs", desc := "()I" } : Jvm.MethodName) prog_17_method_47_code (3 : Nat) (Option.some Jvm.ClassFile.FieldType.int)) ∈ lw_all := lw_g (lw_at lw_m6 117 rfl) rfl
theorem q1384 : (Jvm.Cond.methodLink "PerilSeatModel" (216 : Nat) ({ cls := "PerilSeatModel", name := "isWrong", desc := "(II)Z" } : Jvm.MethodName)) ∈ lw_all := lw_g (lw_at lw_m6 118 rfl) rfl
theorem q1385 : (Jvm.Cond.privateMethod ({ cls := "PerilSeatModel", name := "isWrong", desc := "(II)Z" } : Jvm.MethodName)) ∈ lw_tbl := lw_at lw_m6 119 rfl
theorem q1386 : (Jvm.Cond.instanceMethod ({ cls := "PerilSeatModel", name := "isWrong", desc := "(II)Z" } : Jvm.MethodName)) ∈ lw_all := lw_g (lw_at lw_m6 120 rfl) rfl
theorem q1387 : (Jvm.Cond.code ({ cls := "PerilSeatModel", name := "isWrong", desc := "(II)Z" } : Jvm.MethodName) prog_17_method_33_code (3 : Nat) (Option.some Jvm.ClassFile.FieldType.boolean)) ∈ lw_all := lw_g (lw_at lw_m6 121 rfl) rfl
theorem q1388 : (Jvm.Cond.methodLink "PerilSeatModel" (222 : Nat) ({ cls := "PerilSeatModel", name := "beside", desc := "(II)I" } : Jvm.MethodName)) ∈ lw_all := lw_g (lw_at lw_m6 122 rfl) rfl
theorem q1389 : (Jvm.Cond.privateMethod ({ cls := "PerilSeatModel", name := "beside", desc := "(II)I" } : Jvm.MethodName)) ∈ lw_tbl := lw_at lw_m6 123 rfl
theorem q1390 : (Jvm.Cond.instanceMethod ({ cls := "PerilSeatModel", name := "beside", desc := "(II)I" } : Jvm.MethodName)) ∈ lw_all := lw_g (lw_at lw_m6 124 rfl) rfl
theorem q1391 : (Jvm.Cond.code ({ cls := "PerilSeatModel", name := "beside", desc := "(II)I" } : Jvm.MethodName) prog_17_method_45_code (3 : Nat) (Option.some Jvm.ClassFile.FieldType.int)) ∈ lw_all := lw_g (lw_at lw_m6 125 rfl) rfl
theorem q1392 : (Jvm.Cond.methodLink "PerilSeatModel" (225 : Nat) ({ cls := "PerilSeatModel", name := "areEnemies", desc := "(II)Z" } : Jvm.MethodName)) ∈ lw_all := lw_g (lw_at lw_m6 126 rfl) rfl
theorem q1393 : (Jvm.Cond.privateMethod ({ cls := "PerilSeatModel", name := "areEnemies", desc := "(II)Z" } : Jvm.MethodName)) ∈ lw_tbl := lw_at lw_m6 127 rfl
theorem q1394 : (Jvm.Cond.instanceMethod ({ cls := "PerilSeatModel", name := "areEnemies", desc := "(II)Z" } : Jvm.MethodName)) ∈ lw_all := lw_g (lw_at lw_m6 128 rfl) rfl
theorem q1395 : (Jvm.Cond.code ({ cls := "PerilSeatModel", name := "areEnemies", desc := "(II)Z" } : Jvm.MethodName) prog_17_method_46_code (3 : Nat) (Option.some Jvm.ClassFile.FieldType.boolean)) ∈ lw_all := lw_g (lw_at lw_m6 129 rfl) rfl
theorem q1397 : (Jvm.Cond.instanceMethod ({ cls := "PerilSeatModel", name := "undo", desc := "()I" } : Jvm.MethodName)) ∈ lw_all := lw_g (lw_at lw_m6 131 rfl) rfl
theorem q1398 : (Jvm.Cond.selects "PerilSeatModel" ({ cls := "PerilSeatModel", name := "undo", desc := "()I" } : Jvm.MethodName) ({ cls := "PerilSeatModel", name := "undo", desc := "()I" } : Jvm.MethodName)) ∈ lw_all := lw_g (lw_at lw_m6 132 rfl) rfl
theorem q1399 : (Jvm.Cond.code ({ cls := "PerilSeatModel", name := "undo", desc := "()I" } : Jvm.MethodName) prog_17_method_49_code (2 : Nat) (Option.some Jvm.ClassFile.FieldType.int)) ∈ lw_all := lw_g (lw_at lw_m6 133 rfl) rfl
theorem q1401 : (Jvm.Cond.instanceMethod ({ cls := "PerilSeatModel", name := "keep", desc := "(I)I" } : Jvm.MethodName)) ∈ lw_all := lw_g (lw_at lw_m6 135 rfl) rfl
theorem q1402 : (Jvm.Cond.selects "PerilSeatModel" ({ cls := "PerilSeatModel", name := "keep", desc := "(I)I" } : Jvm.MethodName) ({ cls := "PerilSeatModel", name := "keep", desc := "(I)I" } : Jvm.MethodName)) ∈ lw_all := lw_g (lw_at lw_m6 136 rfl) rfl
theorem q1403 : (Jvm.Cond.code ({ cls := "PerilSeatModel", name := "keep", desc := "(I)I" } : Jvm.MethodName) prog_17_method_50_code (3 : Nat) (Option.some Jvm.ClassFile.FieldType.int)) ∈ lw_all := lw_g (lw_at lw_m6 137 rfl) rfl
theorem q1405 : (Jvm.Cond.instanceMethod ({ cls := "PerilSeatModel", name := "back", desc := "(I)I" } : Jvm.MethodName)) ∈ lw_all := lw_g (lw_at lw_m6 139 rfl) rfl
theorem q1406 : (Jvm.Cond.selects "PerilSeatModel" ({ cls := "PerilSeatModel", name := "back", desc := "(I)I" } : Jvm.MethodName) ({ cls := "PerilSeatModel", name := "back", desc := "(I)I" } : Jvm.MethodName)) ∈ lw_all := lw_g (lw_at lw_m6 140 rfl) rfl
theorem q1407 : (Jvm.Cond.code ({ cls := "PerilSeatModel", name := "back", desc := "(I)I" } : Jvm.MethodName) prog_17_method_51_code (3 : Nat) (Option.some Jvm.ClassFile.FieldType.int)) ∈ lw_all := lw_g (lw_at lw_m6 141 rfl) rfl
theorem q1409 : (Jvm.Cond.instanceMethod ({ cls := "PerilSeatModel", name := "seatings", desc := "()I" } : Jvm.MethodName)) ∈ lw_all := lw_g (lw_at lw_m6 143 rfl) rfl
theorem q1410 : (Jvm.Cond.selects "PerilSeatModel" ({ cls := "PerilSeatModel", name := "seatings", desc := "()I" } : Jvm.MethodName) ({ cls := "PerilSeatModel", name := "seatings", desc := "()I" } : Jvm.MethodName)) ∈ lw_all := lw_g (lw_at lw_m6 144 rfl) rfl
theorem q1411 : (Jvm.Cond.code ({ cls := "PerilSeatModel", name := "seatings", desc := "()I" } : Jvm.MethodName) prog_17_method_57_code (1 : Nat) (Option.some Jvm.ClassFile.FieldType.int)) ∈ lw_all := lw_g (lw_at lw_m6 145 rfl) rfl
theorem q1412 : (Jvm.Cond.methodLink "PerilSeatModel" (249 : Nat) ({ cls := "PerilSeatModel", name := "findSeatings", desc := "(I)V" } : Jvm.MethodName)) ∈ lw_all := lw_g (lw_at lw_m6 146 rfl) rfl
theorem q1413 : (Jvm.Cond.privateMethod ({ cls := "PerilSeatModel", name := "findSeatings", desc := "(I)V" } : Jvm.MethodName)) ∈ lw_tbl := lw_at lw_m6 147 rfl
theorem q1414 : (Jvm.Cond.instanceMethod ({ cls := "PerilSeatModel", name := "findSeatings", desc := "(I)V" } : Jvm.MethodName)) ∈ lw_all := lw_g (lw_at lw_m6 148 rfl) rfl
theorem q1415 : (Jvm.Cond.code ({ cls := "PerilSeatModel", name := "findSeatings", desc := "(I)V" } : Jvm.MethodName) prog_17_method_56_code (4 : Nat) (Option.none : Option Jvm.ClassFile.FieldType)) ∈ lw_all := lw_g (lw_at lw_m6 149 rfl) rfl
theorem q1416 : (Jvm.Cond.methodLink "PerilSeatModel" (240 : Nat) ({ cls := "PerilSeatModel", name := "nextThere", desc := "(II)I" } : Jvm.MethodName)) ∈ lw_all := lw_g (lw_at lw_m6 150 rfl) rfl
theorem q1417 : (Jvm.Cond.privateMethod ({ cls := "PerilSeatModel", name := "nextThere", desc := "(II)I" } : Jvm.MethodName)) ∈ lw_tbl := lw_at lw_m6 151 rfl
theorem q1418 : (Jvm.Cond.instanceMethod ({ cls := "PerilSeatModel", name := "nextThere", desc := "(II)I" } : Jvm.MethodName)) ∈ lw_all := lw_g (lw_at lw_m6 152 rfl) rfl
theorem q1419 : (Jvm.Cond.code ({ cls := "PerilSeatModel", name := "nextThere", desc := "(II)I" } : Jvm.MethodName) prog_17_method_55_code (4 : Nat) (Option.some Jvm.ClassFile.FieldType.int)) ∈ lw_all := lw_g (lw_at lw_m6 153 rfl) rfl
theorem q1420 : (Jvm.Cond.methodLink "PerilSeatModel" (243 : Nat) ({ cls := "PerilSeatModel", name := "finds", desc := "(I)V" } : Jvm.MethodName)) ∈ lw_all := lw_g (lw_at lw_m6 154 rfl) rfl
theorem q1421 : (Jvm.Cond.privateMethod ({ cls := "PerilSeatModel", name := "finds", desc := "(I)V" } : Jvm.MethodName)) ∈ lw_tbl := lw_at lw_m6 155 rfl
theorem q1422 : (Jvm.Cond.instanceMethod ({ cls := "PerilSeatModel", name := "finds", desc := "(I)V" } : Jvm.MethodName)) ∈ lw_all := lw_g (lw_at lw_m6 156 rfl) rfl
theorem q1423 : (Jvm.Cond.code ({ cls := "PerilSeatModel", name := "finds", desc := "(I)V" } : Jvm.MethodName) prog_17_method_54_code (6 : Nat) (Option.none : Option Jvm.ClassFile.FieldType)) ∈ lw_all := lw_g (lw_at lw_m6 157 rfl) rfl
theorem q1424 : (Jvm.Cond.methodLink "PerilSeatModel" (228 : Nat) ({ cls := "PerilSeatModel", name := "sitterBy", desc := "(I)I" } : Jvm.MethodName)) ∈ lw_all := lw_g (lw_at lw_m6 158 rfl) rfl
theorem q1425 : (Jvm.Cond.privateMethod ({ cls := "PerilSeatModel", name := "sitterBy", desc := "(I)I" } : Jvm.MethodName)) ∈ lw_tbl := lw_at lw_m6 159 rfl
theorem q1426 : (Jvm.Cond.instanceMethod ({ cls := "PerilSeatModel", name := "sitterBy", desc := "(I)I" } : Jvm.MethodName)) ∈ lw_all := lw_g (lw_at lw_m6 160 rfl) rfl
theorem q1427 : (Jvm.Cond.code ({ cls := "PerilSeatModel", name := "sitterBy", desc := "(I)I" } : Jvm.MethodName) prog_17_method_52_code (4 : Nat) (Option.some Jvm.ClassFile.FieldType.int)) ∈ lw_all := lw_g (lw_at lw_m6 161 rfl) rfl
theorem q1428 : (Jvm.Cond.methodLink "PerilSeatModel" (246 : Nat) ({ cls := "PerilSeatModel", name := "maySit", desc := "(II)Z" } : Jvm.MethodName)) ∈ lw_all := lw_g (lw_at lw_m6 162 rfl) rfl
theorem q1429 : (Jvm.Cond.privateMethod ({ cls := "PerilSeatModel", name := "maySit", desc := "(II)Z" } : Jvm.MethodName)) ∈ lw_tbl := lw_at lw_m6 163 rfl
theorem q1430 : (Jvm.Cond.instanceMethod ({ cls := "PerilSeatModel", name := "maySit", desc := "(II)Z" } : Jvm.MethodName)) ∈ lw_all := lw_g (lw_at lw_m6 164 rfl) rfl
theorem q1431 : (Jvm.Cond.code ({ cls := "PerilSeatModel", name := "maySit", desc := "(II)Z" } : Jvm.MethodName) prog_17_method_53_code (5 : Nat) (Option.some Jvm.ClassFile.FieldType.boolean)) ∈ lw_all := lw_g (lw_at lw_m6 165 rfl) rfl
theorem q1433 : (Jvm.Cond.instanceMethod ({ cls := "PerilSeatModel", name := "seatOf", desc := "(I)I" } : Jvm.MethodName)) ∈ lw_all := lw_g (lw_at lw_m6 167 rfl) rfl
theorem q1434 : (Jvm.Cond.selects "PerilSeatModel" ({ cls := "PerilSeatModel", name := "seatOf", desc := "(I)I" } : Jvm.MethodName) ({ cls := "PerilSeatModel", name := "seatOf", desc := "(I)I" } : Jvm.MethodName)) ∈ lw_all := lw_g (lw_at lw_m6 168 rfl) rfl
theorem q1435 : (Jvm.Cond.code ({ cls := "PerilSeatModel", name := "seatOf", desc := "(I)I" } : Jvm.MethodName) prog_17_method_58_code (2 : Nat) (Option.some Jvm.ClassFile.FieldType.int)) ∈ lw_all := lw_g (lw_at lw_m6 169 rfl) rfl
theorem q1437 : (Jvm.Cond.instanceMethod ({ cls := "PerilSeatModel", name := "moved", desc := "()I" } : Jvm.MethodName)) ∈ lw_all := lw_g (lw_at lw_m6 171 rfl) rfl
theorem q1438 : (Jvm.Cond.selects "PerilSeatModel" ({ cls := "PerilSeatModel", name := "moved", desc := "()I" } : Jvm.MethodName) ({ cls := "PerilSeatModel", name := "moved", desc := "()I" } : Jvm.MethodName)) ∈ lw_all := lw_g (lw_at lw_m6 172 rfl) rfl
theorem q1439 : (Jvm.Cond.code ({ cls := "PerilSeatModel", name := "moved", desc := "()I" } : Jvm.MethodName) prog_17_method_59_code (1 : Nat) (Option.some Jvm.ClassFile.FieldType.int)) ∈ lw_all := lw_g (lw_at lw_m6 173 rfl) rfl
theorem q1441 : (Jvm.Cond.instanceMethod ({ cls := "PerilSeatModel", name := "knows", desc := "(I)I" } : Jvm.MethodName)) ∈ lw_all := lw_g (lw_at lw_m6 175 rfl) rfl
theorem q1442 : (Jvm.Cond.selects "PerilSeatModel" ({ cls := "PerilSeatModel", name := "knows", desc := "(I)I" } : Jvm.MethodName) ({ cls := "PerilSeatModel", name := "knows", desc := "(I)I" } : Jvm.MethodName)) ∈ lw_all := lw_g (lw_at lw_m6 176 rfl) rfl
theorem q1443 : (Jvm.Cond.code ({ cls := "PerilSeatModel", name := "knows", desc := "(I)I" } : Jvm.MethodName) prog_17_method_60_code (2 : Nat) (Option.some Jvm.ClassFile.FieldType.int)) ∈ lw_all := lw_g (lw_at lw_m6 177 rfl) rfl
theorem q1445 : (Jvm.Cond.instanceMethod ({ cls := "PerilSeatModel", name := "judge", desc := "(I)I" } : Jvm.MethodName)) ∈ lw_all := lw_g (lw_at lw_m6 179 rfl) rfl
theorem q1446 : (Jvm.Cond.selects "PerilSeatModel" ({ cls := "PerilSeatModel", name := "judge", desc := "(I)I" } : Jvm.MethodName) ({ cls := "PerilSeatModel", name := "judge", desc := "(I)I" } : Jvm.MethodName)) ∈ lw_all := lw_g (lw_at lw_m6 180 rfl) rfl
theorem q1447 : (Jvm.Cond.code ({ cls := "PerilSeatModel", name := "judge", desc := "(I)I" } : Jvm.MethodName) prog_17_method_61_code (4 : Nat) (Option.some Jvm.ClassFile.FieldType.int)) ∈ lw_all := lw_g (lw_at lw_m6 181 rfl) rfl
theorem q1449 : (Jvm.Cond.instanceMethod ({ cls := "PerilSeatModel", name := "seen", desc := "(IIII)I" } : Jvm.MethodName)) ∈ lw_all := lw_g (lw_at lw_m6 183 rfl) rfl
theorem q1450 : (Jvm.Cond.selects "PerilSeatModel" ({ cls := "PerilSeatModel", name := "seen", desc := "(IIII)I" } : Jvm.MethodName) ({ cls := "PerilSeatModel", name := "seen", desc := "(IIII)I" } : Jvm.MethodName)) ∈ lw_all := lw_g (lw_at lw_m6 184 rfl) rfl
theorem q1451 : (Jvm.Cond.code ({ cls := "PerilSeatModel", name := "seen", desc := "(IIII)I" } : Jvm.MethodName) prog_17_method_62_code (5 : Nat) (Option.some Jvm.ClassFile.FieldType.int)) ∈ lw_all := lw_g (lw_at lw_m6 185 rfl) rfl
theorem q1453 : (Jvm.Cond.instanceMethod ({ cls := "PerilSeatModel", name := "forget", desc := "()I" } : Jvm.MethodName)) ∈ lw_all := lw_g (lw_at lw_m6 187 rfl) rfl
theorem q1454 : (Jvm.Cond.selects "PerilSeatModel" ({ cls := "PerilSeatModel", name := "forget", desc := "()I" } : Jvm.MethodName) ({ cls := "PerilSeatModel", name := "forget", desc := "()I" } : Jvm.MethodName)) ∈ lw_all := lw_g (lw_at lw_m6 188 rfl) rfl
theorem q1455 : (Jvm.Cond.code ({ cls := "PerilSeatModel", name := "forget", desc := "()I" } : Jvm.MethodName) prog_17_method_63_code (2 : Nat) (Option.some Jvm.ClassFile.FieldType.int)) ∈ lw_all := lw_g (lw_at lw_m6 189 rfl) rfl
theorem q1457 : (Jvm.Cond.instanceMethod ({ cls := "PerilSeatModel", name := "worlds", desc := "(I)I" } : Jvm.MethodName)) ∈ lw_all := lw_g (lw_at lw_m6 191 rfl) rfl
theorem q1458 : (Jvm.Cond.selects "PerilSeatModel" ({ cls := "PerilSeatModel", name := "worlds", desc := "(I)I" } : Jvm.MethodName) ({ cls := "PerilSeatModel", name := "worlds", desc := "(I)I" } : Jvm.MethodName)) ∈ lw_all := lw_g (lw_at lw_m6 192 rfl) rfl
theorem q1459 : (Jvm.Cond.code ({ cls := "PerilSeatModel", name := "worlds", desc := "(I)I" } : Jvm.MethodName) prog_17_method_65_code (9 : Nat) (Option.some Jvm.ClassFile.FieldType.int)) ∈ lw_all := lw_g (lw_at lw_m6 193 rfl) rfl
theorem q1460 : (Jvm.Cond.methodLink "PerilSeatModel" (252 : Nat) ({ cls := "PerilSeatModel", name := "isWorld", desc := "(III)Z" } : Jvm.MethodName)) ∈ lw_all := lw_g (lw_at lw_m6 194 rfl) rfl
theorem q1461 : (Jvm.Cond.privateMethod ({ cls := "PerilSeatModel", name := "isWorld", desc := "(III)Z" } : Jvm.MethodName)) ∈ lw_tbl := lw_at lw_m6 195 rfl
theorem q1462 : (Jvm.Cond.instanceMethod ({ cls := "PerilSeatModel", name := "isWorld", desc := "(III)Z" } : Jvm.MethodName)) ∈ lw_all := lw_g (lw_at lw_m6 196 rfl) rfl
theorem q1463 : (Jvm.Cond.code ({ cls := "PerilSeatModel", name := "isWorld", desc := "(III)Z" } : Jvm.MethodName) prog_17_method_64_code (7 : Nat) (Option.some Jvm.ClassFile.FieldType.boolean)) ∈ lw_all := lw_g (lw_at lw_m6 197 rfl) rfl
theorem q1465 : (Jvm.Cond.instanceMethod ({ cls := "PerilSeatModel", name := "safest", desc := "(II)I" } : Jvm.MethodName)) ∈ lw_all := lw_g (lw_at lw_m6 199 rfl) rfl
theorem q1466 : (Jvm.Cond.selects "PerilSeatModel" ({ cls := "PerilSeatModel", name := "safest", desc := "(II)I" } : Jvm.MethodName) ({ cls := "PerilSeatModel", name := "safest", desc := "(II)I" } : Jvm.MethodName)) ∈ lw_all := lw_g (lw_at lw_m6 200 rfl) rfl
theorem q1467 : (Jvm.Cond.code ({ cls := "PerilSeatModel", name := "safest", desc := "(II)I" } : Jvm.MethodName) prog_17_method_67_code (8 : Nat) (Option.some Jvm.ClassFile.FieldType.int)) ∈ lw_all := lw_g (lw_at lw_m6 201 rfl) rfl
theorem q1468 : (Jvm.Cond.methodLink "PerilSeatModel" (255 : Nat) ({ cls := "PerilSeatModel", name := "dangers", desc := "(II)I" } : Jvm.MethodName)) ∈ lw_all := lw_g (lw_at lw_m6 202 rfl) rfl
theorem q1469 : (Jvm.Cond.privateMethod ({ cls := "PerilSeatModel", name := "dangers", desc := "(II)I" } : Jvm.MethodName)) ∈ lw_tbl := lw_at lw_m6 203 rfl
theorem q1470 : (Jvm.Cond.instanceMethod ({ cls := "PerilSeatModel", name := "dangers", desc := "(II)I" } : Jvm.MethodName)) ∈ lw_all := lw_g (lw_at lw_m6 204 rfl) rfl
theorem q1471 : (Jvm.Cond.code ({ cls := "PerilSeatModel", name := "dangers", desc := "(II)I" } : Jvm.MethodName) prog_17_method_66_code (8 : Nat) (Option.some Jvm.ClassFile.FieldType.int)) ∈ lw_all := lw_g (lw_at lw_m6 205 rfl) rfl
theorem q1473 : (Jvm.Cond.instanceMethod ({ cls := "PerilSeatModel", name := "quests", desc := "(IIIII)J" } : Jvm.MethodName)) ∈ lw_all := lw_g (lw_at lw_m6 207 rfl) rfl
theorem q1474 : (Jvm.Cond.selects "PerilSeatModel" ({ cls := "PerilSeatModel", name := "quests", desc := "(IIIII)J" } : Jvm.MethodName) ({ cls := "PerilSeatModel", name := "quests", desc := "(IIIII)J" } : Jvm.MethodName)) ∈ lw_all := lw_g (lw_at lw_m6 208 rfl) rfl
theorem q1475 : (Jvm.Cond.code ({ cls := "PerilSeatModel", name := "quests", desc := "(IIIII)J" } : Jvm.MethodName) prog_17_method_68_code (16 : Nat) (Option.some Jvm.ClassFile.FieldType.long)) ∈ lw_all := lw_g (lw_at lw_m6 209 rfl) rfl
theorem q1476 : (Jvm.Cond.constantLong "PerilSeatModel" (258 : Nat) (-2 : Int64)) ∈ lw_all := lw_g (lw_at lw_m6 210 rfl) rfl
theorem q1477 : (Jvm.Cond.constantLong "PerilSeatModel" (260 : Nat) (-3 : Int64)) ∈ lw_all := lw_g (lw_at lw_m6 211 rfl) rfl
theorem q1478 : (Jvm.Cond.constantLong "PerilSeatModel" (262 : Nat) (10 : Int64)) ∈ lw_all := lw_g (lw_at lw_m6 212 rfl) rfl
theorem q1480 : (Jvm.Cond.instanceMethod ({ cls := "PerilSeatModel", name := "lent", desc := "(I)I" } : Jvm.MethodName)) ∈ lw_all := lw_g (lw_at lw_m6 214 rfl) rfl
theorem q1481 : (Jvm.Cond.selects "PerilSeatModel" ({ cls := "PerilSeatModel", name := "lent", desc := "(I)I" } : Jvm.MethodName) ({ cls := "PerilSeatModel", name := "lent", desc := "(I)I" } : Jvm.MethodName)) ∈ lw_all := lw_g (lw_at lw_m6 215 rfl) rfl
theorem q1482 : (Jvm.Cond.code ({ cls := "PerilSeatModel", name := "lent", desc := "(I)I" } : Jvm.MethodName) prog_17_method_69_code (3 : Nat) (Option.some Jvm.ClassFile.FieldType.int)) ∈ lw_all := lw_g (lw_at lw_m6 216 rfl) rfl
theorem q1484 : (Jvm.Cond.instanceMethod ({ cls := "PerilSeatModel", name := "count", desc := "(I)I" } : Jvm.MethodName)) ∈ lw_all := lw_g (lw_at lw_m6 218 rfl) rfl
theorem q1485 : (Jvm.Cond.selects "PerilSeatModel" ({ cls := "PerilSeatModel", name := "count", desc := "(I)I" } : Jvm.MethodName) ({ cls := "PerilSeatModel", name := "count", desc := "(I)I" } : Jvm.MethodName)) ∈ lw_all := lw_g (lw_at lw_m6 219 rfl) rfl
theorem q1486 : (Jvm.Cond.code ({ cls := "PerilSeatModel", name := "count", desc := "(I)I" } : Jvm.MethodName) prog_17_method_70_code (4 : Nat) (Option.some Jvm.ClassFile.FieldType.int)) ∈ lw_all := lw_g (lw_at lw_m6 220 rfl) rfl
theorem q1510 : (Jvm.Cond.castable "PerilSeatModel" "java/lang/Object") ∈ lw_tbl := lw_at lw_m7 4 rfl
theorem in_X2 : ∀ w ∈ wsX20, w ∈ lw_all := lw_in wsX20 [1143, 1145, 1147, 1149, 1151, 1153, 1155, 1157, 1159, 1161, 1163, 1165, 1167, 1169, 1171, 1173, 1175, 1177, 1179, 1181, 1183, 1185, 1187, 1189, 1191, 1193, 1195, 1197, 1199, 1201, 1203, 1205, 1207, 1209, 1211, 1213, 1215, 1217] (by decide +kernel) (by decide +kernel)

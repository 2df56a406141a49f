/-! PerilSeat -/
set_option maxRecDepth 100000
def RX0 : String := "PerilSeat"
def TX0 : u_T := fun k => match k with
  | 0 => ("PerilSeat", "names", "[Ljava/lang/Object;", true)
  | 1 => ("PerilSeat", "size", "I", false)
  | 2 => ("PerilSeat", "knights", "[Ljava/lang/Object;", true)
  | 3 => ("PerilSeat", "many", "I", false)
  | 4 => ("PerilSeat", "enemies", "[I", true)
  | 5 => ("PerilSeat", "perilAt", "I", false)
  | 6 => ("PerilSeat", "perilStep", "I", false)
  | 7 => ("PerilSeat", "meant", "I", false)
  | 8 => ("PerilSeat", "now", "LPerilSeat$State;", true)
  | 9 => ("PerilSeat", "kept", "[LPerilSeat$State;", true)
  | 10 => ("PerilSeat", "backs", "[LPerilSeat$State;", true)
  | 11 => ("PerilSeat", "backMany", "I", false)
  | 12 => ("PerilSeat", "sights", "[[I", true)
  | 13 => ("PerilSeat", "sightMany", "I", false)
  | 14 => ("PerilSeat", "text", "[B", true)
  | 15 => ("PerilSeat", "letters", "I", false)
  | 16 => ("PerilSeat", "seated", "[I", true)
  | 17 => ("PerilSeat", "place", "[I", true)
  | 18 => ("PerilSeat", "firstPlace", "[I", true)
  | 19 => ("PerilSeat", "found", "I", false)
  | 20 => ("PerilSeat", "fewest", "I", false)
  | 21 => ("PerilSeat", "mostKnow", "I", false)
  | _ => ("PerilSeat", "asked", "I", false)
def tyX0 : Nat → FieldType := fun k => match k with
  | 0 => .array (.object "java/lang/Object")
  | 1 => .int
  | 2 => .array (.object "java/lang/Object")
  | 3 => .int
  | 4 => .array .int
  | 5 => .int
  | 6 => .int
  | 7 => .int
  | 8 => .object "PerilSeat$State"
  | 9 => .array (.object "PerilSeat$State")
  | 10 => .array (.object "PerilSeat$State")
  | 11 => .int
  | 12 => .array (.array .int)
  | 13 => .int
  | 14 => .array .byte
  | 15 => .int
  | 16 => .array .int
  | 17 => .array .int
  | 18 => .array .int
  | 19 => .int
  | 20 => .int
  | 21 => .int
  | _ => .int
abbrev wsX00 : List Cond := u_ws RX0 TX0 23
set_option maxRecDepth 100000 in
theorem nmX0 : ∀ a, a < 23 → ∀ b, b < 23 → a ≠ b → (TX0 a).2.1 ≠ (TX0 b).2.1 := by decide +kernel
set_option maxRecDepth 100000 in
theorem tyX0_ok : ∀ k, k < 23 → parseFieldDescriptor (TX0 k).2.2.1 = some (tyX0 k) := by decide +kernel
abbrev cX0_init : ByteArray := prog_1_method_18_code
def yX0_init : MethodName := ⟨RX0, "<init>", "()V"⟩
def dkwX0_init_4 : List UInt8 := [188, 10, 181, 0, 172, 42, 16, 6, 188, 10, 181, 0, 175, 42, 182, 0, 178, 177]
abbrev dktX0_init_4 : List UInt8 := dkwX0_init_4 ++ []
def dkwX0_init_3 : List UInt8 := [181, 0, 161, 42, 17, 0, 160, 188, 8, 181, 0, 165, 42, 16, 8, 188, 10, 181, 0, 169, 42, 16, 6]
abbrev dktX0_init_3 : List UInt8 := dkwX0_init_3 ++ dktX0_init_4
def dkwX0_init_2 : List UInt8 := [5, 189, 0, 50, 181, 0, 89, 42, 16, 8, 189, 0, 50, 181, 0, 93, 42, 16, 8, 189, 0, 160]
abbrev dktX0_init_2 : List UInt8 := dkwX0_init_2 ++ dktX0_init_3
def dkwX0_init_1 : List UInt8 := [16, 6, 188, 10, 181, 0, 139, 42, 2, 181, 0, 132, 42, 187, 0, 50, 89, 183, 0, 102, 181, 0, 45, 42]
abbrev dktX0_init_1 : List UInt8 := dkwX0_init_1 ++ dktX0_init_2
def dkwX0_init_0 : List UInt8 := [42, 183, 0, 157, 42, 16, 8, 189, 0, 158, 181, 0, 36, 42, 16, 6, 189, 0, 158, 181, 0, 42, 42]
abbrev dktX0_init_0 : List UInt8 := dkwX0_init_0 ++ dktX0_init_1
theorem dksX0_init_0 : cX0_init.data.toList.drop 0 = dktX0_init_0 := by decide +kernel
theorem dksX0_init_1 : cX0_init.data.toList.drop 23 = dktX0_init_1 := dk_seg dksX0_init_0 23 rfl rfl
theorem dksX0_init_2 : cX0_init.data.toList.drop 47 = dktX0_init_2 := dk_seg dksX0_init_1 24 rfl rfl
theorem dksX0_init_3 : cX0_init.data.toList.drop 69 = dktX0_init_3 := dk_seg dksX0_init_2 22 rfl rfl
theorem dksX0_init_4 : cX0_init.data.toList.drop 92 = dktX0_init_4 := dk_seg dksX0_init_3 23 rfl rfl
theorem dX0_init_0 : decode cX0_init 0 = .ok (.aload_n 0, 1) := dk_42 (dk_at dksX0_init_0 0 rfl rfl)
theorem dX0_init_1 : decode cX0_init 1 = .ok (.invokespecial 157, 3) := dk_183 0 157 (dk_at dksX0_init_0 1 rfl rfl)
theorem dX0_init_4 : decode cX0_init 4 = .ok (.aload_n 0, 1) := dk_42 (dk_at dksX0_init_0 4 rfl rfl)
theorem dX0_init_5 : decode cX0_init 5 = .ok (.bipush 8, 2) := dk_16 8 (dk_at dksX0_init_0 5 rfl rfl)
theorem dX0_init_7 : decode cX0_init 7 = .ok (.anewarray 158, 3) := dk_189 0 158 (dk_at dksX0_init_0 7 rfl rfl)
theorem dX0_init_10 : decode cX0_init 10 = .ok (.putfield 36, 3) := dk_181 0 36 (dk_at dksX0_init_0 10 rfl rfl)
theorem dX0_init_13 : decode cX0_init 13 = .ok (.aload_n 0, 1) := dk_42 (dk_at dksX0_init_0 13 rfl rfl)
theorem dX0_init_14 : decode cX0_init 14 = .ok (.bipush 6, 2) := dk_16 6 (dk_at dksX0_init_0 14 rfl rfl)
theorem dX0_init_16 : decode cX0_init 16 = .ok (.anewarray 158, 3) := dk_189 0 158 (dk_at dksX0_init_0 16 rfl rfl)
theorem dX0_init_19 : decode cX0_init 19 = .ok (.putfield 42, 3) := dk_181 0 42 (dk_at dksX0_init_0 19 rfl rfl)
theorem dX0_init_22 : decode cX0_init 22 = .ok (.aload_n 0, 1) := dk_42 (dk_at dksX0_init_0 22 rfl rfl)
theorem dX0_init_23 : decode cX0_init 23 = .ok (.bipush 6, 2) := dk_16 6 (dk_at dksX0_init_1 0 rfl rfl)
theorem dX0_init_25 : decode cX0_init 25 = .ok (.newarray .int, 2) := dk_188_10 (dk_at dksX0_init_1 2 rfl rfl)
theorem dX0_init_27 : decode cX0_init 27 = .ok (.putfield 139, 3) := dk_181 0 139 (dk_at dksX0_init_1 4 rfl rfl)
theorem dX0_init_30 : decode cX0_init 30 = .ok (.aload_n 0, 1) := dk_42 (dk_at dksX0_init_1 7 rfl rfl)
theorem dX0_init_31 : decode cX0_init 31 = .ok (.iconst (-1), 1) := dk_2 (dk_at dksX0_init_1 8 rfl rfl)
theorem dX0_init_32 : decode cX0_init 32 = .ok (.putfield 132, 3) := dk_181 0 132 (dk_at dksX0_init_1 9 rfl rfl)
theorem dX0_init_35 : decode cX0_init 35 = .ok (.aload_n 0, 1) := dk_42 (dk_at dksX0_init_1 12 rfl rfl)
theorem dX0_init_36 : decode cX0_init 36 = .ok (.new 50, 3) := dk_187 0 50 (dk_at dksX0_init_1 13 rfl rfl)
theorem dX0_init_39 : decode cX0_init 39 = .ok (.dup, 1) := dk_89 (dk_at dksX0_init_1 16 rfl rfl)
theorem dX0_init_40 : decode cX0_init 40 = .ok (.invokespecial 102, 3) := dk_183 0 102 (dk_at dksX0_init_1 17 rfl rfl)
theorem dX0_init_43 : decode cX0_init 43 = .ok (.putfield 45, 3) := dk_181 0 45 (dk_at dksX0_init_1 20 rfl rfl)
theorem dX0_init_46 : decode cX0_init 46 = .ok (.aload_n 0, 1) := dk_42 (dk_at dksX0_init_1 23 rfl rfl)
theorem dX0_init_47 : decode cX0_init 47 = .ok (.iconst 2, 1) := dk_5 (dk_at dksX0_init_2 0 rfl rfl)
theorem dX0_init_48 : decode cX0_init 48 = .ok (.anewarray 50, 3) := dk_189 0 50 (dk_at dksX0_init_2 1 rfl rfl)
theorem dX0_init_51 : decode cX0_init 51 = .ok (.putfield 89, 3) := dk_181 0 89 (dk_at dksX0_init_2 4 rfl rfl)
theorem dX0_init_54 : decode cX0_init 54 = .ok (.aload_n 0, 1) := dk_42 (dk_at dksX0_init_2 7 rfl rfl)
theorem dX0_init_55 : decode cX0_init 55 = .ok (.bipush 8, 2) := dk_16 8 (dk_at dksX0_init_2 8 rfl rfl)
theorem dX0_init_57 : decode cX0_init 57 = .ok (.anewarray 50, 3) := dk_189 0 50 (dk_at dksX0_init_2 10 rfl rfl)
theorem dX0_init_60 : decode cX0_init 60 = .ok (.putfield 93, 3) := dk_181 0 93 (dk_at dksX0_init_2 13 rfl rfl)
theorem dX0_init_63 : decode cX0_init 63 = .ok (.aload_n 0, 1) := dk_42 (dk_at dksX0_init_2 16 rfl rfl)
theorem dX0_init_64 : decode cX0_init 64 = .ok (.bipush 8, 2) := dk_16 8 (dk_at dksX0_init_2 17 rfl rfl)
theorem dX0_init_66 : decode cX0_init 66 = .ok (.anewarray 160, 3) := dk_189 0 160 (dk_at dksX0_init_2 19 rfl rfl)
theorem dX0_init_69 : decode cX0_init 69 = .ok (.putfield 161, 3) := dk_181 0 161 (dk_at dksX0_init_3 0 rfl rfl)
theorem dX0_init_72 : decode cX0_init 72 = .ok (.aload_n 0, 1) := dk_42 (dk_at dksX0_init_3 3 rfl rfl)
theorem dX0_init_73 : decode cX0_init 73 = .ok (.sipush 160, 3) := dk_17 0 160 (dk_at dksX0_init_3 4 rfl rfl)
theorem dX0_init_76 : decode cX0_init 76 = .ok (.newarray .byte, 2) := dk_188_8 (dk_at dksX0_init_3 7 rfl rfl)
theorem dX0_init_78 : decode cX0_init 78 = .ok (.putfield 165, 3) := dk_181 0 165 (dk_at dksX0_init_3 9 rfl rfl)
theorem dX0_init_81 : decode cX0_init 81 = .ok (.aload_n 0, 1) := dk_42 (dk_at dksX0_init_3 12 rfl rfl)
theorem dX0_init_82 : decode cX0_init 82 = .ok (.bipush 8, 2) := dk_16 8 (dk_at dksX0_init_3 13 rfl rfl)
theorem dX0_init_84 : decode cX0_init 84 = .ok (.newarray .int, 2) := dk_188_10 (dk_at dksX0_init_3 15 rfl rfl)
theorem dX0_init_86 : decode cX0_init 86 = .ok (.putfield 169, 3) := dk_181 0 169 (dk_at dksX0_init_3 17 rfl rfl)
theorem dX0_init_89 : decode cX0_init 89 = .ok (.aload_n 0, 1) := dk_42 (dk_at dksX0_init_3 20 rfl rfl)
theorem dX0_init_90 : decode cX0_init 90 = .ok (.bipush 6, 2) := dk_16 6 (dk_at dksX0_init_3 21 rfl rfl)
theorem dX0_init_92 : decode cX0_init 92 = .ok (.newarray .int, 2) := dk_188_10 (dk_at dksX0_init_4 0 rfl rfl)
theorem dX0_init_94 : decode cX0_init 94 = .ok (.putfield 172, 3) := dk_181 0 172 (dk_at dksX0_init_4 2 rfl rfl)
theorem dX0_init_97 : decode cX0_init 97 = .ok (.aload_n 0, 1) := dk_42 (dk_at dksX0_init_4 5 rfl rfl)
theorem dX0_init_98 : decode cX0_init 98 = .ok (.bipush 6, 2) := dk_16 6 (dk_at dksX0_init_4 6 rfl rfl)
theorem dX0_init_100 : decode cX0_init 100 = .ok (.newarray .int, 2) := dk_188_10 (dk_at dksX0_init_4 8 rfl rfl)
theorem dX0_init_102 : decode cX0_init 102 = .ok (.putfield 175, 3) := dk_181 0 175 (dk_at dksX0_init_4 10 rfl rfl)
theorem dX0_init_105 : decode cX0_init 105 = .ok (.aload_n 0, 1) := dk_42 (dk_at dksX0_init_4 13 rfl rfl)
theorem dX0_init_106 : decode cX0_init 106 = .ok (.invokevirtual 178, 3) := dk_182 0 178 (dk_at dksX0_init_4 14 rfl rfl)
theorem dX0_init_109 : decode cX0_init 109 = .ok (.return_, 1) := dk_177 (dk_at dksX0_init_4 17 rfl rfl)
abbrev cX0_begin : ByteArray := prog_1_method_9_code
def yX0_begin : MethodName := ⟨RX0, "begin", "()V"⟩
def dkwX0_begin_4 : List UInt8 := [42, 180, 0, 89, 4, 1, 83, 177]
abbrev dktX0_begin_4 : List UInt8 := dkwX0_begin_4 ++ []
def dkwX0_begin_3 : List UInt8 := [180, 0, 45, 3, 181, 0, 80, 42, 3, 181, 0, 83, 42, 3, 181, 0, 86, 42, 180, 0, 89, 3, 1, 83]
abbrev dktX0_begin_3 : List UInt8 := dkwX0_begin_3 ++ dktX0_begin_4
def dkwX0_begin_2 : List UInt8 := [79, 132, 1, 1, 167, 255, 228, 42, 180, 0, 45, 4, 42, 180, 0, 64, 120, 4, 100, 181, 0, 77, 42]
abbrev dktX0_begin_2 : List UInt8 := dkwX0_begin_2 ++ dktX0_begin_3
def dkwX0_begin_1 : List UInt8 := [27, 42, 180, 0, 64, 162, 0, 26, 42, 180, 0, 45, 180, 0, 68, 27, 42, 27, 182, 0, 71, 180, 0, 75]
abbrev dktX0_begin_1 : List UInt8 := dkwX0_begin_1 ++ dktX0_begin_2
def dkwX0_begin_0 : List UInt8 := [42, 180, 0, 45, 180, 0, 49, 3, 184, 0, 55, 42, 180, 0, 45, 180, 0, 61, 2, 184, 0, 55, 3, 60]
abbrev dktX0_begin_0 : List UInt8 := dkwX0_begin_0 ++ dktX0_begin_1
theorem dksX0_begin_0 : cX0_begin.data.toList.drop 0 = dktX0_begin_0 := by decide +kernel
theorem dksX0_begin_1 : cX0_begin.data.toList.drop 24 = dktX0_begin_1 := dk_seg dksX0_begin_0 24 rfl rfl
theorem dksX0_begin_2 : cX0_begin.data.toList.drop 48 = dktX0_begin_2 := dk_seg dksX0_begin_1 24 rfl rfl
theorem dksX0_begin_3 : cX0_begin.data.toList.drop 71 = dktX0_begin_3 := dk_seg dksX0_begin_2 23 rfl rfl
theorem dksX0_begin_4 : cX0_begin.data.toList.drop 95 = dktX0_begin_4 := dk_seg dksX0_begin_3 24 rfl rfl
theorem dX0_begin_0 : decode cX0_begin 0 = .ok (.aload_n 0, 1) := dk_42 (dk_at dksX0_begin_0 0 rfl rfl)
theorem dX0_begin_1 : decode cX0_begin 1 = .ok (.getfield 45, 3) := dk_180 0 45 (dk_at dksX0_begin_0 1 rfl rfl)
theorem dX0_begin_4 : decode cX0_begin 4 = .ok (.getfield 49, 3) := dk_180 0 49 (dk_at dksX0_begin_0 4 rfl rfl)
theorem dX0_begin_7 : decode cX0_begin 7 = .ok (.iconst 0, 1) := dk_3 (dk_at dksX0_begin_0 7 rfl rfl)
theorem dX0_begin_8 : decode cX0_begin 8 = .ok (.invokestatic 55, 3) := dk_184 0 55 (dk_at dksX0_begin_0 8 rfl rfl)
theorem dX0_begin_11 : decode cX0_begin 11 = .ok (.aload_n 0, 1) := dk_42 (dk_at dksX0_begin_0 11 rfl rfl)
theorem dX0_begin_12 : decode cX0_begin 12 = .ok (.getfield 45, 3) := dk_180 0 45 (dk_at dksX0_begin_0 12 rfl rfl)
theorem dX0_begin_15 : decode cX0_begin 15 = .ok (.getfield 61, 3) := dk_180 0 61 (dk_at dksX0_begin_0 15 rfl rfl)
theorem dX0_begin_18 : decode cX0_begin 18 = .ok (.iconst (-1), 1) := dk_2 (dk_at dksX0_begin_0 18 rfl rfl)
theorem dX0_begin_19 : decode cX0_begin 19 = .ok (.invokestatic 55, 3) := dk_184 0 55 (dk_at dksX0_begin_0 19 rfl rfl)
theorem dX0_begin_22 : decode cX0_begin 22 = .ok (.iconst 0, 1) := dk_3 (dk_at dksX0_begin_0 22 rfl rfl)
theorem dX0_begin_23 : decode cX0_begin 23 = .ok (.istore_n 1, 1) := dk_60 (dk_at dksX0_begin_0 23 rfl rfl)
theorem dX0_begin_24 : decode cX0_begin 24 = .ok (.iload_n 1, 1) := dk_27 (dk_at dksX0_begin_1 0 rfl rfl)
theorem dX0_begin_25 : decode cX0_begin 25 = .ok (.aload_n 0, 1) := dk_42 (dk_at dksX0_begin_1 1 rfl rfl)
theorem dX0_begin_26 : decode cX0_begin 26 = .ok (.getfield 64, 3) := dk_180 0 64 (dk_at dksX0_begin_1 2 rfl rfl)
theorem dX0_begin_29 : decode cX0_begin 29 = .ok (.if_icmp .ge 26, 3) := dk_162 0 26 (dk_at dksX0_begin_1 5 rfl rfl)
theorem dX0_begin_32 : decode cX0_begin 32 = .ok (.aload_n 0, 1) := dk_42 (dk_at dksX0_begin_1 8 rfl rfl)
theorem dX0_begin_33 : decode cX0_begin 33 = .ok (.getfield 45, 3) := dk_180 0 45 (dk_at dksX0_begin_1 9 rfl rfl)
theorem dX0_begin_36 : decode cX0_begin 36 = .ok (.getfield 68, 3) := dk_180 0 68 (dk_at dksX0_begin_1 12 rfl rfl)
theorem dX0_begin_39 : decode cX0_begin 39 = .ok (.iload_n 1, 1) := dk_27 (dk_at dksX0_begin_1 15 rfl rfl)
theorem dX0_begin_40 : decode cX0_begin 40 = .ok (.aload_n 0, 1) := dk_42 (dk_at dksX0_begin_1 16 rfl rfl)
theorem dX0_begin_41 : decode cX0_begin 41 = .ok (.iload_n 1, 1) := dk_27 (dk_at dksX0_begin_1 17 rfl rfl)
theorem dX0_begin_42 : decode cX0_begin 42 = .ok (.invokevirtual 71, 3) := dk_182 0 71 (dk_at dksX0_begin_1 18 rfl rfl)
theorem dX0_begin_45 : decode cX0_begin 45 = .ok (.getfield 75, 3) := dk_180 0 75 (dk_at dksX0_begin_1 21 rfl rfl)
theorem dX0_begin_48 : decode cX0_begin 48 = .ok (.iastore, 1) := dk_79 (dk_at dksX0_begin_2 0 rfl rfl)
theorem dX0_begin_49 : decode cX0_begin 49 = .ok (.iinc 1 1, 3) := dk_132 1 1 (dk_at dksX0_begin_2 1 rfl rfl)
theorem dX0_begin_52 : decode cX0_begin 52 = .ok (.goto (-28), 3) := dk_167 255 228 (dk_at dksX0_begin_2 4 rfl rfl)
theorem dX0_begin_55 : decode cX0_begin 55 = .ok (.aload_n 0, 1) := dk_42 (dk_at dksX0_begin_2 7 rfl rfl)
theorem dX0_begin_56 : decode cX0_begin 56 = .ok (.getfield 45, 3) := dk_180 0 45 (dk_at dksX0_begin_2 8 rfl rfl)
theorem dX0_begin_59 : decode cX0_begin 59 = .ok (.iconst 1, 1) := dk_4 (dk_at dksX0_begin_2 11 rfl rfl)
theorem dX0_begin_60 : decode cX0_begin 60 = .ok (.aload_n 0, 1) := dk_42 (dk_at dksX0_begin_2 12 rfl rfl)
theorem dX0_begin_61 : decode cX0_begin 61 = .ok (.getfield 64, 3) := dk_180 0 64 (dk_at dksX0_begin_2 13 rfl rfl)
theorem dX0_begin_64 : decode cX0_begin 64 = .ok (.ishl, 1) := dk_120 (dk_at dksX0_begin_2 16 rfl rfl)
theorem dX0_begin_65 : decode cX0_begin 65 = .ok (.iconst 1, 1) := dk_4 (dk_at dksX0_begin_2 17 rfl rfl)
theorem dX0_begin_66 : decode cX0_begin 66 = .ok (.isub, 1) := dk_100 (dk_at dksX0_begin_2 18 rfl rfl)
theorem dX0_begin_67 : decode cX0_begin 67 = .ok (.putfield 77, 3) := dk_181 0 77 (dk_at dksX0_begin_2 19 rfl rfl)
theorem dX0_begin_70 : decode cX0_begin 70 = .ok (.aload_n 0, 1) := dk_42 (dk_at dksX0_begin_2 22 rfl rfl)
theorem dX0_begin_71 : decode cX0_begin 71 = .ok (.getfield 45, 3) := dk_180 0 45 (dk_at dksX0_begin_3 0 rfl rfl)
theorem dX0_begin_74 : decode cX0_begin 74 = .ok (.iconst 0, 1) := dk_3 (dk_at dksX0_begin_3 3 rfl rfl)
theorem dX0_begin_75 : decode cX0_begin 75 = .ok (.putfield 80, 3) := dk_181 0 80 (dk_at dksX0_begin_3 4 rfl rfl)
theorem dX0_begin_78 : decode cX0_begin 78 = .ok (.aload_n 0, 1) := dk_42 (dk_at dksX0_begin_3 7 rfl rfl)
theorem dX0_begin_79 : decode cX0_begin 79 = .ok (.iconst 0, 1) := dk_3 (dk_at dksX0_begin_3 8 rfl rfl)
theorem dX0_begin_80 : decode cX0_begin 80 = .ok (.putfield 83, 3) := dk_181 0 83 (dk_at dksX0_begin_3 9 rfl rfl)
theorem dX0_begin_83 : decode cX0_begin 83 = .ok (.aload_n 0, 1) := dk_42 (dk_at dksX0_begin_3 12 rfl rfl)
theorem dX0_begin_84 : decode cX0_begin 84 = .ok (.iconst 0, 1) := dk_3 (dk_at dksX0_begin_3 13 rfl rfl)
theorem dX0_begin_85 : decode cX0_begin 85 = .ok (.putfield 86, 3) := dk_181 0 86 (dk_at dksX0_begin_3 14 rfl rfl)
theorem dX0_begin_88 : decode cX0_begin 88 = .ok (.aload_n 0, 1) := dk_42 (dk_at dksX0_begin_3 17 rfl rfl)
theorem dX0_begin_89 : decode cX0_begin 89 = .ok (.getfield 89, 3) := dk_180 0 89 (dk_at dksX0_begin_3 18 rfl rfl)
theorem dX0_begin_92 : decode cX0_begin 92 = .ok (.iconst 0, 1) := dk_3 (dk_at dksX0_begin_3 21 rfl rfl)
theorem dX0_begin_93 : decode cX0_begin 93 = .ok (.aconst_null, 1) := dk_1 (dk_at dksX0_begin_3 22 rfl rfl)
theorem dX0_begin_94 : decode cX0_begin 94 = .ok (.aastore, 1) := dk_83 (dk_at dksX0_begin_3 23 rfl rfl)
theorem dX0_begin_95 : decode cX0_begin 95 = .ok (.aload_n 0, 1) := dk_42 (dk_at dksX0_begin_4 0 rfl rfl)
theorem dX0_begin_96 : decode cX0_begin 96 = .ok (.getfield 89, 3) := dk_180 0 89 (dk_at dksX0_begin_4 1 rfl rfl)
theorem dX0_begin_99 : decode cX0_begin 99 = .ok (.iconst 1, 1) := dk_4 (dk_at dksX0_begin_4 4 rfl rfl)
theorem dX0_begin_100 : decode cX0_begin 100 = .ok (.aconst_null, 1) := dk_1 (dk_at dksX0_begin_4 5 rfl rfl)
theorem dX0_begin_101 : decode cX0_begin 101 = .ok (.aastore, 1) := dk_83 (dk_at dksX0_begin_4 6 rfl rfl)
theorem dX0_begin_102 : decode cX0_begin 102 = .ok (.return_, 1) := dk_177 (dk_at dksX0_begin_4 7 rfl rfl)
abbrev cX0_one : ByteArray := prog_1_method_8_code
def yX0_one : MethodName := ⟨RX0, "one", "(I)LPerilSeat$One;"⟩
def dkwX0_one_0 : List UInt8 := [42, 180, 0, 42, 27, 50, 192, 0, 34, 176]
abbrev dktX0_one_0 : List UInt8 := dkwX0_one_0 ++ []
theorem dksX0_one_0 : cX0_one.data.toList.drop 0 = dktX0_one_0 := by decide +kernel
theorem dX0_one_0 : decode cX0_one 0 = .ok (.aload_n 0, 1) := dk_42 (dk_at dksX0_one_0 0 rfl rfl)
theorem dX0_one_1 : decode cX0_one 1 = .ok (.getfield 42, 3) := dk_180 0 42 (dk_at dksX0_one_0 1 rfl rfl)
theorem dX0_one_4 : decode cX0_one 4 = .ok (.iload_n 1, 1) := dk_27 (dk_at dksX0_one_0 4 rfl rfl)
theorem dX0_one_5 : decode cX0_one 5 = .ok (.aaload, 1) := dk_50 (dk_at dksX0_one_0 5 rfl rfl)
theorem dX0_one_6 : decode cX0_one 6 = .ok (.checkcast 34, 3) := dk_192 0 34 (dk_at dksX0_one_0 6 rfl rfl)
theorem dX0_one_9 : decode cX0_one 9 = .ok (.areturn, 1) := dk_176 (dk_at dksX0_one_0 9 rfl rfl)
abbrev cX0_write : ByteArray := prog_1_method_21_code
def yX0_write : MethodName := ⟨RX0, "write", "(I)I"⟩
def dkwX0_write_2 : List UInt8 := [42, 180, 0, 187, 172]
abbrev dktX0_write_2 : List UInt8 := dkwX0_write_2 ++ []
def dkwX0_write_1 : List UInt8 := [160, 0, 6, 16, 251, 172, 42, 180, 0, 165, 42, 89, 180, 0, 187, 90, 4, 96, 181, 0, 187, 27, 145, 84]
abbrev dktX0_write_1 : List UInt8 := dkwX0_write_1 ++ dktX0_write_2
def dkwX0_write_0 : List UInt8 := [27, 133, 9, 20, 0, 185, 184, 0, 181, 154, 0, 6, 16, 253, 172, 42, 180, 0, 187, 42, 180, 0, 165, 190]
abbrev dktX0_write_0 : List UInt8 := dkwX0_write_0 ++ dktX0_write_1
theorem dksX0_write_0 : cX0_write.data.toList.drop 0 = dktX0_write_0 := by decide +kernel
theorem dksX0_write_1 : cX0_write.data.toList.drop 24 = dktX0_write_1 := dk_seg dksX0_write_0 24 rfl rfl
theorem dksX0_write_2 : cX0_write.data.toList.drop 48 = dktX0_write_2 := dk_seg dksX0_write_1 24 rfl rfl
theorem dX0_write_0 : decode cX0_write 0 = .ok (.iload_n 1, 1) := dk_27 (dk_at dksX0_write_0 0 rfl rfl)
theorem dX0_write_1 : decode cX0_write 1 = .ok (.i2l, 1) := dk_133 (dk_at dksX0_write_0 1 rfl rfl)
theorem dX0_write_2 : decode cX0_write 2 = .ok (.lconst 0, 1) := dk_9 (dk_at dksX0_write_0 2 rfl rfl)
theorem dX0_write_3 : decode cX0_write 3 = .ok (.ldc2_w 185, 3) := dk_20 0 185 (dk_at dksX0_write_0 3 rfl rfl)
theorem dX0_write_6 : decode cX0_write 6 = .ok (.invokestatic 181, 3) := dk_184 0 181 (dk_at dksX0_write_0 6 rfl rfl)
theorem dX0_write_9 : decode cX0_write 9 = .ok (.ifCond .ne 6, 3) := dk_154 0 6 (dk_at dksX0_write_0 9 rfl rfl)
theorem dX0_write_12 : decode cX0_write 12 = .ok (.bipush (-3), 2) := dk_16 253 (dk_at dksX0_write_0 12 rfl rfl)
theorem dX0_write_14 : decode cX0_write 14 = .ok (.ireturn, 1) := dk_172 (dk_at dksX0_write_0 14 rfl rfl)
theorem dX0_write_15 : decode cX0_write 15 = .ok (.aload_n 0, 1) := dk_42 (dk_at dksX0_write_0 15 rfl rfl)
theorem dX0_write_16 : decode cX0_write 16 = .ok (.getfield 187, 3) := dk_180 0 187 (dk_at dksX0_write_0 16 rfl rfl)
theorem dX0_write_19 : decode cX0_write 19 = .ok (.aload_n 0, 1) := dk_42 (dk_at dksX0_write_0 19 rfl rfl)
theorem dX0_write_20 : decode cX0_write 20 = .ok (.getfield 165, 3) := dk_180 0 165 (dk_at dksX0_write_0 20 rfl rfl)
theorem dX0_write_23 : decode cX0_write 23 = .ok (.arraylength, 1) := dk_190 (dk_at dksX0_write_0 23 rfl rfl)
theorem dX0_write_24 : decode cX0_write 24 = .ok (.if_icmp .ne 6, 3) := dk_160 0 6 (dk_at dksX0_write_1 0 rfl rfl)
theorem dX0_write_27 : decode cX0_write 27 = .ok (.bipush (-5), 2) := dk_16 251 (dk_at dksX0_write_1 3 rfl rfl)
theorem dX0_write_29 : decode cX0_write 29 = .ok (.ireturn, 1) := dk_172 (dk_at dksX0_write_1 5 rfl rfl)
theorem dX0_write_30 : decode cX0_write 30 = .ok (.aload_n 0, 1) := dk_42 (dk_at dksX0_write_1 6 rfl rfl)
theorem dX0_write_31 : decode cX0_write 31 = .ok (.getfield 165, 3) := dk_180 0 165 (dk_at dksX0_write_1 7 rfl rfl)
theorem dX0_write_34 : decode cX0_write 34 = .ok (.aload_n 0, 1) := dk_42 (dk_at dksX0_write_1 10 rfl rfl)
theorem dX0_write_35 : decode cX0_write 35 = .ok (.dup, 1) := dk_89 (dk_at dksX0_write_1 11 rfl rfl)
theorem dX0_write_36 : decode cX0_write 36 = .ok (.getfield 187, 3) := dk_180 0 187 (dk_at dksX0_write_1 12 rfl rfl)
theorem dX0_write_39 : decode cX0_write 39 = .ok (.dup_x1, 1) := dk_90 (dk_at dksX0_write_1 15 rfl rfl)
theorem dX0_write_40 : decode cX0_write 40 = .ok (.iconst 1, 1) := dk_4 (dk_at dksX0_write_1 16 rfl rfl)
theorem dX0_write_41 : decode cX0_write 41 = .ok (.iadd, 1) := dk_96 (dk_at dksX0_write_1 17 rfl rfl)
theorem dX0_write_42 : decode cX0_write 42 = .ok (.putfield 187, 3) := dk_181 0 187 (dk_at dksX0_write_1 18 rfl rfl)
theorem dX0_write_45 : decode cX0_write 45 = .ok (.iload_n 1, 1) := dk_27 (dk_at dksX0_write_1 21 rfl rfl)
theorem dX0_write_46 : decode cX0_write 46 = .ok (.i2b, 1) := dk_145 (dk_at dksX0_write_1 22 rfl rfl)
theorem dX0_write_47 : decode cX0_write 47 = .ok (.bastore, 1) := dk_84 (dk_at dksX0_write_1 23 rfl rfl)
theorem dX0_write_48 : decode cX0_write 48 = .ok (.aload_n 0, 1) := dk_42 (dk_at dksX0_write_2 0 rfl rfl)
theorem dX0_write_49 : decode cX0_write 49 = .ok (.getfield 187, 3) := dk_180 0 187 (dk_at dksX0_write_2 1 rfl rfl)
theorem dX0_write_52 : decode cX0_write 52 = .ok (.ireturn, 1) := dk_172 (dk_at dksX0_write_2 4 rfl rfl)
abbrev cX0_in : ByteArray := prog_1_method_1_code
def yX0_in : MethodName := ⟨RX0, "in", "(JJJ)Z"⟩
def dkwX0_in_0 : List UInt8 := [30, 32, 148, 155, 0, 14, 30, 22, 4, 148, 157, 0, 7, 4, 167, 0, 4, 3, 172]
abbrev dktX0_in_0 : List UInt8 := dkwX0_in_0 ++ []
theorem dksX0_in_0 : cX0_in.data.toList.drop 0 = dktX0_in_0 := by decide +kernel
theorem dX0_in_0 : decode cX0_in 0 = .ok (.lload_n 0, 1) := dk_30 (dk_at dksX0_in_0 0 rfl rfl)
theorem dX0_in_1 : decode cX0_in 1 = .ok (.lload_n 2, 1) := dk_32 (dk_at dksX0_in_0 1 rfl rfl)
theorem dX0_in_2 : decode cX0_in 2 = .ok (.lcmp, 1) := dk_148 (dk_at dksX0_in_0 2 rfl rfl)
theorem dX0_in_3 : decode cX0_in 3 = .ok (.ifCond .lt 14, 3) := dk_155 0 14 (dk_at dksX0_in_0 3 rfl rfl)
theorem dX0_in_6 : decode cX0_in 6 = .ok (.lload_n 0, 1) := dk_30 (dk_at dksX0_in_0 6 rfl rfl)
theorem dX0_in_7 : decode cX0_in 7 = .ok (.lload 4, 2) := dk_22 4 (dk_at dksX0_in_0 7 rfl rfl)
theorem dX0_in_9 : decode cX0_in 9 = .ok (.lcmp, 1) := dk_148 (dk_at dksX0_in_0 9 rfl rfl)
theorem dX0_in_10 : decode cX0_in 10 = .ok (.ifCond .gt 7, 3) := dk_157 0 7 (dk_at dksX0_in_0 10 rfl rfl)
theorem dX0_in_13 : decode cX0_in 13 = .ok (.iconst 1, 1) := dk_4 (dk_at dksX0_in_0 13 rfl rfl)
theorem dX0_in_14 : decode cX0_in 14 = .ok (.goto 4, 3) := dk_167 0 4 (dk_at dksX0_in_0 14 rfl rfl)
theorem dX0_in_17 : decode cX0_in 17 = .ok (.iconst 0, 1) := dk_3 (dk_at dksX0_in_0 17 rfl rfl)
theorem dX0_in_18 : decode cX0_in 18 = .ok (.ireturn, 1) := dk_172 (dk_at dksX0_in_0 18 rfl rfl)
abbrev cX0_erase : ByteArray := prog_1_method_22_code
def yX0_erase : MethodName := ⟨RX0, "erase", "()I"⟩
def dkwX0_erase_0 : List UInt8 := [42, 180, 0, 187, 60, 42, 3, 181, 0, 187, 27, 172]
abbrev dktX0_erase_0 : List UInt8 := dkwX0_erase_0 ++ []
theorem dksX0_erase_0 : cX0_erase.data.toList.drop 0 = dktX0_erase_0 := by decide +kernel
theorem dX0_erase_0 : decode cX0_erase 0 = .ok (.aload_n 0, 1) := dk_42 (dk_at dksX0_erase_0 0 rfl rfl)
theorem dX0_erase_1 : decode cX0_erase 1 = .ok (.getfield 187, 3) := dk_180 0 187 (dk_at dksX0_erase_0 1 rfl rfl)
theorem dX0_erase_4 : decode cX0_erase 4 = .ok (.istore_n 1, 1) := dk_60 (dk_at dksX0_erase_0 4 rfl rfl)
theorem dX0_erase_5 : decode cX0_erase 5 = .ok (.aload_n 0, 1) := dk_42 (dk_at dksX0_erase_0 5 rfl rfl)
theorem dX0_erase_6 : decode cX0_erase 6 = .ok (.iconst 0, 1) := dk_3 (dk_at dksX0_erase_0 6 rfl rfl)
theorem dX0_erase_7 : decode cX0_erase 7 = .ok (.putfield 187, 3) := dk_181 0 187 (dk_at dksX0_erase_0 7 rfl rfl)
theorem dX0_erase_10 : decode cX0_erase 10 = .ok (.iload_n 1, 1) := dk_27 (dk_at dksX0_erase_0 10 rfl rfl)
theorem dX0_erase_11 : decode cX0_erase 11 = .ok (.ireturn, 1) := dk_172 (dk_at dksX0_erase_0 11 rfl rfl)
abbrev cX0_fault : ByteArray := prog_1_method_23_code
def yX0_fault : MethodName := ⟨RX0, "fault", "()I"⟩
def dkwX0_fault_0 : List UInt8 := [187, 0, 190, 89, 42, 183, 0, 192, 182, 0, 195, 87, 2, 172, 76, 43, 180, 0, 201, 172]
abbrev dktX0_fault_0 : List UInt8 := dkwX0_fault_0 ++ []
theorem dksX0_fault_0 : cX0_fault.data.toList.drop 0 = dktX0_fault_0 := by decide +kernel
theorem dX0_fault_0 : decode cX0_fault 0 = .ok (.new 190, 3) := dk_187 0 190 (dk_at dksX0_fault_0 0 rfl rfl)
theorem dX0_fault_3 : decode cX0_fault 3 = .ok (.dup, 1) := dk_89 (dk_at dksX0_fault_0 3 rfl rfl)
theorem dX0_fault_4 : decode cX0_fault 4 = .ok (.aload_n 0, 1) := dk_42 (dk_at dksX0_fault_0 4 rfl rfl)
theorem dX0_fault_5 : decode cX0_fault 5 = .ok (.invokespecial 192, 3) := dk_183 0 192 (dk_at dksX0_fault_0 5 rfl rfl)
theorem dX0_fault_8 : decode cX0_fault 8 = .ok (.invokevirtual 195, 3) := dk_182 0 195 (dk_at dksX0_fault_0 8 rfl rfl)
theorem dX0_fault_11 : decode cX0_fault 11 = .ok (.pop, 1) := dk_87 (dk_at dksX0_fault_0 11 rfl rfl)
theorem dX0_fault_12 : decode cX0_fault 12 = .ok (.iconst (-1), 1) := dk_2 (dk_at dksX0_fault_0 12 rfl rfl)
theorem dX0_fault_13 : decode cX0_fault 13 = .ok (.ireturn, 1) := dk_172 (dk_at dksX0_fault_0 13 rfl rfl)
theorem dX0_fault_14 : decode cX0_fault 14 = .ok (.astore_n 1, 1) := dk_76 (dk_at dksX0_fault_0 14 rfl rfl)
theorem dX0_fault_15 : decode cX0_fault 15 = .ok (.aload_n 1, 1) := dk_43 (dk_at dksX0_fault_0 15 rfl rfl)
theorem dX0_fault_16 : decode cX0_fault 16 = .ok (.getfield 201, 3) := dk_180 0 201 (dk_at dksX0_fault_0 16 rfl rfl)
theorem dX0_fault_19 : decode cX0_fault 19 = .ok (.ireturn, 1) := dk_172 (dk_at dksX0_fault_0 19 rfl rfl)
abbrev cX0_table : ByteArray := prog_1_method_24_code
def yX0_table : MethodName := ⟨RX0, "table", "()I"⟩
def dkwX0_table_2 : List UInt8 := [3, 181, 0, 187, 42, 182, 0, 178, 43, 180, 0, 204, 172]
abbrev dktX0_table_2 : List UInt8 := dkwX0_table_2 ++ []
def dkwX0_table_1 : List UInt8 := [43, 180, 0, 204, 162, 0, 19, 42, 43, 180, 0, 206, 28, 50, 182, 0, 209, 132, 2, 1, 167, 255, 235, 42]
abbrev dktX0_table_1 : List UInt8 := dkwX0_table_1 ++ dktX0_table_2
def dkwX0_table_0 : List UInt8 := [187, 0, 190, 89, 42, 183, 0, 192, 76, 43, 182, 0, 195, 87, 167, 0, 7, 77, 16, 252, 172, 3, 61, 28]
abbrev dktX0_table_0 : List UInt8 := dkwX0_table_0 ++ dktX0_table_1
theorem dksX0_table_0 : cX0_table.data.toList.drop 0 = dktX0_table_0 := by decide +kernel
theorem dksX0_table_1 : cX0_table.data.toList.drop 24 = dktX0_table_1 := dk_seg dksX0_table_0 24 rfl rfl
theorem dksX0_table_2 : cX0_table.data.toList.drop 48 = dktX0_table_2 := dk_seg dksX0_table_1 24 rfl rfl
theorem dX0_table_0 : decode cX0_table 0 = .ok (.new 190, 3) := dk_187 0 190 (dk_at dksX0_table_0 0 rfl rfl)
theorem dX0_table_3 : decode cX0_table 3 = .ok (.dup, 1) := dk_89 (dk_at dksX0_table_0 3 rfl rfl)
theorem dX0_table_4 : decode cX0_table 4 = .ok (.aload_n 0, 1) := dk_42 (dk_at dksX0_table_0 4 rfl rfl)
theorem dX0_table_5 : decode cX0_table 5 = .ok (.invokespecial 192, 3) := dk_183 0 192 (dk_at dksX0_table_0 5 rfl rfl)
theorem dX0_table_8 : decode cX0_table 8 = .ok (.astore_n 1, 1) := dk_76 (dk_at dksX0_table_0 8 rfl rfl)
theorem dX0_table_9 : decode cX0_table 9 = .ok (.aload_n 1, 1) := dk_43 (dk_at dksX0_table_0 9 rfl rfl)
theorem dX0_table_10 : decode cX0_table 10 = .ok (.invokevirtual 195, 3) := dk_182 0 195 (dk_at dksX0_table_0 10 rfl rfl)
theorem dX0_table_13 : decode cX0_table 13 = .ok (.pop, 1) := dk_87 (dk_at dksX0_table_0 13 rfl rfl)
theorem dX0_table_14 : decode cX0_table 14 = .ok (.goto 7, 3) := dk_167 0 7 (dk_at dksX0_table_0 14 rfl rfl)
theorem dX0_table_17 : decode cX0_table 17 = .ok (.astore_n 2, 1) := dk_77 (dk_at dksX0_table_0 17 rfl rfl)
theorem dX0_table_18 : decode cX0_table 18 = .ok (.bipush (-4), 2) := dk_16 252 (dk_at dksX0_table_0 18 rfl rfl)
theorem dX0_table_20 : decode cX0_table 20 = .ok (.ireturn, 1) := dk_172 (dk_at dksX0_table_0 20 rfl rfl)
theorem dX0_table_21 : decode cX0_table 21 = .ok (.iconst 0, 1) := dk_3 (dk_at dksX0_table_0 21 rfl rfl)
theorem dX0_table_22 : decode cX0_table 22 = .ok (.istore_n 2, 1) := dk_61 (dk_at dksX0_table_0 22 rfl rfl)
theorem dX0_table_23 : decode cX0_table 23 = .ok (.iload_n 2, 1) := dk_28 (dk_at dksX0_table_0 23 rfl rfl)
theorem dX0_table_24 : decode cX0_table 24 = .ok (.aload_n 1, 1) := dk_43 (dk_at dksX0_table_1 0 rfl rfl)
theorem dX0_table_25 : decode cX0_table 25 = .ok (.getfield 204, 3) := dk_180 0 204 (dk_at dksX0_table_1 1 rfl rfl)
theorem dX0_table_28 : decode cX0_table 28 = .ok (.if_icmp .ge 19, 3) := dk_162 0 19 (dk_at dksX0_table_1 4 rfl rfl)
theorem dX0_table_31 : decode cX0_table 31 = .ok (.aload_n 0, 1) := dk_42 (dk_at dksX0_table_1 7 rfl rfl)
theorem dX0_table_32 : decode cX0_table 32 = .ok (.aload_n 1, 1) := dk_43 (dk_at dksX0_table_1 8 rfl rfl)
theorem dX0_table_33 : decode cX0_table 33 = .ok (.getfield 206, 3) := dk_180 0 206 (dk_at dksX0_table_1 9 rfl rfl)
theorem dX0_table_36 : decode cX0_table 36 = .ok (.iload_n 2, 1) := dk_28 (dk_at dksX0_table_1 12 rfl rfl)
theorem dX0_table_37 : decode cX0_table 37 = .ok (.aaload, 1) := dk_50 (dk_at dksX0_table_1 13 rfl rfl)
theorem dX0_table_38 : decode cX0_table 38 = .ok (.invokevirtual 209, 3) := dk_182 0 209 (dk_at dksX0_table_1 14 rfl rfl)
theorem dX0_table_41 : decode cX0_table 41 = .ok (.iinc 2 1, 3) := dk_132 2 1 (dk_at dksX0_table_1 17 rfl rfl)
theorem dX0_table_44 : decode cX0_table 44 = .ok (.goto (-21), 3) := dk_167 255 235 (dk_at dksX0_table_1 20 rfl rfl)
theorem dX0_table_47 : decode cX0_table 47 = .ok (.aload_n 0, 1) := dk_42 (dk_at dksX0_table_1 23 rfl rfl)
theorem dX0_table_48 : decode cX0_table 48 = .ok (.iconst 0, 1) := dk_3 (dk_at dksX0_table_2 0 rfl rfl)
theorem dX0_table_49 : decode cX0_table 49 = .ok (.putfield 187, 3) := dk_181 0 187 (dk_at dksX0_table_2 1 rfl rfl)
theorem dX0_table_52 : decode cX0_table 52 = .ok (.aload_n 0, 1) := dk_42 (dk_at dksX0_table_2 4 rfl rfl)
theorem dX0_table_53 : decode cX0_table 53 = .ok (.invokevirtual 178, 3) := dk_182 0 178 (dk_at dksX0_table_2 5 rfl rfl)
theorem dX0_table_56 : decode cX0_table 56 = .ok (.aload_n 1, 1) := dk_43 (dk_at dksX0_table_2 8 rfl rfl)
theorem dX0_table_57 : decode cX0_table 57 = .ok (.getfield 204, 3) := dk_180 0 204 (dk_at dksX0_table_2 9 rfl rfl)
theorem dX0_table_60 : decode cX0_table 60 = .ok (.ireturn, 1) := dk_172 (dk_at dksX0_table_2 12 rfl rfl)
abbrev cX0_tell : ByteArray := prog_1_method_16_code
def yX0_tell : MethodName := ⟨RX0, "tell", "([I)V"⟩
def dkwX0_tell_9 : List UInt8 := [43, 4, 46, 181, 0, 132, 167, 0, 11, 42, 180, 0, 139, 3, 184, 0, 55, 177]
abbrev dktX0_tell_9 : List UInt8 := dkwX0_tell_9 ++ []
def dkwX0_tell_8 : List UInt8 := [120, 128, 79, 167, 0, 38, 42, 43, 4, 46, 181, 0, 118, 42, 43, 5, 46, 181, 0, 121, 167, 0, 21, 42]
abbrev dktX0_tell_8 : List UInt8 := dkwX0_tell_8 ++ dktX0_tell_9
def dkwX0_tell_7 : List UInt8 := [4, 46, 92, 46, 4, 43, 5, 46, 120, 128, 79, 42, 180, 0, 139, 43, 5, 46, 92, 46, 4, 43, 4, 46]
abbrev dktX0_tell_7 : List UInt8 := dkwX0_tell_7 ++ dktX0_tell_8
def dkwX0_tell_6 : List UInt8 := [181, 0, 64, 28, 8, 100, 43, 4, 46, 43, 5, 46, 184, 0, 149, 83, 167, 0, 73, 42, 180, 0, 139, 43]
abbrev dktX0_tell_6 : List UInt8 := dkwX0_tell_6 ++ dktX0_tell_7
def dkwX0_tell_5 : List UInt8 := [46, 28, 43, 5, 46, 184, 0, 145, 83, 167, 0, 104, 42, 180, 0, 42, 42, 89, 180, 0, 64, 90, 4, 96]
abbrev dktX0_tell_5 : List UInt8 := dkwX0_tell_5 ++ dktX0_tell_6
def dkwX0_tell_4 : List UInt8 := [42, 3, 181, 0, 118, 42, 3, 181, 0, 121, 42, 2, 181, 0, 132, 167, 0, 122, 42, 180, 0, 36, 43, 4]
abbrev dktX0_tell_4 : List UInt8 := dkwX0_tell_4 ++ dktX0_tell_5
def dkwX0_tell_3 : List UInt8 := [180, 0, 36, 29, 3, 3, 184, 0, 145, 83, 132, 3, 1, 167, 255, 234, 42, 180, 0, 139, 3, 184, 0, 55]
abbrev dktX0_tell_3 : List UInt8 := dkwX0_tell_3 ++ dktX0_tell_4
def dkwX0_tell_2 : List UInt8 := [42, 43, 4, 46, 181, 0, 115, 42, 3, 181, 0, 64, 3, 62, 29, 42, 180, 0, 115, 162, 0, 20, 42]
abbrev dktX0_tell_2 : List UInt8 := dkwX0_tell_2 ++ dktX0_tell_3
def dkwX0_tell_1 : List UInt8 := [170, 0, 0, 0, 0, 0, 235, 0, 0, 0, 0, 0, 0, 0, 10, 0, 0, 0, 59, 0, 0, 0, 124, 0, 0, 0, 124, 0, 0, 0, 124, 0, 0, 0, 124, 0, 0, 0, 142, 0, 0, 0, 142, 0, 0, 0, 142, 0, 0, 0, 173, 0, 0, 0, 208, 0, 0, 0, 225]
abbrev dktX0_tell_1 : List UInt8 := dkwX0_tell_1 ++ dktX0_tell_2
def dkwX0_tell_0 : List UInt8 := [43, 3, 46, 61, 28]
abbrev dktX0_tell_0 : List UInt8 := dkwX0_tell_0 ++ dktX0_tell_1
theorem dksX0_tell_0 : cX0_tell.data.toList.drop 0 = dktX0_tell_0 := by decide +kernel
theorem dksX0_tell_1 : cX0_tell.data.toList.drop 5 = dktX0_tell_1 := dk_seg dksX0_tell_0 5 rfl rfl
theorem dksX0_tell_2 : cX0_tell.data.toList.drop 64 = dktX0_tell_2 := dk_seg dksX0_tell_1 59 rfl rfl
theorem dksX0_tell_3 : cX0_tell.data.toList.drop 87 = dktX0_tell_3 := dk_seg dksX0_tell_2 23 rfl rfl
theorem dksX0_tell_4 : cX0_tell.data.toList.drop 111 = dktX0_tell_4 := dk_seg dksX0_tell_3 24 rfl rfl
theorem dksX0_tell_5 : cX0_tell.data.toList.drop 135 = dktX0_tell_5 := dk_seg dksX0_tell_4 24 rfl rfl
theorem dksX0_tell_6 : cX0_tell.data.toList.drop 159 = dktX0_tell_6 := dk_seg dksX0_tell_5 24 rfl rfl
theorem dksX0_tell_7 : cX0_tell.data.toList.drop 183 = dktX0_tell_7 := dk_seg dksX0_tell_6 24 rfl rfl
theorem dksX0_tell_8 : cX0_tell.data.toList.drop 207 = dktX0_tell_8 := dk_seg dksX0_tell_7 24 rfl rfl
theorem dksX0_tell_9 : cX0_tell.data.toList.drop 231 = dktX0_tell_9 := dk_seg dksX0_tell_8 24 rfl rfl
theorem dX0_tell_0 : decode cX0_tell 0 = .ok (.aload_n 1, 1) := dk_43 (dk_at dksX0_tell_0 0 rfl rfl)
theorem dX0_tell_1 : decode cX0_tell 1 = .ok (.iconst 0, 1) := dk_3 (dk_at dksX0_tell_0 1 rfl rfl)
theorem dX0_tell_2 : decode cX0_tell 2 = .ok (.iaload, 1) := dk_46 (dk_at dksX0_tell_0 2 rfl rfl)
theorem dX0_tell_3 : decode cX0_tell 3 = .ok (.istore_n 2, 1) := dk_61 (dk_at dksX0_tell_0 3 rfl rfl)
theorem dX0_tell_4 : decode cX0_tell 4 = .ok (.iload_n 2, 1) := dk_28 (dk_at dksX0_tell_0 4 rfl rfl)
theorem dX0_tell_5 : decode cX0_tell 5 = .ok (.tableswitch 235 0 10 #[59, 124, 124, 124, 124, 142, 142, 142, 173, 208, 225], 59) := by decide +kernel
theorem dX0_tell_64 : decode cX0_tell 64 = .ok (.aload_n 0, 1) := dk_42 (dk_at dksX0_tell_2 0 rfl rfl)
theorem dX0_tell_65 : decode cX0_tell 65 = .ok (.aload_n 1, 1) := dk_43 (dk_at dksX0_tell_2 1 rfl rfl)
theorem dX0_tell_66 : decode cX0_tell 66 = .ok (.iconst 1, 1) := dk_4 (dk_at dksX0_tell_2 2 rfl rfl)
theorem dX0_tell_67 : decode cX0_tell 67 = .ok (.iaload, 1) := dk_46 (dk_at dksX0_tell_2 3 rfl rfl)
theorem dX0_tell_68 : decode cX0_tell 68 = .ok (.putfield 115, 3) := dk_181 0 115 (dk_at dksX0_tell_2 4 rfl rfl)
theorem dX0_tell_71 : decode cX0_tell 71 = .ok (.aload_n 0, 1) := dk_42 (dk_at dksX0_tell_2 7 rfl rfl)
theorem dX0_tell_72 : decode cX0_tell 72 = .ok (.iconst 0, 1) := dk_3 (dk_at dksX0_tell_2 8 rfl rfl)
theorem dX0_tell_73 : decode cX0_tell 73 = .ok (.putfield 64, 3) := dk_181 0 64 (dk_at dksX0_tell_2 9 rfl rfl)
theorem dX0_tell_76 : decode cX0_tell 76 = .ok (.iconst 0, 1) := dk_3 (dk_at dksX0_tell_2 12 rfl rfl)
theorem dX0_tell_77 : decode cX0_tell 77 = .ok (.istore_n 3, 1) := dk_62 (dk_at dksX0_tell_2 13 rfl rfl)
theorem dX0_tell_78 : decode cX0_tell 78 = .ok (.iload_n 3, 1) := dk_29 (dk_at dksX0_tell_2 14 rfl rfl)
theorem dX0_tell_79 : decode cX0_tell 79 = .ok (.aload_n 0, 1) := dk_42 (dk_at dksX0_tell_2 15 rfl rfl)
theorem dX0_tell_80 : decode cX0_tell 80 = .ok (.getfield 115, 3) := dk_180 0 115 (dk_at dksX0_tell_2 16 rfl rfl)
theorem dX0_tell_83 : decode cX0_tell 83 = .ok (.if_icmp .ge 20, 3) := dk_162 0 20 (dk_at dksX0_tell_2 19 rfl rfl)
theorem dX0_tell_86 : decode cX0_tell 86 = .ok (.aload_n 0, 1) := dk_42 (dk_at dksX0_tell_2 22 rfl rfl)
theorem dX0_tell_87 : decode cX0_tell 87 = .ok (.getfield 36, 3) := dk_180 0 36 (dk_at dksX0_tell_3 0 rfl rfl)
theorem dX0_tell_90 : decode cX0_tell 90 = .ok (.iload_n 3, 1) := dk_29 (dk_at dksX0_tell_3 3 rfl rfl)
theorem dX0_tell_91 : decode cX0_tell 91 = .ok (.iconst 0, 1) := dk_3 (dk_at dksX0_tell_3 4 rfl rfl)
theorem dX0_tell_92 : decode cX0_tell 92 = .ok (.iconst 0, 1) := dk_3 (dk_at dksX0_tell_3 5 rfl rfl)
theorem dX0_tell_93 : decode cX0_tell 93 = .ok (.invokestatic 145, 3) := dk_184 0 145 (dk_at dksX0_tell_3 6 rfl rfl)
theorem dX0_tell_96 : decode cX0_tell 96 = .ok (.aastore, 1) := dk_83 (dk_at dksX0_tell_3 9 rfl rfl)
theorem dX0_tell_97 : decode cX0_tell 97 = .ok (.iinc 3 1, 3) := dk_132 3 1 (dk_at dksX0_tell_3 10 rfl rfl)
theorem dX0_tell_100 : decode cX0_tell 100 = .ok (.goto (-22), 3) := dk_167 255 234 (dk_at dksX0_tell_3 13 rfl rfl)
theorem dX0_tell_103 : decode cX0_tell 103 = .ok (.aload_n 0, 1) := dk_42 (dk_at dksX0_tell_3 16 rfl rfl)
theorem dX0_tell_104 : decode cX0_tell 104 = .ok (.getfield 139, 3) := dk_180 0 139 (dk_at dksX0_tell_3 17 rfl rfl)
theorem dX0_tell_107 : decode cX0_tell 107 = .ok (.iconst 0, 1) := dk_3 (dk_at dksX0_tell_3 20 rfl rfl)
theorem dX0_tell_108 : decode cX0_tell 108 = .ok (.invokestatic 55, 3) := dk_184 0 55 (dk_at dksX0_tell_3 21 rfl rfl)
theorem dX0_tell_111 : decode cX0_tell 111 = .ok (.aload_n 0, 1) := dk_42 (dk_at dksX0_tell_4 0 rfl rfl)
theorem dX0_tell_112 : decode cX0_tell 112 = .ok (.iconst 0, 1) := dk_3 (dk_at dksX0_tell_4 1 rfl rfl)
theorem dX0_tell_113 : decode cX0_tell 113 = .ok (.putfield 118, 3) := dk_181 0 118 (dk_at dksX0_tell_4 2 rfl rfl)
theorem dX0_tell_116 : decode cX0_tell 116 = .ok (.aload_n 0, 1) := dk_42 (dk_at dksX0_tell_4 5 rfl rfl)
theorem dX0_tell_117 : decode cX0_tell 117 = .ok (.iconst 0, 1) := dk_3 (dk_at dksX0_tell_4 6 rfl rfl)
theorem dX0_tell_118 : decode cX0_tell 118 = .ok (.putfield 121, 3) := dk_181 0 121 (dk_at dksX0_tell_4 7 rfl rfl)
theorem dX0_tell_121 : decode cX0_tell 121 = .ok (.aload_n 0, 1) := dk_42 (dk_at dksX0_tell_4 10 rfl rfl)
theorem dX0_tell_122 : decode cX0_tell 122 = .ok (.iconst (-1), 1) := dk_2 (dk_at dksX0_tell_4 11 rfl rfl)
theorem dX0_tell_123 : decode cX0_tell 123 = .ok (.putfield 132, 3) := dk_181 0 132 (dk_at dksX0_tell_4 12 rfl rfl)
theorem dX0_tell_126 : decode cX0_tell 126 = .ok (.goto 122, 3) := dk_167 0 122 (dk_at dksX0_tell_4 15 rfl rfl)
theorem dX0_tell_129 : decode cX0_tell 129 = .ok (.aload_n 0, 1) := dk_42 (dk_at dksX0_tell_4 18 rfl rfl)
theorem dX0_tell_130 : decode cX0_tell 130 = .ok (.getfield 36, 3) := dk_180 0 36 (dk_at dksX0_tell_4 19 rfl rfl)
theorem dX0_tell_133 : decode cX0_tell 133 = .ok (.aload_n 1, 1) := dk_43 (dk_at dksX0_tell_4 22 rfl rfl)
theorem dX0_tell_134 : decode cX0_tell 134 = .ok (.iconst 1, 1) := dk_4 (dk_at dksX0_tell_4 23 rfl rfl)
theorem dX0_tell_135 : decode cX0_tell 135 = .ok (.iaload, 1) := dk_46 (dk_at dksX0_tell_5 0 rfl rfl)
theorem dX0_tell_136 : decode cX0_tell 136 = .ok (.iload_n 2, 1) := dk_28 (dk_at dksX0_tell_5 1 rfl rfl)
theorem dX0_tell_137 : decode cX0_tell 137 = .ok (.aload_n 1, 1) := dk_43 (dk_at dksX0_tell_5 2 rfl rfl)
theorem dX0_tell_138 : decode cX0_tell 138 = .ok (.iconst 2, 1) := dk_5 (dk_at dksX0_tell_5 3 rfl rfl)
theorem dX0_tell_139 : decode cX0_tell 139 = .ok (.iaload, 1) := dk_46 (dk_at dksX0_tell_5 4 rfl rfl)
theorem dX0_tell_140 : decode cX0_tell 140 = .ok (.invokestatic 145, 3) := dk_184 0 145 (dk_at dksX0_tell_5 5 rfl rfl)
theorem dX0_tell_143 : decode cX0_tell 143 = .ok (.aastore, 1) := dk_83 (dk_at dksX0_tell_5 8 rfl rfl)
theorem dX0_tell_144 : decode cX0_tell 144 = .ok (.goto 104, 3) := dk_167 0 104 (dk_at dksX0_tell_5 9 rfl rfl)
theorem dX0_tell_147 : decode cX0_tell 147 = .ok (.aload_n 0, 1) := dk_42 (dk_at dksX0_tell_5 12 rfl rfl)
theorem dX0_tell_148 : decode cX0_tell 148 = .ok (.getfield 42, 3) := dk_180 0 42 (dk_at dksX0_tell_5 13 rfl rfl)
theorem dX0_tell_151 : decode cX0_tell 151 = .ok (.aload_n 0, 1) := dk_42 (dk_at dksX0_tell_5 16 rfl rfl)
theorem dX0_tell_152 : decode cX0_tell 152 = .ok (.dup, 1) := dk_89 (dk_at dksX0_tell_5 17 rfl rfl)
theorem dX0_tell_153 : decode cX0_tell 153 = .ok (.getfield 64, 3) := dk_180 0 64 (dk_at dksX0_tell_5 18 rfl rfl)
theorem dX0_tell_156 : decode cX0_tell 156 = .ok (.dup_x1, 1) := dk_90 (dk_at dksX0_tell_5 21 rfl rfl)
theorem dX0_tell_157 : decode cX0_tell 157 = .ok (.iconst 1, 1) := dk_4 (dk_at dksX0_tell_5 22 rfl rfl)
theorem dX0_tell_158 : decode cX0_tell 158 = .ok (.iadd, 1) := dk_96 (dk_at dksX0_tell_5 23 rfl rfl)
theorem dX0_tell_159 : decode cX0_tell 159 = .ok (.putfield 64, 3) := dk_181 0 64 (dk_at dksX0_tell_6 0 rfl rfl)
theorem dX0_tell_162 : decode cX0_tell 162 = .ok (.iload_n 2, 1) := dk_28 (dk_at dksX0_tell_6 3 rfl rfl)
theorem dX0_tell_163 : decode cX0_tell 163 = .ok (.iconst 5, 1) := dk_8 (dk_at dksX0_tell_6 4 rfl rfl)
theorem dX0_tell_164 : decode cX0_tell 164 = .ok (.isub, 1) := dk_100 (dk_at dksX0_tell_6 5 rfl rfl)
theorem dX0_tell_165 : decode cX0_tell 165 = .ok (.aload_n 1, 1) := dk_43 (dk_at dksX0_tell_6 6 rfl rfl)
theorem dX0_tell_166 : decode cX0_tell 166 = .ok (.iconst 1, 1) := dk_4 (dk_at dksX0_tell_6 7 rfl rfl)
theorem dX0_tell_167 : decode cX0_tell 167 = .ok (.iaload, 1) := dk_46 (dk_at dksX0_tell_6 8 rfl rfl)
theorem dX0_tell_168 : decode cX0_tell 168 = .ok (.aload_n 1, 1) := dk_43 (dk_at dksX0_tell_6 9 rfl rfl)
theorem dX0_tell_169 : decode cX0_tell 169 = .ok (.iconst 2, 1) := dk_5 (dk_at dksX0_tell_6 10 rfl rfl)
theorem dX0_tell_170 : decode cX0_tell 170 = .ok (.iaload, 1) := dk_46 (dk_at dksX0_tell_6 11 rfl rfl)
theorem dX0_tell_171 : decode cX0_tell 171 = .ok (.invokestatic 149, 3) := dk_184 0 149 (dk_at dksX0_tell_6 12 rfl rfl)
theorem dX0_tell_174 : decode cX0_tell 174 = .ok (.aastore, 1) := dk_83 (dk_at dksX0_tell_6 15 rfl rfl)
theorem dX0_tell_175 : decode cX0_tell 175 = .ok (.goto 73, 3) := dk_167 0 73 (dk_at dksX0_tell_6 16 rfl rfl)
theorem dX0_tell_178 : decode cX0_tell 178 = .ok (.aload_n 0, 1) := dk_42 (dk_at dksX0_tell_6 19 rfl rfl)
theorem dX0_tell_179 : decode cX0_tell 179 = .ok (.getfield 139, 3) := dk_180 0 139 (dk_at dksX0_tell_6 20 rfl rfl)
theorem dX0_tell_182 : decode cX0_tell 182 = .ok (.aload_n 1, 1) := dk_43 (dk_at dksX0_tell_6 23 rfl rfl)
theorem dX0_tell_183 : decode cX0_tell 183 = .ok (.iconst 1, 1) := dk_4 (dk_at dksX0_tell_7 0 rfl rfl)
theorem dX0_tell_184 : decode cX0_tell 184 = .ok (.iaload, 1) := dk_46 (dk_at dksX0_tell_7 1 rfl rfl)
theorem dX0_tell_185 : decode cX0_tell 185 = .ok (.dup2, 1) := dk_92 (dk_at dksX0_tell_7 2 rfl rfl)
theorem dX0_tell_186 : decode cX0_tell 186 = .ok (.iaload, 1) := dk_46 (dk_at dksX0_tell_7 3 rfl rfl)
theorem dX0_tell_187 : decode cX0_tell 187 = .ok (.iconst 1, 1) := dk_4 (dk_at dksX0_tell_7 4 rfl rfl)
theorem dX0_tell_188 : decode cX0_tell 188 = .ok (.aload_n 1, 1) := dk_43 (dk_at dksX0_tell_7 5 rfl rfl)
theorem dX0_tell_189 : decode cX0_tell 189 = .ok (.iconst 2, 1) := dk_5 (dk_at dksX0_tell_7 6 rfl rfl)
theorem dX0_tell_190 : decode cX0_tell 190 = .ok (.iaload, 1) := dk_46 (dk_at dksX0_tell_7 7 rfl rfl)
theorem dX0_tell_191 : decode cX0_tell 191 = .ok (.ishl, 1) := dk_120 (dk_at dksX0_tell_7 8 rfl rfl)
theorem dX0_tell_192 : decode cX0_tell 192 = .ok (.ior, 1) := dk_128 (dk_at dksX0_tell_7 9 rfl rfl)
theorem dX0_tell_193 : decode cX0_tell 193 = .ok (.iastore, 1) := dk_79 (dk_at dksX0_tell_7 10 rfl rfl)
theorem dX0_tell_194 : decode cX0_tell 194 = .ok (.aload_n 0, 1) := dk_42 (dk_at dksX0_tell_7 11 rfl rfl)
theorem dX0_tell_195 : decode cX0_tell 195 = .ok (.getfield 139, 3) := dk_180 0 139 (dk_at dksX0_tell_7 12 rfl rfl)
theorem dX0_tell_198 : decode cX0_tell 198 = .ok (.aload_n 1, 1) := dk_43 (dk_at dksX0_tell_7 15 rfl rfl)
theorem dX0_tell_199 : decode cX0_tell 199 = .ok (.iconst 2, 1) := dk_5 (dk_at dksX0_tell_7 16 rfl rfl)
theorem dX0_tell_200 : decode cX0_tell 200 = .ok (.iaload, 1) := dk_46 (dk_at dksX0_tell_7 17 rfl rfl)
theorem dX0_tell_201 : decode cX0_tell 201 = .ok (.dup2, 1) := dk_92 (dk_at dksX0_tell_7 18 rfl rfl)
theorem dX0_tell_202 : decode cX0_tell 202 = .ok (.iaload, 1) := dk_46 (dk_at dksX0_tell_7 19 rfl rfl)
theorem dX0_tell_203 : decode cX0_tell 203 = .ok (.iconst 1, 1) := dk_4 (dk_at dksX0_tell_7 20 rfl rfl)
theorem dX0_tell_204 : decode cX0_tell 204 = .ok (.aload_n 1, 1) := dk_43 (dk_at dksX0_tell_7 21 rfl rfl)
theorem dX0_tell_205 : decode cX0_tell 205 = .ok (.iconst 1, 1) := dk_4 (dk_at dksX0_tell_7 22 rfl rfl)
theorem dX0_tell_206 : decode cX0_tell 206 = .ok (.iaload, 1) := dk_46 (dk_at dksX0_tell_7 23 rfl rfl)
theorem dX0_tell_207 : decode cX0_tell 207 = .ok (.ishl, 1) := dk_120 (dk_at dksX0_tell_8 0 rfl rfl)
theorem dX0_tell_208 : decode cX0_tell 208 = .ok (.ior, 1) := dk_128 (dk_at dksX0_tell_8 1 rfl rfl)
theorem dX0_tell_209 : decode cX0_tell 209 = .ok (.iastore, 1) := dk_79 (dk_at dksX0_tell_8 2 rfl rfl)
theorem dX0_tell_210 : decode cX0_tell 210 = .ok (.goto 38, 3) := dk_167 0 38 (dk_at dksX0_tell_8 3 rfl rfl)
theorem dX0_tell_213 : decode cX0_tell 213 = .ok (.aload_n 0, 1) := dk_42 (dk_at dksX0_tell_8 6 rfl rfl)
theorem dX0_tell_214 : decode cX0_tell 214 = .ok (.aload_n 1, 1) := dk_43 (dk_at dksX0_tell_8 7 rfl rfl)
theorem dX0_tell_215 : decode cX0_tell 215 = .ok (.iconst 1, 1) := dk_4 (dk_at dksX0_tell_8 8 rfl rfl)
theorem dX0_tell_216 : decode cX0_tell 216 = .ok (.iaload, 1) := dk_46 (dk_at dksX0_tell_8 9 rfl rfl)
theorem dX0_tell_217 : decode cX0_tell 217 = .ok (.putfield 118, 3) := dk_181 0 118 (dk_at dksX0_tell_8 10 rfl rfl)
theorem dX0_tell_220 : decode cX0_tell 220 = .ok (.aload_n 0, 1) := dk_42 (dk_at dksX0_tell_8 13 rfl rfl)
theorem dX0_tell_221 : decode cX0_tell 221 = .ok (.aload_n 1, 1) := dk_43 (dk_at dksX0_tell_8 14 rfl rfl)
theorem dX0_tell_222 : decode cX0_tell 222 = .ok (.iconst 2, 1) := dk_5 (dk_at dksX0_tell_8 15 rfl rfl)
theorem dX0_tell_223 : decode cX0_tell 223 = .ok (.iaload, 1) := dk_46 (dk_at dksX0_tell_8 16 rfl rfl)
theorem dX0_tell_224 : decode cX0_tell 224 = .ok (.putfield 121, 3) := dk_181 0 121 (dk_at dksX0_tell_8 17 rfl rfl)
theorem dX0_tell_227 : decode cX0_tell 227 = .ok (.goto 21, 3) := dk_167 0 21 (dk_at dksX0_tell_8 20 rfl rfl)
theorem dX0_tell_230 : decode cX0_tell 230 = .ok (.aload_n 0, 1) := dk_42 (dk_at dksX0_tell_8 23 rfl rfl)
theorem dX0_tell_231 : decode cX0_tell 231 = .ok (.aload_n 1, 1) := dk_43 (dk_at dksX0_tell_9 0 rfl rfl)
theorem dX0_tell_232 : decode cX0_tell 232 = .ok (.iconst 1, 1) := dk_4 (dk_at dksX0_tell_9 1 rfl rfl)
theorem dX0_tell_233 : decode cX0_tell 233 = .ok (.iaload, 1) := dk_46 (dk_at dksX0_tell_9 2 rfl rfl)
theorem dX0_tell_234 : decode cX0_tell 234 = .ok (.putfield 132, 3) := dk_181 0 132 (dk_at dksX0_tell_9 3 rfl rfl)
theorem dX0_tell_237 : decode cX0_tell 237 = .ok (.goto 11, 3) := dk_167 0 11 (dk_at dksX0_tell_9 6 rfl rfl)
theorem dX0_tell_240 : decode cX0_tell 240 = .ok (.aload_n 0, 1) := dk_42 (dk_at dksX0_tell_9 9 rfl rfl)
theorem dX0_tell_241 : decode cX0_tell 241 = .ok (.getfield 139, 3) := dk_180 0 139 (dk_at dksX0_tell_9 10 rfl rfl)
theorem dX0_tell_244 : decode cX0_tell 244 = .ok (.iconst 0, 1) := dk_3 (dk_at dksX0_tell_9 13 rfl rfl)
theorem dX0_tell_245 : decode cX0_tell 245 = .ok (.invokestatic 55, 3) := dk_184 0 55 (dk_at dksX0_tell_9 14 rfl rfl)
theorem dX0_tell_248 : decode cX0_tell 248 = .ok (.return_, 1) := dk_177 (dk_at dksX0_tell_9 17 rfl rfl)
abbrev cX0_named : ByteArray := prog_1_method_3_code
def yX0_named : MethodName := ⟨RX0, "named", "(II)LPerilSeat$Name;"⟩
def dkwX0_named_3 : List UInt8 := [183, 0, 12, 176, 187, 0, 13, 89, 27, 183, 0, 15, 176, 187, 0, 16, 89, 183, 0, 18, 176]
abbrev dktX0_named_3 : List UInt8 := dkwX0_named_3 ++ []
def dkwX0_named_2 : List UInt8 := [187, 0, 1, 89, 3, 183, 0, 3, 176, 187, 0, 7, 89, 27, 183, 0, 9, 176, 187, 0, 10, 89, 27]
abbrev dktX0_named_2 : List UInt8 := dkwX0_named_2 ++ dktX0_named_3
def dkwX0_named_1 : List UInt8 := [170, 0, 0, 0, 0, 0, 67, 0, 0, 0, 0, 0, 0, 0, 3, 0, 0, 0, 31, 0, 0, 0, 40, 0, 0, 0, 49, 0, 0, 0, 58]
abbrev dktX0_named_1 : List UInt8 := dkwX0_named_1 ++ dktX0_named_2
def dkwX0_named_0 : List UInt8 := [26]
abbrev dktX0_named_0 : List UInt8 := dkwX0_named_0 ++ dktX0_named_1
theorem dksX0_named_0 : cX0_named.data.toList.drop 0 = dktX0_named_0 := by decide +kernel
theorem dksX0_named_1 : cX0_named.data.toList.drop 1 = dktX0_named_1 := dk_seg dksX0_named_0 1 rfl rfl
theorem dksX0_named_2 : cX0_named.data.toList.drop 32 = dktX0_named_2 := dk_seg dksX0_named_1 31 rfl rfl
theorem dksX0_named_3 : cX0_named.data.toList.drop 55 = dktX0_named_3 := dk_seg dksX0_named_2 23 rfl rfl
theorem dX0_named_0 : decode cX0_named 0 = .ok (.iload_n 0, 1) := dk_26 (dk_at dksX0_named_0 0 rfl rfl)
theorem dX0_named_1 : decode cX0_named 1 = .ok (.tableswitch 67 0 3 #[31, 40, 49, 58], 31) := by decide +kernel
theorem dX0_named_32 : decode cX0_named 32 = .ok (.new 1, 3) := dk_187 0 1 (dk_at dksX0_named_2 0 rfl rfl)
theorem dX0_named_35 : decode cX0_named 35 = .ok (.dup, 1) := dk_89 (dk_at dksX0_named_2 3 rfl rfl)
theorem dX0_named_36 : decode cX0_named 36 = .ok (.iconst 0, 1) := dk_3 (dk_at dksX0_named_2 4 rfl rfl)
theorem dX0_named_37 : decode cX0_named 37 = .ok (.invokespecial 3, 3) := dk_183 0 3 (dk_at dksX0_named_2 5 rfl rfl)
theorem dX0_named_40 : decode cX0_named 40 = .ok (.areturn, 1) := dk_176 (dk_at dksX0_named_2 8 rfl rfl)
theorem dX0_named_41 : decode cX0_named 41 = .ok (.new 7, 3) := dk_187 0 7 (dk_at dksX0_named_2 9 rfl rfl)
theorem dX0_named_44 : decode cX0_named 44 = .ok (.dup, 1) := dk_89 (dk_at dksX0_named_2 12 rfl rfl)
theorem dX0_named_45 : decode cX0_named 45 = .ok (.iload_n 1, 1) := dk_27 (dk_at dksX0_named_2 13 rfl rfl)
theorem dX0_named_46 : decode cX0_named 46 = .ok (.invokespecial 9, 3) := dk_183 0 9 (dk_at dksX0_named_2 14 rfl rfl)
theorem dX0_named_49 : decode cX0_named 49 = .ok (.areturn, 1) := dk_176 (dk_at dksX0_named_2 17 rfl rfl)
theorem dX0_named_50 : decode cX0_named 50 = .ok (.new 10, 3) := dk_187 0 10 (dk_at dksX0_named_2 18 rfl rfl)
theorem dX0_named_53 : decode cX0_named 53 = .ok (.dup, 1) := dk_89 (dk_at dksX0_named_2 21 rfl rfl)
theorem dX0_named_54 : decode cX0_named 54 = .ok (.iload_n 1, 1) := dk_27 (dk_at dksX0_named_2 22 rfl rfl)
theorem dX0_named_55 : decode cX0_named 55 = .ok (.invokespecial 12, 3) := dk_183 0 12 (dk_at dksX0_named_3 0 rfl rfl)
theorem dX0_named_58 : decode cX0_named 58 = .ok (.areturn, 1) := dk_176 (dk_at dksX0_named_3 3 rfl rfl)
theorem dX0_named_59 : decode cX0_named 59 = .ok (.new 13, 3) := dk_187 0 13 (dk_at dksX0_named_3 4 rfl rfl)
theorem dX0_named_62 : decode cX0_named 62 = .ok (.dup, 1) := dk_89 (dk_at dksX0_named_3 7 rfl rfl)
theorem dX0_named_63 : decode cX0_named 63 = .ok (.iload_n 1, 1) := dk_27 (dk_at dksX0_named_3 8 rfl rfl)
theorem dX0_named_64 : decode cX0_named 64 = .ok (.invokespecial 15, 3) := dk_183 0 15 (dk_at dksX0_named_3 9 rfl rfl)
theorem dX0_named_67 : decode cX0_named 67 = .ok (.areturn, 1) := dk_176 (dk_at dksX0_named_3 12 rfl rfl)
theorem dX0_named_68 : decode cX0_named 68 = .ok (.new 16, 3) := dk_187 0 16 (dk_at dksX0_named_3 13 rfl rfl)
theorem dX0_named_71 : decode cX0_named 71 = .ok (.dup, 1) := dk_89 (dk_at dksX0_named_3 16 rfl rfl)
theorem dX0_named_72 : decode cX0_named 72 = .ok (.invokespecial 18, 3) := dk_183 0 18 (dk_at dksX0_named_3 17 rfl rfl)
theorem dX0_named_75 : decode cX0_named 75 = .ok (.areturn, 1) := dk_176 (dk_at dksX0_named_3 20 rfl rfl)
abbrev cX0_dubbed : ByteArray := prog_1_method_5_code
def yX0_dubbed : MethodName := ⟨RX0, "dubbed", "(III)LPerilSeat$One;"⟩
def dkwX0_dubbed_3 : List UInt8 := [27, 28, 183, 0, 33, 176]
abbrev dktX0_dubbed_3 : List UInt8 := dkwX0_dubbed_3 ++ []
def dkwX0_dubbed_2 : List UInt8 := [187, 0, 23, 89, 27, 28, 183, 0, 25, 176, 187, 0, 28, 89, 27, 28, 183, 0, 30, 176, 187, 0, 31, 89]
abbrev dktX0_dubbed_2 : List UInt8 := dkwX0_dubbed_2 ++ dktX0_dubbed_3
def dkwX0_dubbed_1 : List UInt8 := [171, 0, 0, 0, 0, 0, 47, 0, 0, 0, 2, 0, 0, 0, 0, 0, 0, 0, 27, 0, 0, 0, 1, 0, 0, 0, 37]
abbrev dktX0_dubbed_1 : List UInt8 := dkwX0_dubbed_1 ++ dktX0_dubbed_2
def dkwX0_dubbed_0 : List UInt8 := [26]
abbrev dktX0_dubbed_0 : List UInt8 := dkwX0_dubbed_0 ++ dktX0_dubbed_1
theorem dksX0_dubbed_0 : cX0_dubbed.data.toList.drop 0 = dktX0_dubbed_0 := by decide +kernel
theorem dksX0_dubbed_1 : cX0_dubbed.data.toList.drop 1 = dktX0_dubbed_1 := dk_seg dksX0_dubbed_0 1 rfl rfl
theorem dksX0_dubbed_2 : cX0_dubbed.data.toList.drop 28 = dktX0_dubbed_2 := dk_seg dksX0_dubbed_1 27 rfl rfl
theorem dksX0_dubbed_3 : cX0_dubbed.data.toList.drop 52 = dktX0_dubbed_3 := dk_seg dksX0_dubbed_2 24 rfl rfl
theorem dX0_dubbed_0 : decode cX0_dubbed 0 = .ok (.iload_n 0, 1) := dk_26 (dk_at dksX0_dubbed_0 0 rfl rfl)
theorem dX0_dubbed_1 : decode cX0_dubbed 1 = .ok (.lookupswitch 47 #[(0, 27), (1, 37)], 27) := by decide +kernel
theorem dX0_dubbed_28 : decode cX0_dubbed 28 = .ok (.new 23, 3) := dk_187 0 23 (dk_at dksX0_dubbed_2 0 rfl rfl)
theorem dX0_dubbed_31 : decode cX0_dubbed 31 = .ok (.dup, 1) := dk_89 (dk_at dksX0_dubbed_2 3 rfl rfl)
theorem dX0_dubbed_32 : decode cX0_dubbed 32 = .ok (.iload_n 1, 1) := dk_27 (dk_at dksX0_dubbed_2 4 rfl rfl)
theorem dX0_dubbed_33 : decode cX0_dubbed 33 = .ok (.iload_n 2, 1) := dk_28 (dk_at dksX0_dubbed_2 5 rfl rfl)
theorem dX0_dubbed_34 : decode cX0_dubbed 34 = .ok (.invokespecial 25, 3) := dk_183 0 25 (dk_at dksX0_dubbed_2 6 rfl rfl)
theorem dX0_dubbed_37 : decode cX0_dubbed 37 = .ok (.areturn, 1) := dk_176 (dk_at dksX0_dubbed_2 9 rfl rfl)
theorem dX0_dubbed_38 : decode cX0_dubbed 38 = .ok (.new 28, 3) := dk_187 0 28 (dk_at dksX0_dubbed_2 10 rfl rfl)
theorem dX0_dubbed_41 : decode cX0_dubbed 41 = .ok (.dup, 1) := dk_89 (dk_at dksX0_dubbed_2 13 rfl rfl)
theorem dX0_dubbed_42 : decode cX0_dubbed 42 = .ok (.iload_n 1, 1) := dk_27 (dk_at dksX0_dubbed_2 14 rfl rfl)
theorem dX0_dubbed_43 : decode cX0_dubbed 43 = .ok (.iload_n 2, 1) := dk_28 (dk_at dksX0_dubbed_2 15 rfl rfl)
theorem dX0_dubbed_44 : decode cX0_dubbed 44 = .ok (.invokespecial 30, 3) := dk_183 0 30 (dk_at dksX0_dubbed_2 16 rfl rfl)
theorem dX0_dubbed_47 : decode cX0_dubbed 47 = .ok (.areturn, 1) := dk_176 (dk_at dksX0_dubbed_2 19 rfl rfl)
theorem dX0_dubbed_48 : decode cX0_dubbed 48 = .ok (.new 31, 3) := dk_187 0 31 (dk_at dksX0_dubbed_2 20 rfl rfl)
theorem dX0_dubbed_51 : decode cX0_dubbed 51 = .ok (.dup, 1) := dk_89 (dk_at dksX0_dubbed_2 23 rfl rfl)
theorem dX0_dubbed_52 : decode cX0_dubbed 52 = .ok (.iload_n 1, 1) := dk_27 (dk_at dksX0_dubbed_3 0 rfl rfl)
theorem dX0_dubbed_53 : decode cX0_dubbed 53 = .ok (.iload_n 2, 1) := dk_28 (dk_at dksX0_dubbed_3 1 rfl rfl)
theorem dX0_dubbed_54 : decode cX0_dubbed 54 = .ok (.invokespecial 33, 3) := dk_183 0 33 (dk_at dksX0_dubbed_3 2 rfl rfl)
theorem dX0_dubbed_57 : decode cX0_dubbed 57 = .ok (.areturn, 1) := dk_176 (dk_at dksX0_dubbed_3 5 rfl rfl)
abbrev cX0_seat : ByteArray := prog_1_method_25_code
def yX0_seat : MethodName := ⟨RX0, "seat", "(II)I"⟩
def dkwX0_seat_3 : List UInt8 := [180, 0, 61, 27, 46, 172, 42, 182, 0, 128, 27, 160, 0, 7, 4, 167, 0, 4, 3, 172, 16, 253, 172]
abbrev dktX0_seat_3 : List UInt8 := dkwX0_seat_3 ++ []
def dkwX0_seat_2 : List UInt8 := [42, 27, 182, 0, 107, 182, 0, 217, 172, 42, 27, 182, 0, 107, 180, 0, 220, 172, 42, 180, 0, 45]
abbrev dktX0_seat_2 : List UInt8 := dkwX0_seat_2 ++ dktX0_seat_3
def dkwX0_seat_1 : List UInt8 := [170, 0, 0, 0, 0, 0, 0, 74, 0, 0, 0, 0, 0, 0, 0, 3, 0, 0, 0, 32, 0, 0, 0, 41, 0, 0, 0, 50, 0, 0, 0, 60]
abbrev dktX0_seat_1 : List UInt8 := dkwX0_seat_1 ++ dktX0_seat_2
def dkwX0_seat_0 : List UInt8 := [42, 27, 182, 0, 213, 154, 0, 6, 16, 254, 172, 28]
abbrev dktX0_seat_0 : List UInt8 := dkwX0_seat_0 ++ dktX0_seat_1
theorem dksX0_seat_0 : cX0_seat.data.toList.drop 0 = dktX0_seat_0 := by decide +kernel
theorem dksX0_seat_1 : cX0_seat.data.toList.drop 12 = dktX0_seat_1 := dk_seg dksX0_seat_0 12 rfl rfl
theorem dksX0_seat_2 : cX0_seat.data.toList.drop 44 = dktX0_seat_2 := dk_seg dksX0_seat_1 32 rfl rfl
theorem dksX0_seat_3 : cX0_seat.data.toList.drop 66 = dktX0_seat_3 := dk_seg dksX0_seat_2 22 rfl rfl
theorem dX0_seat_0 : decode cX0_seat 0 = .ok (.aload_n 0, 1) := dk_42 (dk_at dksX0_seat_0 0 rfl rfl)
theorem dX0_seat_1 : decode cX0_seat 1 = .ok (.iload_n 1, 1) := dk_27 (dk_at dksX0_seat_0 1 rfl rfl)
theorem dX0_seat_2 : decode cX0_seat 2 = .ok (.invokevirtual 213, 3) := dk_182 0 213 (dk_at dksX0_seat_0 2 rfl rfl)
theorem dX0_seat_5 : decode cX0_seat 5 = .ok (.ifCond .ne 6, 3) := dk_154 0 6 (dk_at dksX0_seat_0 5 rfl rfl)
theorem dX0_seat_8 : decode cX0_seat 8 = .ok (.bipush (-2), 2) := dk_16 254 (dk_at dksX0_seat_0 8 rfl rfl)
theorem dX0_seat_10 : decode cX0_seat 10 = .ok (.ireturn, 1) := dk_172 (dk_at dksX0_seat_0 10 rfl rfl)
theorem dX0_seat_11 : decode cX0_seat 11 = .ok (.iload_n 2, 1) := dk_28 (dk_at dksX0_seat_0 11 rfl rfl)
theorem dX0_seat_12 : decode cX0_seat 12 = .ok (.tableswitch 74 0 3 #[32, 41, 50, 60], 32) := by decide +kernel
theorem dX0_seat_44 : decode cX0_seat 44 = .ok (.aload_n 0, 1) := dk_42 (dk_at dksX0_seat_2 0 rfl rfl)
theorem dX0_seat_45 : decode cX0_seat 45 = .ok (.iload_n 1, 1) := dk_27 (dk_at dksX0_seat_2 1 rfl rfl)
theorem dX0_seat_46 : decode cX0_seat 46 = .ok (.invokevirtual 107, 3) := dk_182 0 107 (dk_at dksX0_seat_2 2 rfl rfl)
theorem dX0_seat_49 : decode cX0_seat 49 = .ok (.invokevirtual 217, 3) := dk_182 0 217 (dk_at dksX0_seat_2 5 rfl rfl)
theorem dX0_seat_52 : decode cX0_seat 52 = .ok (.ireturn, 1) := dk_172 (dk_at dksX0_seat_2 8 rfl rfl)
theorem dX0_seat_53 : decode cX0_seat 53 = .ok (.aload_n 0, 1) := dk_42 (dk_at dksX0_seat_2 9 rfl rfl)
theorem dX0_seat_54 : decode cX0_seat 54 = .ok (.iload_n 1, 1) := dk_27 (dk_at dksX0_seat_2 10 rfl rfl)
theorem dX0_seat_55 : decode cX0_seat 55 = .ok (.invokevirtual 107, 3) := dk_182 0 107 (dk_at dksX0_seat_2 11 rfl rfl)
theorem dX0_seat_58 : decode cX0_seat 58 = .ok (.getfield 220, 3) := dk_180 0 220 (dk_at dksX0_seat_2 14 rfl rfl)
theorem dX0_seat_61 : decode cX0_seat 61 = .ok (.ireturn, 1) := dk_172 (dk_at dksX0_seat_2 17 rfl rfl)
theorem dX0_seat_62 : decode cX0_seat 62 = .ok (.aload_n 0, 1) := dk_42 (dk_at dksX0_seat_2 18 rfl rfl)
theorem dX0_seat_63 : decode cX0_seat 63 = .ok (.getfield 45, 3) := dk_180 0 45 (dk_at dksX0_seat_2 19 rfl rfl)
theorem dX0_seat_66 : decode cX0_seat 66 = .ok (.getfield 61, 3) := dk_180 0 61 (dk_at dksX0_seat_3 0 rfl rfl)
theorem dX0_seat_69 : decode cX0_seat 69 = .ok (.iload_n 1, 1) := dk_27 (dk_at dksX0_seat_3 3 rfl rfl)
theorem dX0_seat_70 : decode cX0_seat 70 = .ok (.iaload, 1) := dk_46 (dk_at dksX0_seat_3 4 rfl rfl)
theorem dX0_seat_71 : decode cX0_seat 71 = .ok (.ireturn, 1) := dk_172 (dk_at dksX0_seat_3 5 rfl rfl)
theorem dX0_seat_72 : decode cX0_seat 72 = .ok (.aload_n 0, 1) := dk_42 (dk_at dksX0_seat_3 6 rfl rfl)
theorem dX0_seat_73 : decode cX0_seat 73 = .ok (.invokevirtual 128, 3) := dk_182 0 128 (dk_at dksX0_seat_3 7 rfl rfl)
theorem dX0_seat_76 : decode cX0_seat 76 = .ok (.iload_n 1, 1) := dk_27 (dk_at dksX0_seat_3 10 rfl rfl)
theorem dX0_seat_77 : decode cX0_seat 77 = .ok (.if_icmp .ne 7, 3) := dk_160 0 7 (dk_at dksX0_seat_3 11 rfl rfl)
theorem dX0_seat_80 : decode cX0_seat 80 = .ok (.iconst 1, 1) := dk_4 (dk_at dksX0_seat_3 14 rfl rfl)
theorem dX0_seat_81 : decode cX0_seat 81 = .ok (.goto 4, 3) := dk_167 0 4 (dk_at dksX0_seat_3 15 rfl rfl)
theorem dX0_seat_84 : decode cX0_seat 84 = .ok (.iconst 0, 1) := dk_3 (dk_at dksX0_seat_3 18 rfl rfl)
theorem dX0_seat_85 : decode cX0_seat 85 = .ok (.ireturn, 1) := dk_172 (dk_at dksX0_seat_3 19 rfl rfl)
theorem dX0_seat_86 : decode cX0_seat 86 = .ok (.bipush (-3), 2) := dk_16 253 (dk_at dksX0_seat_3 20 rfl rfl)
theorem dX0_seat_88 : decode cX0_seat 88 = .ok (.ireturn, 1) := dk_172 (dk_at dksX0_seat_3 22 rfl rfl)
abbrev cX0_isSeat : ByteArray := prog_1_method_19_code
def yX0_isSeat : MethodName := ⟨RX0, "isSeat", "(I)Z"⟩
def dkwX0_isSeat_0 : List UInt8 := [27, 133, 9, 42, 180, 0, 115, 4, 100, 133, 184, 0, 181, 172]
abbrev dktX0_isSeat_0 : List UInt8 := dkwX0_isSeat_0 ++ []
theorem dksX0_isSeat_0 : cX0_isSeat.data.toList.drop 0 = dktX0_isSeat_0 := by decide +kernel
theorem dX0_isSeat_0 : decode cX0_isSeat 0 = .ok (.iload_n 1, 1) := dk_27 (dk_at dksX0_isSeat_0 0 rfl rfl)
theorem dX0_isSeat_1 : decode cX0_isSeat 1 = .ok (.i2l, 1) := dk_133 (dk_at dksX0_isSeat_0 1 rfl rfl)
theorem dX0_isSeat_2 : decode cX0_isSeat 2 = .ok (.lconst 0, 1) := dk_9 (dk_at dksX0_isSeat_0 2 rfl rfl)
theorem dX0_isSeat_3 : decode cX0_isSeat 3 = .ok (.aload_n 0, 1) := dk_42 (dk_at dksX0_isSeat_0 3 rfl rfl)
theorem dX0_isSeat_4 : decode cX0_isSeat 4 = .ok (.getfield 115, 3) := dk_180 0 115 (dk_at dksX0_isSeat_0 4 rfl rfl)
theorem dX0_isSeat_7 : decode cX0_isSeat 7 = .ok (.iconst 1, 1) := dk_4 (dk_at dksX0_isSeat_0 7 rfl rfl)
theorem dX0_isSeat_8 : decode cX0_isSeat 8 = .ok (.isub, 1) := dk_100 (dk_at dksX0_isSeat_0 8 rfl rfl)
theorem dX0_isSeat_9 : decode cX0_isSeat 9 = .ok (.i2l, 1) := dk_133 (dk_at dksX0_isSeat_0 9 rfl rfl)
theorem dX0_isSeat_10 : decode cX0_isSeat 10 = .ok (.invokestatic 181, 3) := dk_184 0 181 (dk_at dksX0_isSeat_0 10 rfl rfl)
theorem dX0_isSeat_13 : decode cX0_isSeat 13 = .ok (.ireturn, 1) := dk_172 (dk_at dksX0_isSeat_0 13 rfl rfl)
abbrev cX0_name : ByteArray := prog_1_method_7_code
def yX0_name : MethodName := ⟨RX0, "name", "(I)LPerilSeat$Name;"⟩
def dkwX0_name_0 : List UInt8 := [42, 180, 0, 36, 27, 50, 192, 0, 21, 176]
abbrev dktX0_name_0 : List UInt8 := dkwX0_name_0 ++ []
theorem dksX0_name_0 : cX0_name.data.toList.drop 0 = dktX0_name_0 := by decide +kernel
theorem dX0_name_0 : decode cX0_name 0 = .ok (.aload_n 0, 1) := dk_42 (dk_at dksX0_name_0 0 rfl rfl)
theorem dX0_name_1 : decode cX0_name 1 = .ok (.getfield 36, 3) := dk_180 0 36 (dk_at dksX0_name_0 1 rfl rfl)
theorem dX0_name_4 : decode cX0_name 4 = .ok (.iload_n 1, 1) := dk_27 (dk_at dksX0_name_0 4 rfl rfl)
theorem dX0_name_5 : decode cX0_name 5 = .ok (.aaload, 1) := dk_50 (dk_at dksX0_name_0 5 rfl rfl)
theorem dX0_name_6 : decode cX0_name 6 = .ok (.checkcast 21, 3) := dk_192 0 21 (dk_at dksX0_name_0 6 rfl rfl)
theorem dX0_name_9 : decode cX0_name 9 = .ok (.areturn, 1) := dk_176 (dk_at dksX0_name_0 9 rfl rfl)
abbrev cX0_perilNow : ByteArray := prog_1_method_12_code
def yX0_perilNow : MethodName := ⟨RX0, "perilNow", "()I"⟩
def dkwX0_perilNow_1 : List UInt8 := [180, 0, 80, 104, 96, 42, 180, 0, 115, 112, 172]
abbrev dktX0_perilNow_1 : List UInt8 := dkwX0_perilNow_1 ++ []
def dkwX0_perilNow_0 : List UInt8 := [42, 180, 0, 115, 154, 0, 7, 2, 167, 0, 25, 42, 180, 0, 118, 42, 180, 0, 121, 42, 180, 0, 45]
abbrev dktX0_perilNow_0 : List UInt8 := dkwX0_perilNow_0 ++ dktX0_perilNow_1
theorem dksX0_perilNow_0 : cX0_perilNow.data.toList.drop 0 = dktX0_perilNow_0 := by decide +kernel
theorem dksX0_perilNow_1 : cX0_perilNow.data.toList.drop 23 = dktX0_perilNow_1 := dk_seg dksX0_perilNow_0 23 rfl rfl
theorem dX0_perilNow_0 : decode cX0_perilNow 0 = .ok (.aload_n 0, 1) := dk_42 (dk_at dksX0_perilNow_0 0 rfl rfl)
theorem dX0_perilNow_1 : decode cX0_perilNow 1 = .ok (.getfield 115, 3) := dk_180 0 115 (dk_at dksX0_perilNow_0 1 rfl rfl)
theorem dX0_perilNow_4 : decode cX0_perilNow 4 = .ok (.ifCond .ne 7, 3) := dk_154 0 7 (dk_at dksX0_perilNow_0 4 rfl rfl)
theorem dX0_perilNow_7 : decode cX0_perilNow 7 = .ok (.iconst (-1), 1) := dk_2 (dk_at dksX0_perilNow_0 7 rfl rfl)
theorem dX0_perilNow_8 : decode cX0_perilNow 8 = .ok (.goto 25, 3) := dk_167 0 25 (dk_at dksX0_perilNow_0 8 rfl rfl)
theorem dX0_perilNow_11 : decode cX0_perilNow 11 = .ok (.aload_n 0, 1) := dk_42 (dk_at dksX0_perilNow_0 11 rfl rfl)
theorem dX0_perilNow_12 : decode cX0_perilNow 12 = .ok (.getfield 118, 3) := dk_180 0 118 (dk_at dksX0_perilNow_0 12 rfl rfl)
theorem dX0_perilNow_15 : decode cX0_perilNow 15 = .ok (.aload_n 0, 1) := dk_42 (dk_at dksX0_perilNow_0 15 rfl rfl)
theorem dX0_perilNow_16 : decode cX0_perilNow 16 = .ok (.getfield 121, 3) := dk_180 0 121 (dk_at dksX0_perilNow_0 16 rfl rfl)
theorem dX0_perilNow_19 : decode cX0_perilNow 19 = .ok (.aload_n 0, 1) := dk_42 (dk_at dksX0_perilNow_0 19 rfl rfl)
theorem dX0_perilNow_20 : decode cX0_perilNow 20 = .ok (.getfield 45, 3) := dk_180 0 45 (dk_at dksX0_perilNow_0 20 rfl rfl)
theorem dX0_perilNow_23 : decode cX0_perilNow 23 = .ok (.getfield 80, 3) := dk_180 0 80 (dk_at dksX0_perilNow_1 0 rfl rfl)
theorem dX0_perilNow_26 : decode cX0_perilNow 26 = .ok (.imul, 1) := dk_104 (dk_at dksX0_perilNow_1 3 rfl rfl)
theorem dX0_perilNow_27 : decode cX0_perilNow 27 = .ok (.iadd, 1) := dk_96 (dk_at dksX0_perilNow_1 4 rfl rfl)
theorem dX0_perilNow_28 : decode cX0_perilNow 28 = .ok (.aload_n 0, 1) := dk_42 (dk_at dksX0_perilNow_1 5 rfl rfl)
theorem dX0_perilNow_29 : decode cX0_perilNow 29 = .ok (.getfield 115, 3) := dk_180 0 115 (dk_at dksX0_perilNow_1 6 rfl rfl)
theorem dX0_perilNow_32 : decode cX0_perilNow 32 = .ok (.irem, 1) := dk_112 (dk_at dksX0_perilNow_1 9 rfl rfl)
theorem dX0_perilNow_33 : decode cX0_perilNow 33 = .ok (.ireturn, 1) := dk_172 (dk_at dksX0_perilNow_1 10 rfl rfl)
abbrev cX0_knight : ByteArray := prog_1_method_27_code
def yX0_knight : MethodName := ⟨RX0, "knight", "(II)I"⟩
def dkwX0_knight_4 : List UInt8 := [180, 0, 45, 180, 0, 49, 27, 46, 172, 42, 27, 182, 0, 230, 172, 16, 253, 172]
abbrev dktX0_knight_4 : List UInt8 := dkwX0_knight_4 ++ []
def dkwX0_knight_3 : List UInt8 := [180, 0, 227, 172, 42, 180, 0, 139, 27, 46, 172, 42, 180, 0, 45, 180, 0, 77, 27, 122, 4, 126, 172, 42]
abbrev dktX0_knight_3 : List UInt8 := dkwX0_knight_3 ++ dktX0_knight_4
def dkwX0_knight_2 : List UInt8 := [42, 27, 182, 0, 71, 182, 0, 226, 172, 42, 180, 0, 45, 180, 0, 68, 27, 46, 172, 42, 27, 182, 0, 71]
abbrev dktX0_knight_2 : List UInt8 := dkwX0_knight_2 ++ dktX0_knight_3
def dkwX0_knight_1 : List UInt8 := [170, 0, 0, 0, 0, 0, 0, 107, 0, 0, 0, 0, 0, 0, 0, 6, 0, 0, 0, 44, 0, 0, 0, 53, 0, 0, 0, 63, 0, 0, 0, 72, 0, 0, 0, 79, 0, 0, 0, 91, 0, 0, 0, 101]
abbrev dktX0_knight_1 : List UInt8 := dkwX0_knight_1 ++ dktX0_knight_2
def dkwX0_knight_0 : List UInt8 := [42, 27, 182, 0, 223, 154, 0, 6, 16, 254, 172, 28]
abbrev dktX0_knight_0 : List UInt8 := dkwX0_knight_0 ++ dktX0_knight_1
theorem dksX0_knight_0 : cX0_knight.data.toList.drop 0 = dktX0_knight_0 := by decide +kernel
theorem dksX0_knight_1 : cX0_knight.data.toList.drop 12 = dktX0_knight_1 := dk_seg dksX0_knight_0 12 rfl rfl
theorem dksX0_knight_2 : cX0_knight.data.toList.drop 56 = dktX0_knight_2 := dk_seg dksX0_knight_1 44 rfl rfl
theorem dksX0_knight_3 : cX0_knight.data.toList.drop 80 = dktX0_knight_3 := dk_seg dksX0_knight_2 24 rfl rfl
theorem dksX0_knight_4 : cX0_knight.data.toList.drop 104 = dktX0_knight_4 := dk_seg dksX0_knight_3 24 rfl rfl
theorem dX0_knight_0 : decode cX0_knight 0 = .ok (.aload_n 0, 1) := dk_42 (dk_at dksX0_knight_0 0 rfl rfl)
theorem dX0_knight_1 : decode cX0_knight 1 = .ok (.iload_n 1, 1) := dk_27 (dk_at dksX0_knight_0 1 rfl rfl)
theorem dX0_knight_2 : decode cX0_knight 2 = .ok (.invokevirtual 223, 3) := dk_182 0 223 (dk_at dksX0_knight_0 2 rfl rfl)
theorem dX0_knight_5 : decode cX0_knight 5 = .ok (.ifCond .ne 6, 3) := dk_154 0 6 (dk_at dksX0_knight_0 5 rfl rfl)
theorem dX0_knight_8 : decode cX0_knight 8 = .ok (.bipush (-2), 2) := dk_16 254 (dk_at dksX0_knight_0 8 rfl rfl)
theorem dX0_knight_10 : decode cX0_knight 10 = .ok (.ireturn, 1) := dk_172 (dk_at dksX0_knight_0 10 rfl rfl)
theorem dX0_knight_11 : decode cX0_knight 11 = .ok (.iload_n 2, 1) := dk_28 (dk_at dksX0_knight_0 11 rfl rfl)
theorem dX0_knight_12 : decode cX0_knight 12 = .ok (.tableswitch 107 0 6 #[44, 53, 63, 72, 79, 91, 101], 44) := by decide +kernel
theorem dX0_knight_56 : decode cX0_knight 56 = .ok (.aload_n 0, 1) := dk_42 (dk_at dksX0_knight_2 0 rfl rfl)
theorem dX0_knight_57 : decode cX0_knight 57 = .ok (.iload_n 1, 1) := dk_27 (dk_at dksX0_knight_2 1 rfl rfl)
theorem dX0_knight_58 : decode cX0_knight 58 = .ok (.invokevirtual 71, 3) := dk_182 0 71 (dk_at dksX0_knight_2 2 rfl rfl)
theorem dX0_knight_61 : decode cX0_knight 61 = .ok (.invokevirtual 226, 3) := dk_182 0 226 (dk_at dksX0_knight_2 5 rfl rfl)
theorem dX0_knight_64 : decode cX0_knight 64 = .ok (.ireturn, 1) := dk_172 (dk_at dksX0_knight_2 8 rfl rfl)
theorem dX0_knight_65 : decode cX0_knight 65 = .ok (.aload_n 0, 1) := dk_42 (dk_at dksX0_knight_2 9 rfl rfl)
theorem dX0_knight_66 : decode cX0_knight 66 = .ok (.getfield 45, 3) := dk_180 0 45 (dk_at dksX0_knight_2 10 rfl rfl)
theorem dX0_knight_69 : decode cX0_knight 69 = .ok (.getfield 68, 3) := dk_180 0 68 (dk_at dksX0_knight_2 13 rfl rfl)
theorem dX0_knight_72 : decode cX0_knight 72 = .ok (.iload_n 1, 1) := dk_27 (dk_at dksX0_knight_2 16 rfl rfl)
theorem dX0_knight_73 : decode cX0_knight 73 = .ok (.iaload, 1) := dk_46 (dk_at dksX0_knight_2 17 rfl rfl)
theorem dX0_knight_74 : decode cX0_knight 74 = .ok (.ireturn, 1) := dk_172 (dk_at dksX0_knight_2 18 rfl rfl)
theorem dX0_knight_75 : decode cX0_knight 75 = .ok (.aload_n 0, 1) := dk_42 (dk_at dksX0_knight_2 19 rfl rfl)
theorem dX0_knight_76 : decode cX0_knight 76 = .ok (.iload_n 1, 1) := dk_27 (dk_at dksX0_knight_2 20 rfl rfl)
theorem dX0_knight_77 : decode cX0_knight 77 = .ok (.invokevirtual 71, 3) := dk_182 0 71 (dk_at dksX0_knight_2 21 rfl rfl)
theorem dX0_knight_80 : decode cX0_knight 80 = .ok (.getfield 227, 3) := dk_180 0 227 (dk_at dksX0_knight_3 0 rfl rfl)
theorem dX0_knight_83 : decode cX0_knight 83 = .ok (.ireturn, 1) := dk_172 (dk_at dksX0_knight_3 3 rfl rfl)
theorem dX0_knight_84 : decode cX0_knight 84 = .ok (.aload_n 0, 1) := dk_42 (dk_at dksX0_knight_3 4 rfl rfl)
theorem dX0_knight_85 : decode cX0_knight 85 = .ok (.getfield 139, 3) := dk_180 0 139 (dk_at dksX0_knight_3 5 rfl rfl)
theorem dX0_knight_88 : decode cX0_knight 88 = .ok (.iload_n 1, 1) := dk_27 (dk_at dksX0_knight_3 8 rfl rfl)
theorem dX0_knight_89 : decode cX0_knight 89 = .ok (.iaload, 1) := dk_46 (dk_at dksX0_knight_3 9 rfl rfl)
theorem dX0_knight_90 : decode cX0_knight 90 = .ok (.ireturn, 1) := dk_172 (dk_at dksX0_knight_3 10 rfl rfl)
theorem dX0_knight_91 : decode cX0_knight 91 = .ok (.aload_n 0, 1) := dk_42 (dk_at dksX0_knight_3 11 rfl rfl)
theorem dX0_knight_92 : decode cX0_knight 92 = .ok (.getfield 45, 3) := dk_180 0 45 (dk_at dksX0_knight_3 12 rfl rfl)
theorem dX0_knight_95 : decode cX0_knight 95 = .ok (.getfield 77, 3) := dk_180 0 77 (dk_at dksX0_knight_3 15 rfl rfl)
theorem dX0_knight_98 : decode cX0_knight 98 = .ok (.iload_n 1, 1) := dk_27 (dk_at dksX0_knight_3 18 rfl rfl)
theorem dX0_knight_99 : decode cX0_knight 99 = .ok (.ishr, 1) := dk_122 (dk_at dksX0_knight_3 19 rfl rfl)
theorem dX0_knight_100 : decode cX0_knight 100 = .ok (.iconst 1, 1) := dk_4 (dk_at dksX0_knight_3 20 rfl rfl)
theorem dX0_knight_101 : decode cX0_knight 101 = .ok (.iand, 1) := dk_126 (dk_at dksX0_knight_3 21 rfl rfl)
theorem dX0_knight_102 : decode cX0_knight 102 = .ok (.ireturn, 1) := dk_172 (dk_at dksX0_knight_3 22 rfl rfl)
theorem dX0_knight_103 : decode cX0_knight 103 = .ok (.aload_n 0, 1) := dk_42 (dk_at dksX0_knight_3 23 rfl rfl)
theorem dX0_knight_104 : decode cX0_knight 104 = .ok (.getfield 45, 3) := dk_180 0 45 (dk_at dksX0_knight_4 0 rfl rfl)
theorem dX0_knight_107 : decode cX0_knight 107 = .ok (.getfield 49, 3) := dk_180 0 49 (dk_at dksX0_knight_4 3 rfl rfl)
theorem dX0_knight_110 : decode cX0_knight 110 = .ok (.iload_n 1, 1) := dk_27 (dk_at dksX0_knight_4 6 rfl rfl)
theorem dX0_knight_111 : decode cX0_knight 111 = .ok (.iaload, 1) := dk_46 (dk_at dksX0_knight_4 7 rfl rfl)
theorem dX0_knight_112 : decode cX0_knight 112 = .ok (.ireturn, 1) := dk_172 (dk_at dksX0_knight_4 8 rfl rfl)
theorem dX0_knight_113 : decode cX0_knight 113 = .ok (.aload_n 0, 1) := dk_42 (dk_at dksX0_knight_4 9 rfl rfl)
theorem dX0_knight_114 : decode cX0_knight 114 = .ok (.iload_n 1, 1) := dk_27 (dk_at dksX0_knight_4 10 rfl rfl)
theorem dX0_knight_115 : decode cX0_knight 115 = .ok (.invokevirtual 230, 3) := dk_182 0 230 (dk_at dksX0_knight_4 11 rfl rfl)
theorem dX0_knight_118 : decode cX0_knight 118 = .ok (.ireturn, 1) := dk_172 (dk_at dksX0_knight_4 14 rfl rfl)
theorem dX0_knight_119 : decode cX0_knight 119 = .ok (.bipush (-3), 2) := dk_16 253 (dk_at dksX0_knight_4 15 rfl rfl)
theorem dX0_knight_121 : decode cX0_knight 121 = .ok (.ireturn, 1) := dk_172 (dk_at dksX0_knight_4 17 rfl rfl)
abbrev cX0_isKnight : ByteArray := prog_1_method_20_code
def yX0_isKnight : MethodName := ⟨RX0, "isKnight", "(I)Z"⟩
def dkwX0_isKnight_0 : List UInt8 := [27, 133, 9, 42, 180, 0, 64, 4, 100, 133, 184, 0, 181, 172]
abbrev dktX0_isKnight_0 : List UInt8 := dkwX0_isKnight_0 ++ []
theorem dksX0_isKnight_0 : cX0_isKnight.data.toList.drop 0 = dktX0_isKnight_0 := by decide +kernel
theorem dX0_isKnight_0 : decode cX0_isKnight 0 = .ok (.iload_n 1, 1) := dk_27 (dk_at dksX0_isKnight_0 0 rfl rfl)
theorem dX0_isKnight_1 : decode cX0_isKnight 1 = .ok (.i2l, 1) := dk_133 (dk_at dksX0_isKnight_0 1 rfl rfl)
theorem dX0_isKnight_2 : decode cX0_isKnight 2 = .ok (.lconst 0, 1) := dk_9 (dk_at dksX0_isKnight_0 2 rfl rfl)
theorem dX0_isKnight_3 : decode cX0_isKnight 3 = .ok (.aload_n 0, 1) := dk_42 (dk_at dksX0_isKnight_0 3 rfl rfl)
theorem dX0_isKnight_4 : decode cX0_isKnight 4 = .ok (.getfield 64, 3) := dk_180 0 64 (dk_at dksX0_isKnight_0 4 rfl rfl)
theorem dX0_isKnight_7 : decode cX0_isKnight 7 = .ok (.iconst 1, 1) := dk_4 (dk_at dksX0_isKnight_0 7 rfl rfl)
theorem dX0_isKnight_8 : decode cX0_isKnight 8 = .ok (.isub, 1) := dk_100 (dk_at dksX0_isKnight_0 8 rfl rfl)
theorem dX0_isKnight_9 : decode cX0_isKnight 9 = .ok (.i2l, 1) := dk_133 (dk_at dksX0_isKnight_0 9 rfl rfl)
theorem dX0_isKnight_10 : decode cX0_isKnight 10 = .ok (.invokestatic 181, 3) := dk_184 0 181 (dk_at dksX0_isKnight_0 10 rfl rfl)
theorem dX0_isKnight_13 : decode cX0_isKnight 13 = .ok (.ireturn, 1) := dk_172 (dk_at dksX0_isKnight_0 13 rfl rfl)
abbrev cX0_seatNow : ByteArray := prog_1_method_26_code
def yX0_seatNow : MethodName := ⟨RX0, "seatNow", "(I)I"⟩
def dkwX0_seatNow_1 : List UInt8 := [172, 132, 2, 1, 167, 255, 230, 2, 172]
abbrev dktX0_seatNow_1 : List UInt8 := dkwX0_seatNow_1 ++ []
def dkwX0_seatNow_0 : List UInt8 := [3, 61, 28, 42, 180, 0, 115, 162, 0, 24, 42, 180, 0, 45, 180, 0, 61, 28, 46, 27, 160, 0, 5, 28]
abbrev dktX0_seatNow_0 : List UInt8 := dkwX0_seatNow_0 ++ dktX0_seatNow_1
theorem dksX0_seatNow_0 : cX0_seatNow.data.toList.drop 0 = dktX0_seatNow_0 := by decide +kernel
theorem dksX0_seatNow_1 : cX0_seatNow.data.toList.drop 24 = dktX0_seatNow_1 := dk_seg dksX0_seatNow_0 24 rfl rfl
theorem dX0_seatNow_0 : decode cX0_seatNow 0 = .ok (.iconst 0, 1) := dk_3 (dk_at dksX0_seatNow_0 0 rfl rfl)
theorem dX0_seatNow_1 : decode cX0_seatNow 1 = .ok (.istore_n 2, 1) := dk_61 (dk_at dksX0_seatNow_0 1 rfl rfl)
theorem dX0_seatNow_2 : decode cX0_seatNow 2 = .ok (.iload_n 2, 1) := dk_28 (dk_at dksX0_seatNow_0 2 rfl rfl)
theorem dX0_seatNow_3 : decode cX0_seatNow 3 = .ok (.aload_n 0, 1) := dk_42 (dk_at dksX0_seatNow_0 3 rfl rfl)
theorem dX0_seatNow_4 : decode cX0_seatNow 4 = .ok (.getfield 115, 3) := dk_180 0 115 (dk_at dksX0_seatNow_0 4 rfl rfl)
theorem dX0_seatNow_7 : decode cX0_seatNow 7 = .ok (.if_icmp .ge 24, 3) := dk_162 0 24 (dk_at dksX0_seatNow_0 7 rfl rfl)
theorem dX0_seatNow_10 : decode cX0_seatNow 10 = .ok (.aload_n 0, 1) := dk_42 (dk_at dksX0_seatNow_0 10 rfl rfl)
theorem dX0_seatNow_11 : decode cX0_seatNow 11 = .ok (.getfield 45, 3) := dk_180 0 45 (dk_at dksX0_seatNow_0 11 rfl rfl)
theorem dX0_seatNow_14 : decode cX0_seatNow 14 = .ok (.getfield 61, 3) := dk_180 0 61 (dk_at dksX0_seatNow_0 14 rfl rfl)
theorem dX0_seatNow_17 : decode cX0_seatNow 17 = .ok (.iload_n 2, 1) := dk_28 (dk_at dksX0_seatNow_0 17 rfl rfl)
theorem dX0_seatNow_18 : decode cX0_seatNow 18 = .ok (.iaload, 1) := dk_46 (dk_at dksX0_seatNow_0 18 rfl rfl)
theorem dX0_seatNow_19 : decode cX0_seatNow 19 = .ok (.iload_n 1, 1) := dk_27 (dk_at dksX0_seatNow_0 19 rfl rfl)
theorem dX0_seatNow_20 : decode cX0_seatNow 20 = .ok (.if_icmp .ne 5, 3) := dk_160 0 5 (dk_at dksX0_seatNow_0 20 rfl rfl)
theorem dX0_seatNow_23 : decode cX0_seatNow 23 = .ok (.iload_n 2, 1) := dk_28 (dk_at dksX0_seatNow_0 23 rfl rfl)
theorem dX0_seatNow_24 : decode cX0_seatNow 24 = .ok (.ireturn, 1) := dk_172 (dk_at dksX0_seatNow_1 0 rfl rfl)
theorem dX0_seatNow_25 : decode cX0_seatNow 25 = .ok (.iinc 2 1, 3) := dk_132 2 1 (dk_at dksX0_seatNow_1 1 rfl rfl)
theorem dX0_seatNow_28 : decode cX0_seatNow 28 = .ok (.goto (-26), 3) := dk_167 255 230 (dk_at dksX0_seatNow_1 4 rfl rfl)
theorem dX0_seatNow_31 : decode cX0_seatNow 31 = .ok (.iconst (-1), 1) := dk_2 (dk_at dksX0_seatNow_1 7 rfl rfl)
theorem dX0_seatNow_32 : decode cX0_seatNow 32 = .ok (.ireturn, 1) := dk_172 (dk_at dksX0_seatNow_1 8 rfl rfl)
abbrev cX0_as : ByteArray := prog_1_method_28_code
def yX0_as : MethodName := ⟨RX0, "as", "(II)I"⟩
def dkwX0_as_4 : List UInt8 := [21, 4, 172, 78, 16, 252, 172]
abbrev dktX0_as_4 : List UInt8 := dkwX0_as_4 ++ []
def dkwX0_as_3 : List UInt8 := [182, 0, 111, 153, 0, 10, 4, 21, 5, 120, 167, 0, 4, 3, 128, 54, 4, 132, 5, 1, 167, 255, 209]
abbrev dktX0_as_3 : List UInt8 := dkwX0_as_3 ++ dktX0_as_4
def dkwX0_as_2 : List UInt8 := [180, 0, 115, 162, 0, 44, 21, 4, 45, 42, 21, 5, 182, 0, 107, 42, 180, 0, 45, 180, 0, 68, 27, 46]
abbrev dktX0_as_2 : List UInt8 := dkwX0_as_2 ++ dktX0_as_3
def dkwX0_as_1 : List UInt8 := [16, 253, 172, 42, 180, 0, 42, 27, 50, 28, 184, 0, 236, 78, 3, 54, 4, 3, 54, 5, 21, 5, 42]
abbrev dktX0_as_1 : List UInt8 := dkwX0_as_1 ++ dktX0_as_2
def dkwX0_as_0 : List UInt8 := [42, 27, 182, 0, 223, 154, 0, 6, 16, 254, 172, 28, 133, 9, 20, 0, 234, 184, 0, 181, 154, 0, 6]
abbrev dktX0_as_0 : List UInt8 := dkwX0_as_0 ++ dktX0_as_1
theorem dksX0_as_0 : cX0_as.data.toList.drop 0 = dktX0_as_0 := by decide +kernel
theorem dksX0_as_1 : cX0_as.data.toList.drop 23 = dktX0_as_1 := dk_seg dksX0_as_0 23 rfl rfl
theorem dksX0_as_2 : cX0_as.data.toList.drop 46 = dktX0_as_2 := dk_seg dksX0_as_1 23 rfl rfl
theorem dksX0_as_3 : cX0_as.data.toList.drop 70 = dktX0_as_3 := dk_seg dksX0_as_2 24 rfl rfl
theorem dksX0_as_4 : cX0_as.data.toList.drop 93 = dktX0_as_4 := dk_seg dksX0_as_3 23 rfl rfl
theorem dX0_as_0 : decode cX0_as 0 = .ok (.aload_n 0, 1) := dk_42 (dk_at dksX0_as_0 0 rfl rfl)
theorem dX0_as_1 : decode cX0_as 1 = .ok (.iload_n 1, 1) := dk_27 (dk_at dksX0_as_0 1 rfl rfl)
theorem dX0_as_2 : decode cX0_as 2 = .ok (.invokevirtual 223, 3) := dk_182 0 223 (dk_at dksX0_as_0 2 rfl rfl)
theorem dX0_as_5 : decode cX0_as 5 = .ok (.ifCond .ne 6, 3) := dk_154 0 6 (dk_at dksX0_as_0 5 rfl rfl)
theorem dX0_as_8 : decode cX0_as 8 = .ok (.bipush (-2), 2) := dk_16 254 (dk_at dksX0_as_0 8 rfl rfl)
theorem dX0_as_10 : decode cX0_as 10 = .ok (.ireturn, 1) := dk_172 (dk_at dksX0_as_0 10 rfl rfl)
theorem dX0_as_11 : decode cX0_as 11 = .ok (.iload_n 2, 1) := dk_28 (dk_at dksX0_as_0 11 rfl rfl)
theorem dX0_as_12 : decode cX0_as 12 = .ok (.i2l, 1) := dk_133 (dk_at dksX0_as_0 12 rfl rfl)
theorem dX0_as_13 : decode cX0_as 13 = .ok (.lconst 0, 1) := dk_9 (dk_at dksX0_as_0 13 rfl rfl)
theorem dX0_as_14 : decode cX0_as 14 = .ok (.ldc2_w 234, 3) := dk_20 0 234 (dk_at dksX0_as_0 14 rfl rfl)
theorem dX0_as_17 : decode cX0_as 17 = .ok (.invokestatic 181, 3) := dk_184 0 181 (dk_at dksX0_as_0 17 rfl rfl)
theorem dX0_as_20 : decode cX0_as 20 = .ok (.ifCond .ne 6, 3) := dk_154 0 6 (dk_at dksX0_as_0 20 rfl rfl)
theorem dX0_as_23 : decode cX0_as 23 = .ok (.bipush (-3), 2) := dk_16 253 (dk_at dksX0_as_1 0 rfl rfl)
theorem dX0_as_25 : decode cX0_as 25 = .ok (.ireturn, 1) := dk_172 (dk_at dksX0_as_1 2 rfl rfl)
theorem dX0_as_26 : decode cX0_as 26 = .ok (.aload_n 0, 1) := dk_42 (dk_at dksX0_as_1 3 rfl rfl)
theorem dX0_as_27 : decode cX0_as 27 = .ok (.getfield 42, 3) := dk_180 0 42 (dk_at dksX0_as_1 4 rfl rfl)
theorem dX0_as_30 : decode cX0_as 30 = .ok (.iload_n 1, 1) := dk_27 (dk_at dksX0_as_1 7 rfl rfl)
theorem dX0_as_31 : decode cX0_as 31 = .ok (.aaload, 1) := dk_50 (dk_at dksX0_as_1 8 rfl rfl)
theorem dX0_as_32 : decode cX0_as 32 = .ok (.iload_n 2, 1) := dk_28 (dk_at dksX0_as_1 9 rfl rfl)
theorem dX0_as_33 : decode cX0_as 33 = .ok (.invokestatic 236, 3) := dk_184 0 236 (dk_at dksX0_as_1 10 rfl rfl)
theorem dX0_as_36 : decode cX0_as 36 = .ok (.astore_n 3, 1) := dk_78 (dk_at dksX0_as_1 13 rfl rfl)
theorem dX0_as_37 : decode cX0_as 37 = .ok (.iconst 0, 1) := dk_3 (dk_at dksX0_as_1 14 rfl rfl)
theorem dX0_as_38 : decode cX0_as 38 = .ok (.istore 4, 2) := dk_54 4 (dk_at dksX0_as_1 15 rfl rfl)
theorem dX0_as_40 : decode cX0_as 40 = .ok (.iconst 0, 1) := dk_3 (dk_at dksX0_as_1 17 rfl rfl)
theorem dX0_as_41 : decode cX0_as 41 = .ok (.istore 5, 2) := dk_54 5 (dk_at dksX0_as_1 18 rfl rfl)
theorem dX0_as_43 : decode cX0_as 43 = .ok (.iload 5, 2) := dk_21 5 (dk_at dksX0_as_1 20 rfl rfl)
theorem dX0_as_45 : decode cX0_as 45 = .ok (.aload_n 0, 1) := dk_42 (dk_at dksX0_as_1 22 rfl rfl)
theorem dX0_as_46 : decode cX0_as 46 = .ok (.getfield 115, 3) := dk_180 0 115 (dk_at dksX0_as_2 0 rfl rfl)
theorem dX0_as_49 : decode cX0_as 49 = .ok (.if_icmp .ge 44, 3) := dk_162 0 44 (dk_at dksX0_as_2 3 rfl rfl)
theorem dX0_as_52 : decode cX0_as 52 = .ok (.iload 4, 2) := dk_21 4 (dk_at dksX0_as_2 6 rfl rfl)
theorem dX0_as_54 : decode cX0_as 54 = .ok (.aload_n 3, 1) := dk_45 (dk_at dksX0_as_2 8 rfl rfl)
theorem dX0_as_55 : decode cX0_as 55 = .ok (.aload_n 0, 1) := dk_42 (dk_at dksX0_as_2 9 rfl rfl)
theorem dX0_as_56 : decode cX0_as 56 = .ok (.iload 5, 2) := dk_21 5 (dk_at dksX0_as_2 10 rfl rfl)
theorem dX0_as_58 : decode cX0_as 58 = .ok (.invokevirtual 107, 3) := dk_182 0 107 (dk_at dksX0_as_2 12 rfl rfl)
theorem dX0_as_61 : decode cX0_as 61 = .ok (.aload_n 0, 1) := dk_42 (dk_at dksX0_as_2 15 rfl rfl)
theorem dX0_as_62 : decode cX0_as 62 = .ok (.getfield 45, 3) := dk_180 0 45 (dk_at dksX0_as_2 16 rfl rfl)
theorem dX0_as_65 : decode cX0_as 65 = .ok (.getfield 68, 3) := dk_180 0 68 (dk_at dksX0_as_2 19 rfl rfl)
theorem dX0_as_68 : decode cX0_as 68 = .ok (.iload_n 1, 1) := dk_27 (dk_at dksX0_as_2 22 rfl rfl)
theorem dX0_as_69 : decode cX0_as 69 = .ok (.iaload, 1) := dk_46 (dk_at dksX0_as_2 23 rfl rfl)
theorem dX0_as_70 : decode cX0_as 70 = .ok (.invokevirtual 111, 3) := dk_182 0 111 (dk_at dksX0_as_3 0 rfl rfl)
theorem dX0_as_73 : decode cX0_as 73 = .ok (.ifCond .eq 10, 3) := dk_153 0 10 (dk_at dksX0_as_3 3 rfl rfl)
theorem dX0_as_76 : decode cX0_as 76 = .ok (.iconst 1, 1) := dk_4 (dk_at dksX0_as_3 6 rfl rfl)
theorem dX0_as_77 : decode cX0_as 77 = .ok (.iload 5, 2) := dk_21 5 (dk_at dksX0_as_3 7 rfl rfl)
theorem dX0_as_79 : decode cX0_as 79 = .ok (.ishl, 1) := dk_120 (dk_at dksX0_as_3 9 rfl rfl)
theorem dX0_as_80 : decode cX0_as 80 = .ok (.goto 4, 3) := dk_167 0 4 (dk_at dksX0_as_3 10 rfl rfl)
theorem dX0_as_83 : decode cX0_as 83 = .ok (.iconst 0, 1) := dk_3 (dk_at dksX0_as_3 13 rfl rfl)
theorem dX0_as_84 : decode cX0_as 84 = .ok (.ior, 1) := dk_128 (dk_at dksX0_as_3 14 rfl rfl)
theorem dX0_as_85 : decode cX0_as 85 = .ok (.istore 4, 2) := dk_54 4 (dk_at dksX0_as_3 15 rfl rfl)
theorem dX0_as_87 : decode cX0_as 87 = .ok (.iinc 5 1, 3) := dk_132 5 1 (dk_at dksX0_as_3 17 rfl rfl)
theorem dX0_as_90 : decode cX0_as 90 = .ok (.goto (-47), 3) := dk_167 255 209 (dk_at dksX0_as_3 20 rfl rfl)
theorem dX0_as_93 : decode cX0_as 93 = .ok (.iload 4, 2) := dk_21 4 (dk_at dksX0_as_4 0 rfl rfl)
theorem dX0_as_95 : decode cX0_as 95 = .ok (.ireturn, 1) := dk_172 (dk_at dksX0_as_4 2 rfl rfl)
theorem dX0_as_96 : decode cX0_as 96 = .ok (.astore_n 3, 1) := dk_78 (dk_at dksX0_as_4 3 rfl rfl)
theorem dX0_as_97 : decode cX0_as 97 = .ok (.bipush (-4), 2) := dk_16 252 (dk_at dksX0_as_4 4 rfl rfl)
theorem dX0_as_99 : decode cX0_as 99 = .ok (.ireturn, 1) := dk_172 (dk_at dksX0_as_4 6 rfl rfl)
abbrev cX0_castToOne : ByteArray := prog_1_method_6_code
def yX0_castToOne : MethodName := ⟨RX0, "castToOne", "(Ljava/lang/Object;I)LPerilSeat$One;"⟩
def dkwX0_castToOne_2 : List UInt8 := [42, 192, 0, 34, 176, 42, 192, 0, 23, 176, 42, 192, 0, 28, 176, 42, 192, 0, 31, 176]
abbrev dktX0_castToOne_2 : List UInt8 := dkwX0_castToOne_2 ++ []
def dkwX0_castToOne_1 : List UInt8 := [170, 0, 0, 0, 0, 0, 42, 0, 0, 0, 0, 0, 0, 0, 2, 0, 0, 0, 27, 0, 0, 0, 32, 0, 0, 0, 37]
abbrev dktX0_castToOne_1 : List UInt8 := dkwX0_castToOne_1 ++ dktX0_castToOne_2
def dkwX0_castToOne_0 : List UInt8 := [27]
abbrev dktX0_castToOne_0 : List UInt8 := dkwX0_castToOne_0 ++ dktX0_castToOne_1
theorem dksX0_castToOne_0 : cX0_castToOne.data.toList.drop 0 = dktX0_castToOne_0 := by decide +kernel
theorem dksX0_castToOne_1 : cX0_castToOne.data.toList.drop 1 = dktX0_castToOne_1 := dk_seg dksX0_castToOne_0 1 rfl rfl
theorem dksX0_castToOne_2 : cX0_castToOne.data.toList.drop 28 = dktX0_castToOne_2 := dk_seg dksX0_castToOne_1 27 rfl rfl
theorem dX0_castToOne_0 : decode cX0_castToOne 0 = .ok (.iload_n 1, 1) := dk_27 (dk_at dksX0_castToOne_0 0 rfl rfl)
theorem dX0_castToOne_1 : decode cX0_castToOne 1 = .ok (.tableswitch 42 0 2 #[27, 32, 37], 27) := by decide +kernel
theorem dX0_castToOne_28 : decode cX0_castToOne 28 = .ok (.aload_n 0, 1) := dk_42 (dk_at dksX0_castToOne_2 0 rfl rfl)
theorem dX0_castToOne_29 : decode cX0_castToOne 29 = .ok (.checkcast 34, 3) := dk_192 0 34 (dk_at dksX0_castToOne_2 1 rfl rfl)
theorem dX0_castToOne_32 : decode cX0_castToOne 32 = .ok (.areturn, 1) := dk_176 (dk_at dksX0_castToOne_2 4 rfl rfl)
theorem dX0_castToOne_33 : decode cX0_castToOne 33 = .ok (.aload_n 0, 1) := dk_42 (dk_at dksX0_castToOne_2 5 rfl rfl)
theorem dX0_castToOne_34 : decode cX0_castToOne 34 = .ok (.checkcast 23, 3) := dk_192 0 23 (dk_at dksX0_castToOne_2 6 rfl rfl)
theorem dX0_castToOne_37 : decode cX0_castToOne 37 = .ok (.areturn, 1) := dk_176 (dk_at dksX0_castToOne_2 9 rfl rfl)
theorem dX0_castToOne_38 : decode cX0_castToOne 38 = .ok (.aload_n 0, 1) := dk_42 (dk_at dksX0_castToOne_2 10 rfl rfl)
theorem dX0_castToOne_39 : decode cX0_castToOne 39 = .ok (.checkcast 28, 3) := dk_192 0 28 (dk_at dksX0_castToOne_2 11 rfl rfl)
theorem dX0_castToOne_42 : decode cX0_castToOne 42 = .ok (.areturn, 1) := dk_176 (dk_at dksX0_castToOne_2 14 rfl rfl)
theorem dX0_castToOne_43 : decode cX0_castToOne 43 = .ok (.aload_n 0, 1) := dk_42 (dk_at dksX0_castToOne_2 15 rfl rfl)
theorem dX0_castToOne_44 : decode cX0_castToOne 44 = .ok (.checkcast 31, 3) := dk_192 0 31 (dk_at dksX0_castToOne_2 16 rfl rfl)
theorem dX0_castToOne_47 : decode cX0_castToOne 47 = .ok (.areturn, 1) := dk_176 (dk_at dksX0_castToOne_2 19 rfl rfl)
abbrev cX0_seatAs : ByteArray := prog_1_method_29_code
def yX0_seatAs : MethodName := ⟨RX0, "seatAs", "(II)I"⟩
def dkwX0_seatAs_4 : List UInt8 := [21, 5, 120, 167, 0, 4, 3, 128, 54, 4, 132, 5, 1, 167, 255, 193, 21, 4, 172, 78, 16, 252, 172]
abbrev dktX0_seatAs_4 : List UInt8 := dkwX0_seatAs_4 ++ []
def dkwX0_seatAs_3 : List UInt8 := [21, 5, 182, 0, 71, 45, 42, 180, 0, 45, 180, 0, 68, 21, 5, 46, 182, 0, 111, 153, 0, 10, 4]
abbrev dktX0_seatAs_3 : List UInt8 := dkwX0_seatAs_3 ++ dktX0_seatAs_4
def dkwX0_seatAs_2 : List UInt8 := [180, 0, 64, 162, 0, 60, 21, 4, 42, 180, 0, 45, 180, 0, 77, 21, 5, 184, 0, 142, 153, 0, 33, 42]
abbrev dktX0_seatAs_2 : List UInt8 := dkwX0_seatAs_2 ++ dktX0_seatAs_3
def dkwX0_seatAs_1 : List UInt8 := [16, 253, 172, 42, 180, 0, 36, 27, 50, 28, 184, 0, 244, 78, 3, 54, 4, 3, 54, 5, 21, 5, 42]
abbrev dktX0_seatAs_1 : List UInt8 := dkwX0_seatAs_1 ++ dktX0_seatAs_2
def dkwX0_seatAs_0 : List UInt8 := [42, 27, 182, 0, 213, 154, 0, 6, 16, 254, 172, 28, 133, 9, 20, 0, 242, 184, 0, 181, 154, 0, 6]
abbrev dktX0_seatAs_0 : List UInt8 := dkwX0_seatAs_0 ++ dktX0_seatAs_1
theorem dksX0_seatAs_0 : cX0_seatAs.data.toList.drop 0 = dktX0_seatAs_0 := by decide +kernel
theorem dksX0_seatAs_1 : cX0_seatAs.data.toList.drop 23 = dktX0_seatAs_1 := dk_seg dksX0_seatAs_0 23 rfl rfl
theorem dksX0_seatAs_2 : cX0_seatAs.data.toList.drop 46 = dktX0_seatAs_2 := dk_seg dksX0_seatAs_1 23 rfl rfl
theorem dksX0_seatAs_3 : cX0_seatAs.data.toList.drop 70 = dktX0_seatAs_3 := dk_seg dksX0_seatAs_2 24 rfl rfl
theorem dksX0_seatAs_4 : cX0_seatAs.data.toList.drop 93 = dktX0_seatAs_4 := dk_seg dksX0_seatAs_3 23 rfl rfl
theorem dX0_seatAs_0 : decode cX0_seatAs 0 = .ok (.aload_n 0, 1) := dk_42 (dk_at dksX0_seatAs_0 0 rfl rfl)
theorem dX0_seatAs_1 : decode cX0_seatAs 1 = .ok (.iload_n 1, 1) := dk_27 (dk_at dksX0_seatAs_0 1 rfl rfl)
theorem dX0_seatAs_2 : decode cX0_seatAs 2 = .ok (.invokevirtual 213, 3) := dk_182 0 213 (dk_at dksX0_seatAs_0 2 rfl rfl)
theorem dX0_seatAs_5 : decode cX0_seatAs 5 = .ok (.ifCond .ne 6, 3) := dk_154 0 6 (dk_at dksX0_seatAs_0 5 rfl rfl)
theorem dX0_seatAs_8 : decode cX0_seatAs 8 = .ok (.bipush (-2), 2) := dk_16 254 (dk_at dksX0_seatAs_0 8 rfl rfl)
theorem dX0_seatAs_10 : decode cX0_seatAs 10 = .ok (.ireturn, 1) := dk_172 (dk_at dksX0_seatAs_0 10 rfl rfl)
theorem dX0_seatAs_11 : decode cX0_seatAs 11 = .ok (.iload_n 2, 1) := dk_28 (dk_at dksX0_seatAs_0 11 rfl rfl)
theorem dX0_seatAs_12 : decode cX0_seatAs 12 = .ok (.i2l, 1) := dk_133 (dk_at dksX0_seatAs_0 12 rfl rfl)
theorem dX0_seatAs_13 : decode cX0_seatAs 13 = .ok (.lconst 0, 1) := dk_9 (dk_at dksX0_seatAs_0 13 rfl rfl)
theorem dX0_seatAs_14 : decode cX0_seatAs 14 = .ok (.ldc2_w 242, 3) := dk_20 0 242 (dk_at dksX0_seatAs_0 14 rfl rfl)
theorem dX0_seatAs_17 : decode cX0_seatAs 17 = .ok (.invokestatic 181, 3) := dk_184 0 181 (dk_at dksX0_seatAs_0 17 rfl rfl)
theorem dX0_seatAs_20 : decode cX0_seatAs 20 = .ok (.ifCond .ne 6, 3) := dk_154 0 6 (dk_at dksX0_seatAs_0 20 rfl rfl)
theorem dX0_seatAs_23 : decode cX0_seatAs 23 = .ok (.bipush (-3), 2) := dk_16 253 (dk_at dksX0_seatAs_1 0 rfl rfl)
theorem dX0_seatAs_25 : decode cX0_seatAs 25 = .ok (.ireturn, 1) := dk_172 (dk_at dksX0_seatAs_1 2 rfl rfl)
theorem dX0_seatAs_26 : decode cX0_seatAs 26 = .ok (.aload_n 0, 1) := dk_42 (dk_at dksX0_seatAs_1 3 rfl rfl)
theorem dX0_seatAs_27 : decode cX0_seatAs 27 = .ok (.getfield 36, 3) := dk_180 0 36 (dk_at dksX0_seatAs_1 4 rfl rfl)
theorem dX0_seatAs_30 : decode cX0_seatAs 30 = .ok (.iload_n 1, 1) := dk_27 (dk_at dksX0_seatAs_1 7 rfl rfl)
theorem dX0_seatAs_31 : decode cX0_seatAs 31 = .ok (.aaload, 1) := dk_50 (dk_at dksX0_seatAs_1 8 rfl rfl)
theorem dX0_seatAs_32 : decode cX0_seatAs 32 = .ok (.iload_n 2, 1) := dk_28 (dk_at dksX0_seatAs_1 9 rfl rfl)
theorem dX0_seatAs_33 : decode cX0_seatAs 33 = .ok (.invokestatic 244, 3) := dk_184 0 244 (dk_at dksX0_seatAs_1 10 rfl rfl)
theorem dX0_seatAs_36 : decode cX0_seatAs 36 = .ok (.astore_n 3, 1) := dk_78 (dk_at dksX0_seatAs_1 13 rfl rfl)
theorem dX0_seatAs_37 : decode cX0_seatAs 37 = .ok (.iconst 0, 1) := dk_3 (dk_at dksX0_seatAs_1 14 rfl rfl)
theorem dX0_seatAs_38 : decode cX0_seatAs 38 = .ok (.istore 4, 2) := dk_54 4 (dk_at dksX0_seatAs_1 15 rfl rfl)
theorem dX0_seatAs_40 : decode cX0_seatAs 40 = .ok (.iconst 0, 1) := dk_3 (dk_at dksX0_seatAs_1 17 rfl rfl)
theorem dX0_seatAs_41 : decode cX0_seatAs 41 = .ok (.istore 5, 2) := dk_54 5 (dk_at dksX0_seatAs_1 18 rfl rfl)
theorem dX0_seatAs_43 : decode cX0_seatAs 43 = .ok (.iload 5, 2) := dk_21 5 (dk_at dksX0_seatAs_1 20 rfl rfl)
theorem dX0_seatAs_45 : decode cX0_seatAs 45 = .ok (.aload_n 0, 1) := dk_42 (dk_at dksX0_seatAs_1 22 rfl rfl)
theorem dX0_seatAs_46 : decode cX0_seatAs 46 = .ok (.getfield 64, 3) := dk_180 0 64 (dk_at dksX0_seatAs_2 0 rfl rfl)
theorem dX0_seatAs_49 : decode cX0_seatAs 49 = .ok (.if_icmp .ge 60, 3) := dk_162 0 60 (dk_at dksX0_seatAs_2 3 rfl rfl)
theorem dX0_seatAs_52 : decode cX0_seatAs 52 = .ok (.iload 4, 2) := dk_21 4 (dk_at dksX0_seatAs_2 6 rfl rfl)
theorem dX0_seatAs_54 : decode cX0_seatAs 54 = .ok (.aload_n 0, 1) := dk_42 (dk_at dksX0_seatAs_2 8 rfl rfl)
theorem dX0_seatAs_55 : decode cX0_seatAs 55 = .ok (.getfield 45, 3) := dk_180 0 45 (dk_at dksX0_seatAs_2 9 rfl rfl)
theorem dX0_seatAs_58 : decode cX0_seatAs 58 = .ok (.getfield 77, 3) := dk_180 0 77 (dk_at dksX0_seatAs_2 12 rfl rfl)
theorem dX0_seatAs_61 : decode cX0_seatAs 61 = .ok (.iload 5, 2) := dk_21 5 (dk_at dksX0_seatAs_2 15 rfl rfl)
theorem dX0_seatAs_63 : decode cX0_seatAs 63 = .ok (.invokestatic 142, 3) := dk_184 0 142 (dk_at dksX0_seatAs_2 17 rfl rfl)
theorem dX0_seatAs_66 : decode cX0_seatAs 66 = .ok (.ifCond .eq 33, 3) := dk_153 0 33 (dk_at dksX0_seatAs_2 20 rfl rfl)
theorem dX0_seatAs_69 : decode cX0_seatAs 69 = .ok (.aload_n 0, 1) := dk_42 (dk_at dksX0_seatAs_2 23 rfl rfl)
theorem dX0_seatAs_70 : decode cX0_seatAs 70 = .ok (.iload 5, 2) := dk_21 5 (dk_at dksX0_seatAs_3 0 rfl rfl)
theorem dX0_seatAs_72 : decode cX0_seatAs 72 = .ok (.invokevirtual 71, 3) := dk_182 0 71 (dk_at dksX0_seatAs_3 2 rfl rfl)
theorem dX0_seatAs_75 : decode cX0_seatAs 75 = .ok (.aload_n 3, 1) := dk_45 (dk_at dksX0_seatAs_3 5 rfl rfl)
theorem dX0_seatAs_76 : decode cX0_seatAs 76 = .ok (.aload_n 0, 1) := dk_42 (dk_at dksX0_seatAs_3 6 rfl rfl)
theorem dX0_seatAs_77 : decode cX0_seatAs 77 = .ok (.getfield 45, 3) := dk_180 0 45 (dk_at dksX0_seatAs_3 7 rfl rfl)
theorem dX0_seatAs_80 : decode cX0_seatAs 80 = .ok (.getfield 68, 3) := dk_180 0 68 (dk_at dksX0_seatAs_3 10 rfl rfl)
theorem dX0_seatAs_83 : decode cX0_seatAs 83 = .ok (.iload 5, 2) := dk_21 5 (dk_at dksX0_seatAs_3 13 rfl rfl)
theorem dX0_seatAs_85 : decode cX0_seatAs 85 = .ok (.iaload, 1) := dk_46 (dk_at dksX0_seatAs_3 15 rfl rfl)
theorem dX0_seatAs_86 : decode cX0_seatAs 86 = .ok (.invokevirtual 111, 3) := dk_182 0 111 (dk_at dksX0_seatAs_3 16 rfl rfl)
theorem dX0_seatAs_89 : decode cX0_seatAs 89 = .ok (.ifCond .eq 10, 3) := dk_153 0 10 (dk_at dksX0_seatAs_3 19 rfl rfl)
theorem dX0_seatAs_92 : decode cX0_seatAs 92 = .ok (.iconst 1, 1) := dk_4 (dk_at dksX0_seatAs_3 22 rfl rfl)
theorem dX0_seatAs_93 : decode cX0_seatAs 93 = .ok (.iload 5, 2) := dk_21 5 (dk_at dksX0_seatAs_4 0 rfl rfl)
theorem dX0_seatAs_95 : decode cX0_seatAs 95 = .ok (.ishl, 1) := dk_120 (dk_at dksX0_seatAs_4 2 rfl rfl)
theorem dX0_seatAs_96 : decode cX0_seatAs 96 = .ok (.goto 4, 3) := dk_167 0 4 (dk_at dksX0_seatAs_4 3 rfl rfl)
theorem dX0_seatAs_99 : decode cX0_seatAs 99 = .ok (.iconst 0, 1) := dk_3 (dk_at dksX0_seatAs_4 6 rfl rfl)
theorem dX0_seatAs_100 : decode cX0_seatAs 100 = .ok (.ior, 1) := dk_128 (dk_at dksX0_seatAs_4 7 rfl rfl)
theorem dX0_seatAs_101 : decode cX0_seatAs 101 = .ok (.istore 4, 2) := dk_54 4 (dk_at dksX0_seatAs_4 8 rfl rfl)
theorem dX0_seatAs_103 : decode cX0_seatAs 103 = .ok (.iinc 5 1, 3) := dk_132 5 1 (dk_at dksX0_seatAs_4 10 rfl rfl)
theorem dX0_seatAs_106 : decode cX0_seatAs 106 = .ok (.goto (-63), 3) := dk_167 255 193 (dk_at dksX0_seatAs_4 13 rfl rfl)
theorem dX0_seatAs_109 : decode cX0_seatAs 109 = .ok (.iload 4, 2) := dk_21 4 (dk_at dksX0_seatAs_4 16 rfl rfl)
theorem dX0_seatAs_111 : decode cX0_seatAs 111 = .ok (.ireturn, 1) := dk_172 (dk_at dksX0_seatAs_4 18 rfl rfl)
theorem dX0_seatAs_112 : decode cX0_seatAs 112 = .ok (.astore_n 3, 1) := dk_78 (dk_at dksX0_seatAs_4 19 rfl rfl)
theorem dX0_seatAs_113 : decode cX0_seatAs 113 = .ok (.bipush (-4), 2) := dk_16 252 (dk_at dksX0_seatAs_4 20 rfl rfl)
theorem dX0_seatAs_115 : decode cX0_seatAs 115 = .ok (.ireturn, 1) := dk_172 (dk_at dksX0_seatAs_4 22 rfl rfl)
abbrev cX0_castToName : ByteArray := prog_1_method_4_code
def yX0_castToName : MethodName := ⟨RX0, "castToName", "(Ljava/lang/Object;I)LPerilSeat$Name;"⟩
def dkwX0_castToName_3 : List UInt8 := [176, 42, 192, 0, 16, 176]
abbrev dktX0_castToName_3 : List UInt8 := dkwX0_castToName_3 ++ []
def dkwX0_castToName_2 : List UInt8 := [42, 192, 0, 21, 176, 42, 192, 0, 1, 176, 42, 192, 0, 7, 176, 42, 192, 0, 10, 176, 42, 192, 0, 13]
abbrev dktX0_castToName_2 : List UInt8 := dkwX0_castToName_2 ++ dktX0_castToName_3
def dkwX0_castToName_1 : List UInt8 := [170, 0, 0, 0, 0, 0, 60, 0, 0, 0, 0, 0, 0, 0, 4, 0, 0, 0, 35, 0, 0, 0, 40, 0, 0, 0, 45, 0, 0, 0, 50, 0, 0, 0, 55]
abbrev dktX0_castToName_1 : List UInt8 := dkwX0_castToName_1 ++ dktX0_castToName_2
def dkwX0_castToName_0 : List UInt8 := [27]
abbrev dktX0_castToName_0 : List UInt8 := dkwX0_castToName_0 ++ dktX0_castToName_1
theorem dksX0_castToName_0 : cX0_castToName.data.toList.drop 0 = dktX0_castToName_0 := by decide +kernel
theorem dksX0_castToName_1 : cX0_castToName.data.toList.drop 1 = dktX0_castToName_1 := dk_seg dksX0_castToName_0 1 rfl rfl
theorem dksX0_castToName_2 : cX0_castToName.data.toList.drop 36 = dktX0_castToName_2 := dk_seg dksX0_castToName_1 35 rfl rfl
theorem dksX0_castToName_3 : cX0_castToName.data.toList.drop 60 = dktX0_castToName_3 := dk_seg dksX0_castToName_2 24 rfl rfl
theorem dX0_castToName_0 : decode cX0_castToName 0 = .ok (.iload_n 1, 1) := dk_27 (dk_at dksX0_castToName_0 0 rfl rfl)
theorem dX0_castToName_1 : decode cX0_castToName 1 = .ok (.tableswitch 60 0 4 #[35, 40, 45, 50, 55], 35) := by decide +kernel
theorem dX0_castToName_36 : decode cX0_castToName 36 = .ok (.aload_n 0, 1) := dk_42 (dk_at dksX0_castToName_2 0 rfl rfl)
theorem dX0_castToName_37 : decode cX0_castToName 37 = .ok (.checkcast 21, 3) := dk_192 0 21 (dk_at dksX0_castToName_2 1 rfl rfl)
theorem dX0_castToName_40 : decode cX0_castToName 40 = .ok (.areturn, 1) := dk_176 (dk_at dksX0_castToName_2 4 rfl rfl)
theorem dX0_castToName_41 : decode cX0_castToName 41 = .ok (.aload_n 0, 1) := dk_42 (dk_at dksX0_castToName_2 5 rfl rfl)
theorem dX0_castToName_42 : decode cX0_castToName 42 = .ok (.checkcast 1, 3) := dk_192 0 1 (dk_at dksX0_castToName_2 6 rfl rfl)
theorem dX0_castToName_45 : decode cX0_castToName 45 = .ok (.areturn, 1) := dk_176 (dk_at dksX0_castToName_2 9 rfl rfl)
theorem dX0_castToName_46 : decode cX0_castToName 46 = .ok (.aload_n 0, 1) := dk_42 (dk_at dksX0_castToName_2 10 rfl rfl)
theorem dX0_castToName_47 : decode cX0_castToName 47 = .ok (.checkcast 7, 3) := dk_192 0 7 (dk_at dksX0_castToName_2 11 rfl rfl)
theorem dX0_castToName_50 : decode cX0_castToName 50 = .ok (.areturn, 1) := dk_176 (dk_at dksX0_castToName_2 14 rfl rfl)
theorem dX0_castToName_51 : decode cX0_castToName 51 = .ok (.aload_n 0, 1) := dk_42 (dk_at dksX0_castToName_2 15 rfl rfl)
theorem dX0_castToName_52 : decode cX0_castToName 52 = .ok (.checkcast 10, 3) := dk_192 0 10 (dk_at dksX0_castToName_2 16 rfl rfl)
theorem dX0_castToName_55 : decode cX0_castToName 55 = .ok (.areturn, 1) := dk_176 (dk_at dksX0_castToName_2 19 rfl rfl)
theorem dX0_castToName_56 : decode cX0_castToName 56 = .ok (.aload_n 0, 1) := dk_42 (dk_at dksX0_castToName_2 20 rfl rfl)
theorem dX0_castToName_57 : decode cX0_castToName 57 = .ok (.checkcast 13, 3) := dk_192 0 13 (dk_at dksX0_castToName_2 21 rfl rfl)
theorem dX0_castToName_60 : decode cX0_castToName 60 = .ok (.areturn, 1) := dk_176 (dk_at dksX0_castToName_3 0 rfl rfl)
theorem dX0_castToName_61 : decode cX0_castToName 61 = .ok (.aload_n 0, 1) := dk_42 (dk_at dksX0_castToName_3 1 rfl rfl)
theorem dX0_castToName_62 : decode cX0_castToName 62 = .ok (.checkcast 16, 3) := dk_192 0 16 (dk_at dksX0_castToName_3 2 rfl rfl)
theorem dX0_castToName_65 : decode cX0_castToName 65 = .ok (.areturn, 1) := dk_176 (dk_at dksX0_castToName_3 5 rfl rfl)
abbrev cX0_has : ByteArray := prog_1_method_2_code
def yX0_has : MethodName := ⟨RX0, "has", "(II)Z"⟩
def dkwX0_has_0 : List UInt8 := [26, 27, 122, 4, 126, 4, 160, 0, 7, 4, 167, 0, 4, 3, 172]
abbrev dktX0_has_0 : List UInt8 := dkwX0_has_0 ++ []
theorem dksX0_has_0 : cX0_has.data.toList.drop 0 = dktX0_has_0 := by decide +kernel
theorem dX0_has_0 : decode cX0_has 0 = .ok (.iload_n 0, 1) := dk_26 (dk_at dksX0_has_0 0 rfl rfl)
theorem dX0_has_1 : decode cX0_has 1 = .ok (.iload_n 1, 1) := dk_27 (dk_at dksX0_has_0 1 rfl rfl)
theorem dX0_has_2 : decode cX0_has 2 = .ok (.ishr, 1) := dk_122 (dk_at dksX0_has_0 2 rfl rfl)
theorem dX0_has_3 : decode cX0_has 3 = .ok (.iconst 1, 1) := dk_4 (dk_at dksX0_has_0 3 rfl rfl)
theorem dX0_has_4 : decode cX0_has 4 = .ok (.iand, 1) := dk_126 (dk_at dksX0_has_0 4 rfl rfl)
theorem dX0_has_5 : decode cX0_has 5 = .ok (.iconst 1, 1) := dk_4 (dk_at dksX0_has_0 5 rfl rfl)
theorem dX0_has_6 : decode cX0_has 6 = .ok (.if_icmp .ne 7, 3) := dk_160 0 7 (dk_at dksX0_has_0 6 rfl rfl)
theorem dX0_has_9 : decode cX0_has 9 = .ok (.iconst 1, 1) := dk_4 (dk_at dksX0_has_0 9 rfl rfl)
theorem dX0_has_10 : decode cX0_has 10 = .ok (.goto 4, 3) := dk_167 0 4 (dk_at dksX0_has_0 10 rfl rfl)
theorem dX0_has_13 : decode cX0_has 13 = .ok (.iconst 0, 1) := dk_3 (dk_at dksX0_has_0 13 rfl rfl)
theorem dX0_has_14 : decode cX0_has 14 = .ok (.ireturn, 1) := dk_172 (dk_at dksX0_has_0 14 rfl rfl)
abbrev cX0_sit : ByteArray := prog_1_method_31_code
def yX0_sit : MethodName := ⟨RX0, "sit", "(II)I"⟩
def dkwX0_sit_3 : List UInt8 := [180, 0, 61, 28, 27, 79, 42, 182, 0, 248, 184, 0, 254, 172]
abbrev dktX0_sit_3 : List UInt8 := dkwX0_sit_3 ++ []
def dkwX0_sit_2 : List UInt8 := [180, 0, 45, 180, 0, 61, 28, 46, 2, 159, 0, 6, 16, 252, 172, 42, 182, 0, 251, 42, 180, 0, 45]
abbrev dktX0_sit_2 : List UInt8 := dkwX0_sit_2 ++ dktX0_sit_3
def dkwX0_sit_1 : List UInt8 := [180, 0, 77, 27, 184, 0, 142, 153, 0, 27, 42, 182, 0, 248, 27, 184, 0, 142, 154, 0, 16, 42]
abbrev dktX0_sit_1 : List UInt8 := dkwX0_sit_1 ++ dktX0_sit_2
def dkwX0_sit_0 : List UInt8 := [42, 27, 182, 0, 223, 153, 0, 11, 42, 28, 182, 0, 213, 154, 0, 6, 16, 254, 172, 42, 180, 0, 45]
abbrev dktX0_sit_0 : List UInt8 := dkwX0_sit_0 ++ dktX0_sit_1
theorem dksX0_sit_0 : cX0_sit.data.toList.drop 0 = dktX0_sit_0 := by decide +kernel
theorem dksX0_sit_1 : cX0_sit.data.toList.drop 23 = dktX0_sit_1 := dk_seg dksX0_sit_0 23 rfl rfl
theorem dksX0_sit_2 : cX0_sit.data.toList.drop 45 = dktX0_sit_2 := dk_seg dksX0_sit_1 22 rfl rfl
theorem dksX0_sit_3 : cX0_sit.data.toList.drop 68 = dktX0_sit_3 := dk_seg dksX0_sit_2 23 rfl rfl
theorem dX0_sit_0 : decode cX0_sit 0 = .ok (.aload_n 0, 1) := dk_42 (dk_at dksX0_sit_0 0 rfl rfl)
theorem dX0_sit_1 : decode cX0_sit 1 = .ok (.iload_n 1, 1) := dk_27 (dk_at dksX0_sit_0 1 rfl rfl)
theorem dX0_sit_2 : decode cX0_sit 2 = .ok (.invokevirtual 223, 3) := dk_182 0 223 (dk_at dksX0_sit_0 2 rfl rfl)
theorem dX0_sit_5 : decode cX0_sit 5 = .ok (.ifCond .eq 11, 3) := dk_153 0 11 (dk_at dksX0_sit_0 5 rfl rfl)
theorem dX0_sit_8 : decode cX0_sit 8 = .ok (.aload_n 0, 1) := dk_42 (dk_at dksX0_sit_0 8 rfl rfl)
theorem dX0_sit_9 : decode cX0_sit 9 = .ok (.iload_n 2, 1) := dk_28 (dk_at dksX0_sit_0 9 rfl rfl)
theorem dX0_sit_10 : decode cX0_sit 10 = .ok (.invokevirtual 213, 3) := dk_182 0 213 (dk_at dksX0_sit_0 10 rfl rfl)
theorem dX0_sit_13 : decode cX0_sit 13 = .ok (.ifCond .ne 6, 3) := dk_154 0 6 (dk_at dksX0_sit_0 13 rfl rfl)
theorem dX0_sit_16 : decode cX0_sit 16 = .ok (.bipush (-2), 2) := dk_16 254 (dk_at dksX0_sit_0 16 rfl rfl)
theorem dX0_sit_18 : decode cX0_sit 18 = .ok (.ireturn, 1) := dk_172 (dk_at dksX0_sit_0 18 rfl rfl)
theorem dX0_sit_19 : decode cX0_sit 19 = .ok (.aload_n 0, 1) := dk_42 (dk_at dksX0_sit_0 19 rfl rfl)
theorem dX0_sit_20 : decode cX0_sit 20 = .ok (.getfield 45, 3) := dk_180 0 45 (dk_at dksX0_sit_0 20 rfl rfl)
theorem dX0_sit_23 : decode cX0_sit 23 = .ok (.getfield 77, 3) := dk_180 0 77 (dk_at dksX0_sit_1 0 rfl rfl)
theorem dX0_sit_26 : decode cX0_sit 26 = .ok (.iload_n 1, 1) := dk_27 (dk_at dksX0_sit_1 3 rfl rfl)
theorem dX0_sit_27 : decode cX0_sit 27 = .ok (.invokestatic 142, 3) := dk_184 0 142 (dk_at dksX0_sit_1 4 rfl rfl)
theorem dX0_sit_30 : decode cX0_sit 30 = .ok (.ifCond .eq 27, 3) := dk_153 0 27 (dk_at dksX0_sit_1 7 rfl rfl)
theorem dX0_sit_33 : decode cX0_sit 33 = .ok (.aload_n 0, 1) := dk_42 (dk_at dksX0_sit_1 10 rfl rfl)
theorem dX0_sit_34 : decode cX0_sit 34 = .ok (.invokevirtual 248, 3) := dk_182 0 248 (dk_at dksX0_sit_1 11 rfl rfl)
theorem dX0_sit_37 : decode cX0_sit 37 = .ok (.iload_n 1, 1) := dk_27 (dk_at dksX0_sit_1 14 rfl rfl)
theorem dX0_sit_38 : decode cX0_sit 38 = .ok (.invokestatic 142, 3) := dk_184 0 142 (dk_at dksX0_sit_1 15 rfl rfl)
theorem dX0_sit_41 : decode cX0_sit 41 = .ok (.ifCond .ne 16, 3) := dk_154 0 16 (dk_at dksX0_sit_1 18 rfl rfl)
theorem dX0_sit_44 : decode cX0_sit 44 = .ok (.aload_n 0, 1) := dk_42 (dk_at dksX0_sit_1 21 rfl rfl)
theorem dX0_sit_45 : decode cX0_sit 45 = .ok (.getfield 45, 3) := dk_180 0 45 (dk_at dksX0_sit_2 0 rfl rfl)
theorem dX0_sit_48 : decode cX0_sit 48 = .ok (.getfield 61, 3) := dk_180 0 61 (dk_at dksX0_sit_2 3 rfl rfl)
theorem dX0_sit_51 : decode cX0_sit 51 = .ok (.iload_n 2, 1) := dk_28 (dk_at dksX0_sit_2 6 rfl rfl)
theorem dX0_sit_52 : decode cX0_sit 52 = .ok (.iaload, 1) := dk_46 (dk_at dksX0_sit_2 7 rfl rfl)
theorem dX0_sit_53 : decode cX0_sit 53 = .ok (.iconst (-1), 1) := dk_2 (dk_at dksX0_sit_2 8 rfl rfl)
theorem dX0_sit_54 : decode cX0_sit 54 = .ok (.if_icmp .eq 6, 3) := dk_159 0 6 (dk_at dksX0_sit_2 9 rfl rfl)
theorem dX0_sit_57 : decode cX0_sit 57 = .ok (.bipush (-4), 2) := dk_16 252 (dk_at dksX0_sit_2 12 rfl rfl)
theorem dX0_sit_59 : decode cX0_sit 59 = .ok (.ireturn, 1) := dk_172 (dk_at dksX0_sit_2 14 rfl rfl)
theorem dX0_sit_60 : decode cX0_sit 60 = .ok (.aload_n 0, 1) := dk_42 (dk_at dksX0_sit_2 15 rfl rfl)
theorem dX0_sit_61 : decode cX0_sit 61 = .ok (.invokevirtual 251, 3) := dk_182 0 251 (dk_at dksX0_sit_2 16 rfl rfl)
theorem dX0_sit_64 : decode cX0_sit 64 = .ok (.aload_n 0, 1) := dk_42 (dk_at dksX0_sit_2 19 rfl rfl)
theorem dX0_sit_65 : decode cX0_sit 65 = .ok (.getfield 45, 3) := dk_180 0 45 (dk_at dksX0_sit_2 20 rfl rfl)
theorem dX0_sit_68 : decode cX0_sit 68 = .ok (.getfield 61, 3) := dk_180 0 61 (dk_at dksX0_sit_3 0 rfl rfl)
theorem dX0_sit_71 : decode cX0_sit 71 = .ok (.iload_n 2, 1) := dk_28 (dk_at dksX0_sit_3 3 rfl rfl)
theorem dX0_sit_72 : decode cX0_sit 72 = .ok (.iload_n 1, 1) := dk_27 (dk_at dksX0_sit_3 4 rfl rfl)
theorem dX0_sit_73 : decode cX0_sit 73 = .ok (.iastore, 1) := dk_79 (dk_at dksX0_sit_3 5 rfl rfl)
theorem dX0_sit_74 : decode cX0_sit 74 = .ok (.aload_n 0, 1) := dk_42 (dk_at dksX0_sit_3 6 rfl rfl)
theorem dX0_sit_75 : decode cX0_sit 75 = .ok (.invokevirtual 248, 3) := dk_182 0 248 (dk_at dksX0_sit_3 7 rfl rfl)
theorem dX0_sit_78 : decode cX0_sit 78 = .ok (.invokestatic 254, 3) := dk_184 0 254 (dk_at dksX0_sit_3 10 rfl rfl)
theorem dX0_sit_81 : decode cX0_sit 81 = .ok (.ireturn, 1) := dk_172 (dk_at dksX0_sit_3 13 rfl rfl)
abbrev cX0_sitting : ByteArray := prog_1_method_30_code
def yX0_sitting : MethodName := ⟨RX0, "sitting", "()I"⟩
def dkwX0_sitting_2 : List UInt8 := [167, 255, 214, 27, 172]
abbrev dktX0_sitting_2 : List UInt8 := dkwX0_sitting_2 ++ []
def dkwX0_sitting_1 : List UInt8 := [160, 0, 7, 3, 167, 0, 14, 4, 42, 180, 0, 45, 180, 0, 61, 28, 46, 120, 128, 60, 132, 2, 1]
abbrev dktX0_sitting_1 : List UInt8 := dkwX0_sitting_1 ++ dktX0_sitting_2
def dkwX0_sitting_0 : List UInt8 := [3, 60, 3, 61, 28, 42, 180, 0, 115, 162, 0, 40, 27, 42, 180, 0, 45, 180, 0, 61, 28, 46, 2]
abbrev dktX0_sitting_0 : List UInt8 := dkwX0_sitting_0 ++ dktX0_sitting_1
theorem dksX0_sitting_0 : cX0_sitting.data.toList.drop 0 = dktX0_sitting_0 := by decide +kernel
theorem dksX0_sitting_1 : cX0_sitting.data.toList.drop 23 = dktX0_sitting_1 := dk_seg dksX0_sitting_0 23 rfl rfl
theorem dksX0_sitting_2 : cX0_sitting.data.toList.drop 46 = dktX0_sitting_2 := dk_seg dksX0_sitting_1 23 rfl rfl
theorem dX0_sitting_0 : decode cX0_sitting 0 = .ok (.iconst 0, 1) := dk_3 (dk_at dksX0_sitting_0 0 rfl rfl)
theorem dX0_sitting_1 : decode cX0_sitting 1 = .ok (.istore_n 1, 1) := dk_60 (dk_at dksX0_sitting_0 1 rfl rfl)
theorem dX0_sitting_2 : decode cX0_sitting 2 = .ok (.iconst 0, 1) := dk_3 (dk_at dksX0_sitting_0 2 rfl rfl)
theorem dX0_sitting_3 : decode cX0_sitting 3 = .ok (.istore_n 2, 1) := dk_61 (dk_at dksX0_sitting_0 3 rfl rfl)
theorem dX0_sitting_4 : decode cX0_sitting 4 = .ok (.iload_n 2, 1) := dk_28 (dk_at dksX0_sitting_0 4 rfl rfl)
theorem dX0_sitting_5 : decode cX0_sitting 5 = .ok (.aload_n 0, 1) := dk_42 (dk_at dksX0_sitting_0 5 rfl rfl)
theorem dX0_sitting_6 : decode cX0_sitting 6 = .ok (.getfield 115, 3) := dk_180 0 115 (dk_at dksX0_sitting_0 6 rfl rfl)
theorem dX0_sitting_9 : decode cX0_sitting 9 = .ok (.if_icmp .ge 40, 3) := dk_162 0 40 (dk_at dksX0_sitting_0 9 rfl rfl)
theorem dX0_sitting_12 : decode cX0_sitting 12 = .ok (.iload_n 1, 1) := dk_27 (dk_at dksX0_sitting_0 12 rfl rfl)
theorem dX0_sitting_13 : decode cX0_sitting 13 = .ok (.aload_n 0, 1) := dk_42 (dk_at dksX0_sitting_0 13 rfl rfl)
theorem dX0_sitting_14 : decode cX0_sitting 14 = .ok (.getfield 45, 3) := dk_180 0 45 (dk_at dksX0_sitting_0 14 rfl rfl)
theorem dX0_sitting_17 : decode cX0_sitting 17 = .ok (.getfield 61, 3) := dk_180 0 61 (dk_at dksX0_sitting_0 17 rfl rfl)
theorem dX0_sitting_20 : decode cX0_sitting 20 = .ok (.iload_n 2, 1) := dk_28 (dk_at dksX0_sitting_0 20 rfl rfl)
theorem dX0_sitting_21 : decode cX0_sitting 21 = .ok (.iaload, 1) := dk_46 (dk_at dksX0_sitting_0 21 rfl rfl)
theorem dX0_sitting_22 : decode cX0_sitting 22 = .ok (.iconst (-1), 1) := dk_2 (dk_at dksX0_sitting_0 22 rfl rfl)
theorem dX0_sitting_23 : decode cX0_sitting 23 = .ok (.if_icmp .ne 7, 3) := dk_160 0 7 (dk_at dksX0_sitting_1 0 rfl rfl)
theorem dX0_sitting_26 : decode cX0_sitting 26 = .ok (.iconst 0, 1) := dk_3 (dk_at dksX0_sitting_1 3 rfl rfl)
theorem dX0_sitting_27 : decode cX0_sitting 27 = .ok (.goto 14, 3) := dk_167 0 14 (dk_at dksX0_sitting_1 4 rfl rfl)
theorem dX0_sitting_30 : decode cX0_sitting 30 = .ok (.iconst 1, 1) := dk_4 (dk_at dksX0_sitting_1 7 rfl rfl)
theorem dX0_sitting_31 : decode cX0_sitting 31 = .ok (.aload_n 0, 1) := dk_42 (dk_at dksX0_sitting_1 8 rfl rfl)
theorem dX0_sitting_32 : decode cX0_sitting 32 = .ok (.getfield 45, 3) := dk_180 0 45 (dk_at dksX0_sitting_1 9 rfl rfl)
theorem dX0_sitting_35 : decode cX0_sitting 35 = .ok (.getfield 61, 3) := dk_180 0 61 (dk_at dksX0_sitting_1 12 rfl rfl)
theorem dX0_sitting_38 : decode cX0_sitting 38 = .ok (.iload_n 2, 1) := dk_28 (dk_at dksX0_sitting_1 15 rfl rfl)
theorem dX0_sitting_39 : decode cX0_sitting 39 = .ok (.iaload, 1) := dk_46 (dk_at dksX0_sitting_1 16 rfl rfl)
theorem dX0_sitting_40 : decode cX0_sitting 40 = .ok (.ishl, 1) := dk_120 (dk_at dksX0_sitting_1 17 rfl rfl)
theorem dX0_sitting_41 : decode cX0_sitting 41 = .ok (.ior, 1) := dk_128 (dk_at dksX0_sitting_1 18 rfl rfl)
theorem dX0_sitting_42 : decode cX0_sitting 42 = .ok (.istore_n 1, 1) := dk_60 (dk_at dksX0_sitting_1 19 rfl rfl)
theorem dX0_sitting_43 : decode cX0_sitting 43 = .ok (.iinc 2 1, 3) := dk_132 2 1 (dk_at dksX0_sitting_1 20 rfl rfl)
theorem dX0_sitting_46 : decode cX0_sitting 46 = .ok (.goto (-42), 3) := dk_167 255 214 (dk_at dksX0_sitting_2 0 rfl rfl)
theorem dX0_sitting_49 : decode cX0_sitting 49 = .ok (.iload_n 1, 1) := dk_27 (dk_at dksX0_sitting_2 3 rfl rfl)
theorem dX0_sitting_50 : decode cX0_sitting 50 = .ok (.ireturn, 1) := dk_172 (dk_at dksX0_sitting_2 4 rfl rfl)
abbrev cX0_note : ByteArray := prog_1_method_10_code
def yX0_note : MethodName := ⟨RX0, "note", "()V"⟩
def dkwX0_note_4 : List UInt8 := [42, 180, 0, 45, 182, 0, 103, 87, 177]
abbrev dktX0_note_4 : List UInt8 := dkwX0_note_4 ++ []
def dkwX0_note_3 : List UInt8 := [187, 0, 50, 89, 183, 0, 102, 83, 42, 180, 0, 93, 42, 89, 180, 0, 83, 90, 4, 96, 181, 0, 83, 50]
abbrev dktX0_note_3 : List UInt8 := dkwX0_note_3 ++ dktX0_note_4
def dkwX0_note_2 : List UInt8 := [181, 0, 83, 42, 180, 0, 93, 42, 180, 0, 83, 50, 199, 0, 19, 42, 180, 0, 93, 42, 180, 0, 83]
abbrev dktX0_note_2 : List UInt8 := dkwX0_note_2 ++ dktX0_note_3
def dkwX0_note_1 : List UInt8 := [180, 0, 93, 3, 16, 7, 184, 0, 96, 42, 180, 0, 93, 16, 7, 43, 83, 42, 89, 180, 0, 83, 4, 100]
abbrev dktX0_note_1 : List UInt8 := dkwX0_note_1 ++ dktX0_note_2
def dkwX0_note_0 : List UInt8 := [42, 180, 0, 83, 16, 8, 160, 0, 43, 42, 180, 0, 93, 3, 50, 76, 42, 180, 0, 93, 4, 42]
abbrev dktX0_note_0 : List UInt8 := dkwX0_note_0 ++ dktX0_note_1
theorem dksX0_note_0 : cX0_note.data.toList.drop 0 = dktX0_note_0 := by decide +kernel
theorem dksX0_note_1 : cX0_note.data.toList.drop 22 = dktX0_note_1 := dk_seg dksX0_note_0 22 rfl rfl
theorem dksX0_note_2 : cX0_note.data.toList.drop 46 = dktX0_note_2 := dk_seg dksX0_note_1 24 rfl rfl
theorem dksX0_note_3 : cX0_note.data.toList.drop 69 = dktX0_note_3 := dk_seg dksX0_note_2 23 rfl rfl
theorem dksX0_note_4 : cX0_note.data.toList.drop 93 = dktX0_note_4 := dk_seg dksX0_note_3 24 rfl rfl
theorem dX0_note_0 : decode cX0_note 0 = .ok (.aload_n 0, 1) := dk_42 (dk_at dksX0_note_0 0 rfl rfl)
theorem dX0_note_1 : decode cX0_note 1 = .ok (.getfield 83, 3) := dk_180 0 83 (dk_at dksX0_note_0 1 rfl rfl)
theorem dX0_note_4 : decode cX0_note 4 = .ok (.bipush 8, 2) := dk_16 8 (dk_at dksX0_note_0 4 rfl rfl)
theorem dX0_note_6 : decode cX0_note 6 = .ok (.if_icmp .ne 43, 3) := dk_160 0 43 (dk_at dksX0_note_0 6 rfl rfl)
theorem dX0_note_9 : decode cX0_note 9 = .ok (.aload_n 0, 1) := dk_42 (dk_at dksX0_note_0 9 rfl rfl)
theorem dX0_note_10 : decode cX0_note 10 = .ok (.getfield 93, 3) := dk_180 0 93 (dk_at dksX0_note_0 10 rfl rfl)
theorem dX0_note_13 : decode cX0_note 13 = .ok (.iconst 0, 1) := dk_3 (dk_at dksX0_note_0 13 rfl rfl)
theorem dX0_note_14 : decode cX0_note 14 = .ok (.aaload, 1) := dk_50 (dk_at dksX0_note_0 14 rfl rfl)
theorem dX0_note_15 : decode cX0_note 15 = .ok (.astore_n 1, 1) := dk_76 (dk_at dksX0_note_0 15 rfl rfl)
theorem dX0_note_16 : decode cX0_note 16 = .ok (.aload_n 0, 1) := dk_42 (dk_at dksX0_note_0 16 rfl rfl)
theorem dX0_note_17 : decode cX0_note 17 = .ok (.getfield 93, 3) := dk_180 0 93 (dk_at dksX0_note_0 17 rfl rfl)
theorem dX0_note_20 : decode cX0_note 20 = .ok (.iconst 1, 1) := dk_4 (dk_at dksX0_note_0 20 rfl rfl)
theorem dX0_note_21 : decode cX0_note 21 = .ok (.aload_n 0, 1) := dk_42 (dk_at dksX0_note_0 21 rfl rfl)
theorem dX0_note_22 : decode cX0_note 22 = .ok (.getfield 93, 3) := dk_180 0 93 (dk_at dksX0_note_1 0 rfl rfl)
theorem dX0_note_25 : decode cX0_note 25 = .ok (.iconst 0, 1) := dk_3 (dk_at dksX0_note_1 3 rfl rfl)
theorem dX0_note_26 : decode cX0_note 26 = .ok (.bipush 7, 2) := dk_16 7 (dk_at dksX0_note_1 4 rfl rfl)
theorem dX0_note_28 : decode cX0_note 28 = .ok (.invokestatic 96, 3) := dk_184 0 96 (dk_at dksX0_note_1 6 rfl rfl)
theorem dX0_note_31 : decode cX0_note 31 = .ok (.aload_n 0, 1) := dk_42 (dk_at dksX0_note_1 9 rfl rfl)
theorem dX0_note_32 : decode cX0_note 32 = .ok (.getfield 93, 3) := dk_180 0 93 (dk_at dksX0_note_1 10 rfl rfl)
theorem dX0_note_35 : decode cX0_note 35 = .ok (.bipush 7, 2) := dk_16 7 (dk_at dksX0_note_1 13 rfl rfl)
theorem dX0_note_37 : decode cX0_note 37 = .ok (.aload_n 1, 1) := dk_43 (dk_at dksX0_note_1 15 rfl rfl)
theorem dX0_note_38 : decode cX0_note 38 = .ok (.aastore, 1) := dk_83 (dk_at dksX0_note_1 16 rfl rfl)
theorem dX0_note_39 : decode cX0_note 39 = .ok (.aload_n 0, 1) := dk_42 (dk_at dksX0_note_1 17 rfl rfl)
theorem dX0_note_40 : decode cX0_note 40 = .ok (.dup, 1) := dk_89 (dk_at dksX0_note_1 18 rfl rfl)
theorem dX0_note_41 : decode cX0_note 41 = .ok (.getfield 83, 3) := dk_180 0 83 (dk_at dksX0_note_1 19 rfl rfl)
theorem dX0_note_44 : decode cX0_note 44 = .ok (.iconst 1, 1) := dk_4 (dk_at dksX0_note_1 22 rfl rfl)
theorem dX0_note_45 : decode cX0_note 45 = .ok (.isub, 1) := dk_100 (dk_at dksX0_note_1 23 rfl rfl)
theorem dX0_note_46 : decode cX0_note 46 = .ok (.putfield 83, 3) := dk_181 0 83 (dk_at dksX0_note_2 0 rfl rfl)
theorem dX0_note_49 : decode cX0_note 49 = .ok (.aload_n 0, 1) := dk_42 (dk_at dksX0_note_2 3 rfl rfl)
theorem dX0_note_50 : decode cX0_note 50 = .ok (.getfield 93, 3) := dk_180 0 93 (dk_at dksX0_note_2 4 rfl rfl)
theorem dX0_note_53 : decode cX0_note 53 = .ok (.aload_n 0, 1) := dk_42 (dk_at dksX0_note_2 7 rfl rfl)
theorem dX0_note_54 : decode cX0_note 54 = .ok (.getfield 83, 3) := dk_180 0 83 (dk_at dksX0_note_2 8 rfl rfl)
theorem dX0_note_57 : decode cX0_note 57 = .ok (.aaload, 1) := dk_50 (dk_at dksX0_note_2 11 rfl rfl)
theorem dX0_note_58 : decode cX0_note 58 = .ok (.ifnonnull 19, 3) := dk_199 0 19 (dk_at dksX0_note_2 12 rfl rfl)
theorem dX0_note_61 : decode cX0_note 61 = .ok (.aload_n 0, 1) := dk_42 (dk_at dksX0_note_2 15 rfl rfl)
theorem dX0_note_62 : decode cX0_note 62 = .ok (.getfield 93, 3) := dk_180 0 93 (dk_at dksX0_note_2 16 rfl rfl)
theorem dX0_note_65 : decode cX0_note 65 = .ok (.aload_n 0, 1) := dk_42 (dk_at dksX0_note_2 19 rfl rfl)
theorem dX0_note_66 : decode cX0_note 66 = .ok (.getfield 83, 3) := dk_180 0 83 (dk_at dksX0_note_2 20 rfl rfl)
theorem dX0_note_69 : decode cX0_note 69 = .ok (.new 50, 3) := dk_187 0 50 (dk_at dksX0_note_3 0 rfl rfl)
theorem dX0_note_72 : decode cX0_note 72 = .ok (.dup, 1) := dk_89 (dk_at dksX0_note_3 3 rfl rfl)
theorem dX0_note_73 : decode cX0_note 73 = .ok (.invokespecial 102, 3) := dk_183 0 102 (dk_at dksX0_note_3 4 rfl rfl)
theorem dX0_note_76 : decode cX0_note 76 = .ok (.aastore, 1) := dk_83 (dk_at dksX0_note_3 7 rfl rfl)
theorem dX0_note_77 : decode cX0_note 77 = .ok (.aload_n 0, 1) := dk_42 (dk_at dksX0_note_3 8 rfl rfl)
theorem dX0_note_78 : decode cX0_note 78 = .ok (.getfield 93, 3) := dk_180 0 93 (dk_at dksX0_note_3 9 rfl rfl)
theorem dX0_note_81 : decode cX0_note 81 = .ok (.aload_n 0, 1) := dk_42 (dk_at dksX0_note_3 12 rfl rfl)
theorem dX0_note_82 : decode cX0_note 82 = .ok (.dup, 1) := dk_89 (dk_at dksX0_note_3 13 rfl rfl)
theorem dX0_note_83 : decode cX0_note 83 = .ok (.getfield 83, 3) := dk_180 0 83 (dk_at dksX0_note_3 14 rfl rfl)
theorem dX0_note_86 : decode cX0_note 86 = .ok (.dup_x1, 1) := dk_90 (dk_at dksX0_note_3 17 rfl rfl)
theorem dX0_note_87 : decode cX0_note 87 = .ok (.iconst 1, 1) := dk_4 (dk_at dksX0_note_3 18 rfl rfl)
theorem dX0_note_88 : decode cX0_note 88 = .ok (.iadd, 1) := dk_96 (dk_at dksX0_note_3 19 rfl rfl)
theorem dX0_note_89 : decode cX0_note 89 = .ok (.putfield 83, 3) := dk_181 0 83 (dk_at dksX0_note_3 20 rfl rfl)
theorem dX0_note_92 : decode cX0_note 92 = .ok (.aaload, 1) := dk_50 (dk_at dksX0_note_3 23 rfl rfl)
theorem dX0_note_93 : decode cX0_note 93 = .ok (.aload_n 0, 1) := dk_42 (dk_at dksX0_note_4 0 rfl rfl)
theorem dX0_note_94 : decode cX0_note 94 = .ok (.getfield 45, 3) := dk_180 0 45 (dk_at dksX0_note_4 1 rfl rfl)
theorem dX0_note_97 : decode cX0_note 97 = .ok (.invokevirtual 103, 3) := dk_182 0 103 (dk_at dksX0_note_4 4 rfl rfl)
theorem dX0_note_100 : decode cX0_note 100 = .ok (.pop, 1) := dk_87 (dk_at dksX0_note_4 7 rfl rfl)
theorem dX0_note_101 : decode cX0_note 101 = .ok (.return_, 1) := dk_177 (dk_at dksX0_note_4 8 rfl rfl)
abbrev cX0_rise : ByteArray := prog_1_method_32_code
def yX0_rise : MethodName := ⟨RX0, "rise", "()I"⟩
def dkwX0_rise_1 : List UInt8 := [172]
abbrev dktX0_rise_1 : List UInt8 := dkwX0_rise_1 ++ []
def dkwX0_rise_0 : List UInt8 := [42, 182, 0, 248, 184, 0, 254, 60, 42, 182, 0, 251, 42, 180, 0, 45, 180, 0, 61, 2, 184, 0, 55, 27]
abbrev dktX0_rise_0 : List UInt8 := dkwX0_rise_0 ++ dktX0_rise_1
theorem dksX0_rise_0 : cX0_rise.data.toList.drop 0 = dktX0_rise_0 := by decide +kernel
theorem dksX0_rise_1 : cX0_rise.data.toList.drop 24 = dktX0_rise_1 := dk_seg dksX0_rise_0 24 rfl rfl
theorem dX0_rise_0 : decode cX0_rise 0 = .ok (.aload_n 0, 1) := dk_42 (dk_at dksX0_rise_0 0 rfl rfl)
theorem dX0_rise_1 : decode cX0_rise 1 = .ok (.invokevirtual 248, 3) := dk_182 0 248 (dk_at dksX0_rise_0 1 rfl rfl)
theorem dX0_rise_4 : decode cX0_rise 4 = .ok (.invokestatic 254, 3) := dk_184 0 254 (dk_at dksX0_rise_0 4 rfl rfl)
theorem dX0_rise_7 : decode cX0_rise 7 = .ok (.istore_n 1, 1) := dk_60 (dk_at dksX0_rise_0 7 rfl rfl)
theorem dX0_rise_8 : decode cX0_rise 8 = .ok (.aload_n 0, 1) := dk_42 (dk_at dksX0_rise_0 8 rfl rfl)
theorem dX0_rise_9 : decode cX0_rise 9 = .ok (.invokevirtual 251, 3) := dk_182 0 251 (dk_at dksX0_rise_0 9 rfl rfl)
theorem dX0_rise_12 : decode cX0_rise 12 = .ok (.aload_n 0, 1) := dk_42 (dk_at dksX0_rise_0 12 rfl rfl)
theorem dX0_rise_13 : decode cX0_rise 13 = .ok (.getfield 45, 3) := dk_180 0 45 (dk_at dksX0_rise_0 13 rfl rfl)
theorem dX0_rise_16 : decode cX0_rise 16 = .ok (.getfield 61, 3) := dk_180 0 61 (dk_at dksX0_rise_0 16 rfl rfl)
theorem dX0_rise_19 : decode cX0_rise 19 = .ok (.iconst (-1), 1) := dk_2 (dk_at dksX0_rise_0 19 rfl rfl)
theorem dX0_rise_20 : decode cX0_rise 20 = .ok (.invokestatic 55, 3) := dk_184 0 55 (dk_at dksX0_rise_0 20 rfl rfl)
theorem dX0_rise_23 : decode cX0_rise 23 = .ok (.iload_n 1, 1) := dk_27 (dk_at dksX0_rise_0 23 rfl rfl)
theorem dX0_rise_24 : decode cX0_rise 24 = .ok (.ireturn, 1) := dk_172 (dk_at dksX0_rise_1 0 rfl rfl)
abbrev cX0_tell_2 : ByteArray := prog_1_method_33_code
def yX0_tell_2 : MethodName := ⟨RX0, "tell", "(II)I"⟩
def dkwX0_tell_2_3 : List UInt8 := [172]
abbrev dktX0_tell_2_3 : List UInt8 := dkwX0_tell_2_3 ++ []
def dkwX0_tell_2_2 : List UInt8 := [42, 180, 0, 45, 180, 0, 49, 27, 92, 46, 4, 28, 120, 128, 79, 42, 180, 0, 45, 180, 0, 49, 27, 46]
abbrev dktX0_tell_2_2 : List UInt8 := dkwX0_tell_2_2 ++ dktX0_tell_2_3
def dkwX0_tell_2_1 : List UInt8 := [16, 253, 172, 42, 180, 0, 45, 180, 0, 77, 27, 184, 0, 142, 154, 0, 6, 16, 252, 172, 42, 182, 0, 251]
abbrev dktX0_tell_2_1 : List UInt8 := dkwX0_tell_2_1 ++ dktX0_tell_2_2
def dkwX0_tell_2_0 : List UInt8 := [42, 27, 182, 0, 223, 154, 0, 6, 16, 254, 172, 28, 133, 9, 20, 0, 234, 184, 0, 181, 154, 0, 6]
abbrev dktX0_tell_2_0 : List UInt8 := dkwX0_tell_2_0 ++ dktX0_tell_2_1
theorem dksX0_tell_2_0 : cX0_tell_2.data.toList.drop 0 = dktX0_tell_2_0 := by decide +kernel
theorem dksX0_tell_2_1 : cX0_tell_2.data.toList.drop 23 = dktX0_tell_2_1 := dk_seg dksX0_tell_2_0 23 rfl rfl
theorem dksX0_tell_2_2 : cX0_tell_2.data.toList.drop 47 = dktX0_tell_2_2 := dk_seg dksX0_tell_2_1 24 rfl rfl
theorem dksX0_tell_2_3 : cX0_tell_2.data.toList.drop 71 = dktX0_tell_2_3 := dk_seg dksX0_tell_2_2 24 rfl rfl
theorem dX0_tell_2_0 : decode cX0_tell_2 0 = .ok (.aload_n 0, 1) := dk_42 (dk_at dksX0_tell_2_0 0 rfl rfl)
theorem dX0_tell_2_1 : decode cX0_tell_2 1 = .ok (.iload_n 1, 1) := dk_27 (dk_at dksX0_tell_2_0 1 rfl rfl)
theorem dX0_tell_2_2 : decode cX0_tell_2 2 = .ok (.invokevirtual 223, 3) := dk_182 0 223 (dk_at dksX0_tell_2_0 2 rfl rfl)
theorem dX0_tell_2_5 : decode cX0_tell_2 5 = .ok (.ifCond .ne 6, 3) := dk_154 0 6 (dk_at dksX0_tell_2_0 5 rfl rfl)
theorem dX0_tell_2_8 : decode cX0_tell_2 8 = .ok (.bipush (-2), 2) := dk_16 254 (dk_at dksX0_tell_2_0 8 rfl rfl)
theorem dX0_tell_2_10 : decode cX0_tell_2 10 = .ok (.ireturn, 1) := dk_172 (dk_at dksX0_tell_2_0 10 rfl rfl)
theorem dX0_tell_2_11 : decode cX0_tell_2 11 = .ok (.iload_n 2, 1) := dk_28 (dk_at dksX0_tell_2_0 11 rfl rfl)
theorem dX0_tell_2_12 : decode cX0_tell_2 12 = .ok (.i2l, 1) := dk_133 (dk_at dksX0_tell_2_0 12 rfl rfl)
theorem dX0_tell_2_13 : decode cX0_tell_2 13 = .ok (.lconst 0, 1) := dk_9 (dk_at dksX0_tell_2_0 13 rfl rfl)
theorem dX0_tell_2_14 : decode cX0_tell_2 14 = .ok (.ldc2_w 234, 3) := dk_20 0 234 (dk_at dksX0_tell_2_0 14 rfl rfl)
theorem dX0_tell_2_17 : decode cX0_tell_2 17 = .ok (.invokestatic 181, 3) := dk_184 0 181 (dk_at dksX0_tell_2_0 17 rfl rfl)
theorem dX0_tell_2_20 : decode cX0_tell_2 20 = .ok (.ifCond .ne 6, 3) := dk_154 0 6 (dk_at dksX0_tell_2_0 20 rfl rfl)
theorem dX0_tell_2_23 : decode cX0_tell_2 23 = .ok (.bipush (-3), 2) := dk_16 253 (dk_at dksX0_tell_2_1 0 rfl rfl)
theorem dX0_tell_2_25 : decode cX0_tell_2 25 = .ok (.ireturn, 1) := dk_172 (dk_at dksX0_tell_2_1 2 rfl rfl)
theorem dX0_tell_2_26 : decode cX0_tell_2 26 = .ok (.aload_n 0, 1) := dk_42 (dk_at dksX0_tell_2_1 3 rfl rfl)
theorem dX0_tell_2_27 : decode cX0_tell_2 27 = .ok (.getfield 45, 3) := dk_180 0 45 (dk_at dksX0_tell_2_1 4 rfl rfl)
theorem dX0_tell_2_30 : decode cX0_tell_2 30 = .ok (.getfield 77, 3) := dk_180 0 77 (dk_at dksX0_tell_2_1 7 rfl rfl)
theorem dX0_tell_2_33 : decode cX0_tell_2 33 = .ok (.iload_n 1, 1) := dk_27 (dk_at dksX0_tell_2_1 10 rfl rfl)
theorem dX0_tell_2_34 : decode cX0_tell_2 34 = .ok (.invokestatic 142, 3) := dk_184 0 142 (dk_at dksX0_tell_2_1 11 rfl rfl)
theorem dX0_tell_2_37 : decode cX0_tell_2 37 = .ok (.ifCond .ne 6, 3) := dk_154 0 6 (dk_at dksX0_tell_2_1 14 rfl rfl)
theorem dX0_tell_2_40 : decode cX0_tell_2 40 = .ok (.bipush (-4), 2) := dk_16 252 (dk_at dksX0_tell_2_1 17 rfl rfl)
theorem dX0_tell_2_42 : decode cX0_tell_2 42 = .ok (.ireturn, 1) := dk_172 (dk_at dksX0_tell_2_1 19 rfl rfl)
theorem dX0_tell_2_43 : decode cX0_tell_2 43 = .ok (.aload_n 0, 1) := dk_42 (dk_at dksX0_tell_2_1 20 rfl rfl)
theorem dX0_tell_2_44 : decode cX0_tell_2 44 = .ok (.invokevirtual 251, 3) := dk_182 0 251 (dk_at dksX0_tell_2_1 21 rfl rfl)
theorem dX0_tell_2_47 : decode cX0_tell_2 47 = .ok (.aload_n 0, 1) := dk_42 (dk_at dksX0_tell_2_2 0 rfl rfl)
theorem dX0_tell_2_48 : decode cX0_tell_2 48 = .ok (.getfield 45, 3) := dk_180 0 45 (dk_at dksX0_tell_2_2 1 rfl rfl)
theorem dX0_tell_2_51 : decode cX0_tell_2 51 = .ok (.getfield 49, 3) := dk_180 0 49 (dk_at dksX0_tell_2_2 4 rfl rfl)
theorem dX0_tell_2_54 : decode cX0_tell_2 54 = .ok (.iload_n 1, 1) := dk_27 (dk_at dksX0_tell_2_2 7 rfl rfl)
theorem dX0_tell_2_55 : decode cX0_tell_2 55 = .ok (.dup2, 1) := dk_92 (dk_at dksX0_tell_2_2 8 rfl rfl)
theorem dX0_tell_2_56 : decode cX0_tell_2 56 = .ok (.iaload, 1) := dk_46 (dk_at dksX0_tell_2_2 9 rfl rfl)
theorem dX0_tell_2_57 : decode cX0_tell_2 57 = .ok (.iconst 1, 1) := dk_4 (dk_at dksX0_tell_2_2 10 rfl rfl)
theorem dX0_tell_2_58 : decode cX0_tell_2 58 = .ok (.iload_n 2, 1) := dk_28 (dk_at dksX0_tell_2_2 11 rfl rfl)
theorem dX0_tell_2_59 : decode cX0_tell_2 59 = .ok (.ishl, 1) := dk_120 (dk_at dksX0_tell_2_2 12 rfl rfl)
theorem dX0_tell_2_60 : decode cX0_tell_2 60 = .ok (.ior, 1) := dk_128 (dk_at dksX0_tell_2_2 13 rfl rfl)
theorem dX0_tell_2_61 : decode cX0_tell_2 61 = .ok (.iastore, 1) := dk_79 (dk_at dksX0_tell_2_2 14 rfl rfl)
theorem dX0_tell_2_62 : decode cX0_tell_2 62 = .ok (.aload_n 0, 1) := dk_42 (dk_at dksX0_tell_2_2 15 rfl rfl)
theorem dX0_tell_2_63 : decode cX0_tell_2 63 = .ok (.getfield 45, 3) := dk_180 0 45 (dk_at dksX0_tell_2_2 16 rfl rfl)
theorem dX0_tell_2_66 : decode cX0_tell_2 66 = .ok (.getfield 49, 3) := dk_180 0 49 (dk_at dksX0_tell_2_2 19 rfl rfl)
theorem dX0_tell_2_69 : decode cX0_tell_2 69 = .ok (.iload_n 1, 1) := dk_27 (dk_at dksX0_tell_2_2 22 rfl rfl)
theorem dX0_tell_2_70 : decode cX0_tell_2 70 = .ok (.iaload, 1) := dk_46 (dk_at dksX0_tell_2_2 23 rfl rfl)
theorem dX0_tell_2_71 : decode cX0_tell_2 71 = .ok (.ireturn, 1) := dk_172 (dk_at dksX0_tell_2_3 0 rfl rfl)
abbrev cX0_feast : ByteArray := prog_1_method_36_code
def yX0_feast : MethodName := ⟨RX0, "feast", "()I"⟩
def dkwX0_feast_10 : List UInt8 := [180, 0, 45, 89, 180, 0, 80, 4, 96, 181, 0, 80, 27, 172]
abbrev dktX0_feast_10 : List UInt8 := dkwX0_feast_10 ++ []
def dkwX0_feast_9 : List UInt8 := [180, 0, 77, 27, 2, 130, 126, 181, 0, 77, 42, 180, 0, 45, 180, 0, 61, 2, 184, 0, 55, 42]
abbrev dktX0_feast_9 : List UInt8 := dkwX0_feast_9 ++ dktX0_feast_10
def dkwX0_feast_8 : List UInt8 := [167, 255, 120, 44, 3, 42, 180, 0, 45, 180, 0, 49, 3, 16, 6, 184, 0, 96, 42, 180, 0, 45, 89]
abbrev dktX0_feast_8 : List UInt8 := dkwX0_feast_8 ++ dktX0_feast_9
def dkwX0_feast_7 : List UInt8 := [167, 0, 20, 16, 9, 42, 180, 0, 45, 180, 0, 68, 21, 4, 46, 4, 96, 184, 1, 28, 79, 132, 3, 1]
abbrev dktX0_feast_7 : List UInt8 := dkwX0_feast_7 ++ dktX0_feast_8
def dkwX0_feast_6 : List UInt8 := [182, 1, 19, 153, 0, 22, 3, 42, 180, 0, 45, 180, 0, 68, 21, 4, 46, 4, 100, 184, 1, 22]
abbrev dktX0_feast_6 : List UInt8 := dkwX0_feast_6 ++ dktX0_feast_7
def dkwX0_feast_5 : List UInt8 := [128, 79, 27, 21, 4, 184, 0, 142, 154, 0, 57, 42, 180, 0, 45, 180, 0, 68, 21, 4, 42, 29]
abbrev dktX0_feast_5 : List UInt8 := dkwX0_feast_5 ++ dktX0_feast_6
def dkwX0_feast_4 : List UInt8 := [21, 4, 92, 46, 21, 5, 2, 160, 0, 7, 3, 167, 0, 13, 42, 180, 0, 45, 180, 0, 49, 21, 5, 46]
abbrev dktX0_feast_4 : List UInt8 := dkwX0_feast_4 ++ dktX0_feast_5
def dkwX0_feast_3 : List UInt8 := [2, 160, 0, 6, 167, 0, 108, 42, 180, 0, 45, 180, 0, 61, 42, 29, 182, 1, 6, 46, 54, 5, 44]
abbrev dktX0_feast_3 : List UInt8 := dkwX0_feast_3 ++ dktX0_feast_4
def dkwX0_feast_2 : List UInt8 := [77, 3, 62, 29, 42, 180, 0, 115, 162, 0, 134, 42, 180, 0, 45, 180, 0, 61, 29, 46, 54, 4, 21, 4]
abbrev dktX0_feast_2 : List UInt8 := dkwX0_feast_2 ++ dktX0_feast_3
def dkwX0_feast_1 : List UInt8 := [16, 251, 172, 42, 182, 0, 251, 42, 182, 1, 12, 60, 42, 180, 0, 45, 180, 0, 49, 16, 6, 184, 1, 15]
abbrev dktX0_feast_1 : List UInt8 := dkwX0_feast_1 ++ dktX0_feast_2
def dkwX0_feast_0 : List UInt8 := [42, 182, 0, 248, 154, 0, 6, 16, 252, 172, 42, 180, 0, 45, 180, 0, 80, 17, 3, 231, 160, 0, 6]
abbrev dktX0_feast_0 : List UInt8 := dkwX0_feast_0 ++ dktX0_feast_1
theorem dksX0_feast_0 : cX0_feast.data.toList.drop 0 = dktX0_feast_0 := by decide +kernel
theorem dksX0_feast_1 : cX0_feast.data.toList.drop 23 = dktX0_feast_1 := dk_seg dksX0_feast_0 23 rfl rfl
theorem dksX0_feast_2 : cX0_feast.data.toList.drop 47 = dktX0_feast_2 := dk_seg dksX0_feast_1 24 rfl rfl
theorem dksX0_feast_3 : cX0_feast.data.toList.drop 71 = dktX0_feast_3 := dk_seg dksX0_feast_2 24 rfl rfl
theorem dksX0_feast_4 : cX0_feast.data.toList.drop 94 = dktX0_feast_4 := dk_seg dksX0_feast_3 23 rfl rfl
theorem dksX0_feast_5 : cX0_feast.data.toList.drop 118 = dktX0_feast_5 := dk_seg dksX0_feast_4 24 rfl rfl
theorem dksX0_feast_6 : cX0_feast.data.toList.drop 140 = dktX0_feast_6 := dk_seg dksX0_feast_5 22 rfl rfl
theorem dksX0_feast_7 : cX0_feast.data.toList.drop 162 = dktX0_feast_7 := dk_seg dksX0_feast_6 22 rfl rfl
theorem dksX0_feast_8 : cX0_feast.data.toList.drop 186 = dktX0_feast_8 := dk_seg dksX0_feast_7 24 rfl rfl
theorem dksX0_feast_9 : cX0_feast.data.toList.drop 209 = dktX0_feast_9 := dk_seg dksX0_feast_8 23 rfl rfl
theorem dksX0_feast_10 : cX0_feast.data.toList.drop 231 = dktX0_feast_10 := dk_seg dksX0_feast_9 22 rfl rfl
theorem dX0_feast_0 : decode cX0_feast 0 = .ok (.aload_n 0, 1) := dk_42 (dk_at dksX0_feast_0 0 rfl rfl)
theorem dX0_feast_1 : decode cX0_feast 1 = .ok (.invokevirtual 248, 3) := dk_182 0 248 (dk_at dksX0_feast_0 1 rfl rfl)
theorem dX0_feast_4 : decode cX0_feast 4 = .ok (.ifCond .ne 6, 3) := dk_154 0 6 (dk_at dksX0_feast_0 4 rfl rfl)
theorem dX0_feast_7 : decode cX0_feast 7 = .ok (.bipush (-4), 2) := dk_16 252 (dk_at dksX0_feast_0 7 rfl rfl)
theorem dX0_feast_9 : decode cX0_feast 9 = .ok (.ireturn, 1) := dk_172 (dk_at dksX0_feast_0 9 rfl rfl)
theorem dX0_feast_10 : decode cX0_feast 10 = .ok (.aload_n 0, 1) := dk_42 (dk_at dksX0_feast_0 10 rfl rfl)
theorem dX0_feast_11 : decode cX0_feast 11 = .ok (.getfield 45, 3) := dk_180 0 45 (dk_at dksX0_feast_0 11 rfl rfl)
theorem dX0_feast_14 : decode cX0_feast 14 = .ok (.getfield 80, 3) := dk_180 0 80 (dk_at dksX0_feast_0 14 rfl rfl)
theorem dX0_feast_17 : decode cX0_feast 17 = .ok (.sipush 999, 3) := dk_17 3 231 (dk_at dksX0_feast_0 17 rfl rfl)
theorem dX0_feast_20 : decode cX0_feast 20 = .ok (.if_icmp .ne 6, 3) := dk_160 0 6 (dk_at dksX0_feast_0 20 rfl rfl)
theorem dX0_feast_23 : decode cX0_feast 23 = .ok (.bipush (-5), 2) := dk_16 251 (dk_at dksX0_feast_1 0 rfl rfl)
theorem dX0_feast_25 : decode cX0_feast 25 = .ok (.ireturn, 1) := dk_172 (dk_at dksX0_feast_1 2 rfl rfl)
theorem dX0_feast_26 : decode cX0_feast 26 = .ok (.aload_n 0, 1) := dk_42 (dk_at dksX0_feast_1 3 rfl rfl)
theorem dX0_feast_27 : decode cX0_feast 27 = .ok (.invokevirtual 251, 3) := dk_182 0 251 (dk_at dksX0_feast_1 4 rfl rfl)
theorem dX0_feast_30 : decode cX0_feast 30 = .ok (.aload_n 0, 1) := dk_42 (dk_at dksX0_feast_1 7 rfl rfl)
theorem dX0_feast_31 : decode cX0_feast 31 = .ok (.invokevirtual 268, 3) := dk_182 1 12 (dk_at dksX0_feast_1 8 rfl rfl)
theorem dX0_feast_34 : decode cX0_feast 34 = .ok (.istore_n 1, 1) := dk_60 (dk_at dksX0_feast_1 11 rfl rfl)
theorem dX0_feast_35 : decode cX0_feast 35 = .ok (.aload_n 0, 1) := dk_42 (dk_at dksX0_feast_1 12 rfl rfl)
theorem dX0_feast_36 : decode cX0_feast 36 = .ok (.getfield 45, 3) := dk_180 0 45 (dk_at dksX0_feast_1 13 rfl rfl)
theorem dX0_feast_39 : decode cX0_feast 39 = .ok (.getfield 49, 3) := dk_180 0 49 (dk_at dksX0_feast_1 16 rfl rfl)
theorem dX0_feast_42 : decode cX0_feast 42 = .ok (.bipush 6, 2) := dk_16 6 (dk_at dksX0_feast_1 19 rfl rfl)
theorem dX0_feast_44 : decode cX0_feast 44 = .ok (.invokestatic 271, 3) := dk_184 1 15 (dk_at dksX0_feast_1 21 rfl rfl)
theorem dX0_feast_47 : decode cX0_feast 47 = .ok (.astore_n 2, 1) := dk_77 (dk_at dksX0_feast_2 0 rfl rfl)
theorem dX0_feast_48 : decode cX0_feast 48 = .ok (.iconst 0, 1) := dk_3 (dk_at dksX0_feast_2 1 rfl rfl)
theorem dX0_feast_49 : decode cX0_feast 49 = .ok (.istore_n 3, 1) := dk_62 (dk_at dksX0_feast_2 2 rfl rfl)
theorem dX0_feast_50 : decode cX0_feast 50 = .ok (.iload_n 3, 1) := dk_29 (dk_at dksX0_feast_2 3 rfl rfl)
theorem dX0_feast_51 : decode cX0_feast 51 = .ok (.aload_n 0, 1) := dk_42 (dk_at dksX0_feast_2 4 rfl rfl)
theorem dX0_feast_52 : decode cX0_feast 52 = .ok (.getfield 115, 3) := dk_180 0 115 (dk_at dksX0_feast_2 5 rfl rfl)
theorem dX0_feast_55 : decode cX0_feast 55 = .ok (.if_icmp .ge 134, 3) := dk_162 0 134 (dk_at dksX0_feast_2 8 rfl rfl)
theorem dX0_feast_58 : decode cX0_feast 58 = .ok (.aload_n 0, 1) := dk_42 (dk_at dksX0_feast_2 11 rfl rfl)
theorem dX0_feast_59 : decode cX0_feast 59 = .ok (.getfield 45, 3) := dk_180 0 45 (dk_at dksX0_feast_2 12 rfl rfl)
theorem dX0_feast_62 : decode cX0_feast 62 = .ok (.getfield 61, 3) := dk_180 0 61 (dk_at dksX0_feast_2 15 rfl rfl)
theorem dX0_feast_65 : decode cX0_feast 65 = .ok (.iload_n 3, 1) := dk_29 (dk_at dksX0_feast_2 18 rfl rfl)
theorem dX0_feast_66 : decode cX0_feast 66 = .ok (.iaload, 1) := dk_46 (dk_at dksX0_feast_2 19 rfl rfl)
theorem dX0_feast_67 : decode cX0_feast 67 = .ok (.istore 4, 2) := dk_54 4 (dk_at dksX0_feast_2 20 rfl rfl)
theorem dX0_feast_69 : decode cX0_feast 69 = .ok (.iload 4, 2) := dk_21 4 (dk_at dksX0_feast_2 22 rfl rfl)
theorem dX0_feast_71 : decode cX0_feast 71 = .ok (.iconst (-1), 1) := dk_2 (dk_at dksX0_feast_3 0 rfl rfl)
theorem dX0_feast_72 : decode cX0_feast 72 = .ok (.if_icmp .ne 6, 3) := dk_160 0 6 (dk_at dksX0_feast_3 1 rfl rfl)
theorem dX0_feast_75 : decode cX0_feast 75 = .ok (.goto 108, 3) := dk_167 0 108 (dk_at dksX0_feast_3 4 rfl rfl)
theorem dX0_feast_78 : decode cX0_feast 78 = .ok (.aload_n 0, 1) := dk_42 (dk_at dksX0_feast_3 7 rfl rfl)
theorem dX0_feast_79 : decode cX0_feast 79 = .ok (.getfield 45, 3) := dk_180 0 45 (dk_at dksX0_feast_3 8 rfl rfl)
theorem dX0_feast_82 : decode cX0_feast 82 = .ok (.getfield 61, 3) := dk_180 0 61 (dk_at dksX0_feast_3 11 rfl rfl)
theorem dX0_feast_85 : decode cX0_feast 85 = .ok (.aload_n 0, 1) := dk_42 (dk_at dksX0_feast_3 14 rfl rfl)
theorem dX0_feast_86 : decode cX0_feast 86 = .ok (.iload_n 3, 1) := dk_29 (dk_at dksX0_feast_3 15 rfl rfl)
theorem dX0_feast_87 : decode cX0_feast 87 = .ok (.invokevirtual 262, 3) := dk_182 1 6 (dk_at dksX0_feast_3 16 rfl rfl)
theorem dX0_feast_90 : decode cX0_feast 90 = .ok (.iaload, 1) := dk_46 (dk_at dksX0_feast_3 19 rfl rfl)
theorem dX0_feast_91 : decode cX0_feast 91 = .ok (.istore 5, 2) := dk_54 5 (dk_at dksX0_feast_3 20 rfl rfl)
theorem dX0_feast_93 : decode cX0_feast 93 = .ok (.aload_n 2, 1) := dk_44 (dk_at dksX0_feast_3 22 rfl rfl)
theorem dX0_feast_94 : decode cX0_feast 94 = .ok (.iload 4, 2) := dk_21 4 (dk_at dksX0_feast_4 0 rfl rfl)
theorem dX0_feast_96 : decode cX0_feast 96 = .ok (.dup2, 1) := dk_92 (dk_at dksX0_feast_4 2 rfl rfl)
theorem dX0_feast_97 : decode cX0_feast 97 = .ok (.iaload, 1) := dk_46 (dk_at dksX0_feast_4 3 rfl rfl)
theorem dX0_feast_98 : decode cX0_feast 98 = .ok (.iload 5, 2) := dk_21 5 (dk_at dksX0_feast_4 4 rfl rfl)
theorem dX0_feast_100 : decode cX0_feast 100 = .ok (.iconst (-1), 1) := dk_2 (dk_at dksX0_feast_4 6 rfl rfl)
theorem dX0_feast_101 : decode cX0_feast 101 = .ok (.if_icmp .ne 7, 3) := dk_160 0 7 (dk_at dksX0_feast_4 7 rfl rfl)
theorem dX0_feast_104 : decode cX0_feast 104 = .ok (.iconst 0, 1) := dk_3 (dk_at dksX0_feast_4 10 rfl rfl)
theorem dX0_feast_105 : decode cX0_feast 105 = .ok (.goto 13, 3) := dk_167 0 13 (dk_at dksX0_feast_4 11 rfl rfl)
theorem dX0_feast_108 : decode cX0_feast 108 = .ok (.aload_n 0, 1) := dk_42 (dk_at dksX0_feast_4 14 rfl rfl)
theorem dX0_feast_109 : decode cX0_feast 109 = .ok (.getfield 45, 3) := dk_180 0 45 (dk_at dksX0_feast_4 15 rfl rfl)
theorem dX0_feast_112 : decode cX0_feast 112 = .ok (.getfield 49, 3) := dk_180 0 49 (dk_at dksX0_feast_4 18 rfl rfl)
theorem dX0_feast_115 : decode cX0_feast 115 = .ok (.iload 5, 2) := dk_21 5 (dk_at dksX0_feast_4 21 rfl rfl)
theorem dX0_feast_117 : decode cX0_feast 117 = .ok (.iaload, 1) := dk_46 (dk_at dksX0_feast_4 23 rfl rfl)
theorem dX0_feast_118 : decode cX0_feast 118 = .ok (.ior, 1) := dk_128 (dk_at dksX0_feast_5 0 rfl rfl)
theorem dX0_feast_119 : decode cX0_feast 119 = .ok (.iastore, 1) := dk_79 (dk_at dksX0_feast_5 1 rfl rfl)
theorem dX0_feast_120 : decode cX0_feast 120 = .ok (.iload_n 1, 1) := dk_27 (dk_at dksX0_feast_5 2 rfl rfl)
theorem dX0_feast_121 : decode cX0_feast 121 = .ok (.iload 4, 2) := dk_21 4 (dk_at dksX0_feast_5 3 rfl rfl)
theorem dX0_feast_123 : decode cX0_feast 123 = .ok (.invokestatic 142, 3) := dk_184 0 142 (dk_at dksX0_feast_5 5 rfl rfl)
theorem dX0_feast_126 : decode cX0_feast 126 = .ok (.ifCond .ne 57, 3) := dk_154 0 57 (dk_at dksX0_feast_5 8 rfl rfl)
theorem dX0_feast_129 : decode cX0_feast 129 = .ok (.aload_n 0, 1) := dk_42 (dk_at dksX0_feast_5 11 rfl rfl)
theorem dX0_feast_130 : decode cX0_feast 130 = .ok (.getfield 45, 3) := dk_180 0 45 (dk_at dksX0_feast_5 12 rfl rfl)
theorem dX0_feast_133 : decode cX0_feast 133 = .ok (.getfield 68, 3) := dk_180 0 68 (dk_at dksX0_feast_5 15 rfl rfl)
theorem dX0_feast_136 : decode cX0_feast 136 = .ok (.iload 4, 2) := dk_21 4 (dk_at dksX0_feast_5 18 rfl rfl)
theorem dX0_feast_138 : decode cX0_feast 138 = .ok (.aload_n 0, 1) := dk_42 (dk_at dksX0_feast_5 20 rfl rfl)
theorem dX0_feast_139 : decode cX0_feast 139 = .ok (.iload_n 3, 1) := dk_29 (dk_at dksX0_feast_5 21 rfl rfl)
theorem dX0_feast_140 : decode cX0_feast 140 = .ok (.invokevirtual 275, 3) := dk_182 1 19 (dk_at dksX0_feast_6 0 rfl rfl)
theorem dX0_feast_143 : decode cX0_feast 143 = .ok (.ifCond .eq 22, 3) := dk_153 0 22 (dk_at dksX0_feast_6 3 rfl rfl)
theorem dX0_feast_146 : decode cX0_feast 146 = .ok (.iconst 0, 1) := dk_3 (dk_at dksX0_feast_6 6 rfl rfl)
theorem dX0_feast_147 : decode cX0_feast 147 = .ok (.aload_n 0, 1) := dk_42 (dk_at dksX0_feast_6 7 rfl rfl)
theorem dX0_feast_148 : decode cX0_feast 148 = .ok (.getfield 45, 3) := dk_180 0 45 (dk_at dksX0_feast_6 8 rfl rfl)
theorem dX0_feast_151 : decode cX0_feast 151 = .ok (.getfield 68, 3) := dk_180 0 68 (dk_at dksX0_feast_6 11 rfl rfl)
theorem dX0_feast_154 : decode cX0_feast 154 = .ok (.iload 4, 2) := dk_21 4 (dk_at dksX0_feast_6 14 rfl rfl)
theorem dX0_feast_156 : decode cX0_feast 156 = .ok (.iaload, 1) := dk_46 (dk_at dksX0_feast_6 16 rfl rfl)
theorem dX0_feast_157 : decode cX0_feast 157 = .ok (.iconst 1, 1) := dk_4 (dk_at dksX0_feast_6 17 rfl rfl)
theorem dX0_feast_158 : decode cX0_feast 158 = .ok (.isub, 1) := dk_100 (dk_at dksX0_feast_6 18 rfl rfl)
theorem dX0_feast_159 : decode cX0_feast 159 = .ok (.invokestatic 278, 3) := dk_184 1 22 (dk_at dksX0_feast_6 19 rfl rfl)
theorem dX0_feast_162 : decode cX0_feast 162 = .ok (.goto 20, 3) := dk_167 0 20 (dk_at dksX0_feast_7 0 rfl rfl)
theorem dX0_feast_165 : decode cX0_feast 165 = .ok (.bipush 9, 2) := dk_16 9 (dk_at dksX0_feast_7 3 rfl rfl)
theorem dX0_feast_167 : decode cX0_feast 167 = .ok (.aload_n 0, 1) := dk_42 (dk_at dksX0_feast_7 5 rfl rfl)
theorem dX0_feast_168 : decode cX0_feast 168 = .ok (.getfield 45, 3) := dk_180 0 45 (dk_at dksX0_feast_7 6 rfl rfl)
theorem dX0_feast_171 : decode cX0_feast 171 = .ok (.getfield 68, 3) := dk_180 0 68 (dk_at dksX0_feast_7 9 rfl rfl)
theorem dX0_feast_174 : decode cX0_feast 174 = .ok (.iload 4, 2) := dk_21 4 (dk_at dksX0_feast_7 12 rfl rfl)
theorem dX0_feast_176 : decode cX0_feast 176 = .ok (.iaload, 1) := dk_46 (dk_at dksX0_feast_7 14 rfl rfl)
theorem dX0_feast_177 : decode cX0_feast 177 = .ok (.iconst 1, 1) := dk_4 (dk_at dksX0_feast_7 15 rfl rfl)
theorem dX0_feast_178 : decode cX0_feast 178 = .ok (.iadd, 1) := dk_96 (dk_at dksX0_feast_7 16 rfl rfl)
theorem dX0_feast_179 : decode cX0_feast 179 = .ok (.invokestatic 284, 3) := dk_184 1 28 (dk_at dksX0_feast_7 17 rfl rfl)
theorem dX0_feast_182 : decode cX0_feast 182 = .ok (.iastore, 1) := dk_79 (dk_at dksX0_feast_7 20 rfl rfl)
theorem dX0_feast_183 : decode cX0_feast 183 = .ok (.iinc 3 1, 3) := dk_132 3 1 (dk_at dksX0_feast_7 21 rfl rfl)
theorem dX0_feast_186 : decode cX0_feast 186 = .ok (.goto (-136), 3) := dk_167 255 120 (dk_at dksX0_feast_8 0 rfl rfl)
theorem dX0_feast_189 : decode cX0_feast 189 = .ok (.aload_n 2, 1) := dk_44 (dk_at dksX0_feast_8 3 rfl rfl)
theorem dX0_feast_190 : decode cX0_feast 190 = .ok (.iconst 0, 1) := dk_3 (dk_at dksX0_feast_8 4 rfl rfl)
theorem dX0_feast_191 : decode cX0_feast 191 = .ok (.aload_n 0, 1) := dk_42 (dk_at dksX0_feast_8 5 rfl rfl)
theorem dX0_feast_192 : decode cX0_feast 192 = .ok (.getfield 45, 3) := dk_180 0 45 (dk_at dksX0_feast_8 6 rfl rfl)
theorem dX0_feast_195 : decode cX0_feast 195 = .ok (.getfield 49, 3) := dk_180 0 49 (dk_at dksX0_feast_8 9 rfl rfl)
theorem dX0_feast_198 : decode cX0_feast 198 = .ok (.iconst 0, 1) := dk_3 (dk_at dksX0_feast_8 12 rfl rfl)
theorem dX0_feast_199 : decode cX0_feast 199 = .ok (.bipush 6, 2) := dk_16 6 (dk_at dksX0_feast_8 13 rfl rfl)
theorem dX0_feast_201 : decode cX0_feast 201 = .ok (.invokestatic 96, 3) := dk_184 0 96 (dk_at dksX0_feast_8 15 rfl rfl)
theorem dX0_feast_204 : decode cX0_feast 204 = .ok (.aload_n 0, 1) := dk_42 (dk_at dksX0_feast_8 18 rfl rfl)
theorem dX0_feast_205 : decode cX0_feast 205 = .ok (.getfield 45, 3) := dk_180 0 45 (dk_at dksX0_feast_8 19 rfl rfl)
theorem dX0_feast_208 : decode cX0_feast 208 = .ok (.dup, 1) := dk_89 (dk_at dksX0_feast_8 22 rfl rfl)
theorem dX0_feast_209 : decode cX0_feast 209 = .ok (.getfield 77, 3) := dk_180 0 77 (dk_at dksX0_feast_9 0 rfl rfl)
theorem dX0_feast_212 : decode cX0_feast 212 = .ok (.iload_n 1, 1) := dk_27 (dk_at dksX0_feast_9 3 rfl rfl)
theorem dX0_feast_213 : decode cX0_feast 213 = .ok (.iconst (-1), 1) := dk_2 (dk_at dksX0_feast_9 4 rfl rfl)
theorem dX0_feast_214 : decode cX0_feast 214 = .ok (.ixor, 1) := dk_130 (dk_at dksX0_feast_9 5 rfl rfl)
theorem dX0_feast_215 : decode cX0_feast 215 = .ok (.iand, 1) := dk_126 (dk_at dksX0_feast_9 6 rfl rfl)
theorem dX0_feast_216 : decode cX0_feast 216 = .ok (.putfield 77, 3) := dk_181 0 77 (dk_at dksX0_feast_9 7 rfl rfl)
theorem dX0_feast_219 : decode cX0_feast 219 = .ok (.aload_n 0, 1) := dk_42 (dk_at dksX0_feast_9 10 rfl rfl)
theorem dX0_feast_220 : decode cX0_feast 220 = .ok (.getfield 45, 3) := dk_180 0 45 (dk_at dksX0_feast_9 11 rfl rfl)
theorem dX0_feast_223 : decode cX0_feast 223 = .ok (.getfield 61, 3) := dk_180 0 61 (dk_at dksX0_feast_9 14 rfl rfl)
theorem dX0_feast_226 : decode cX0_feast 226 = .ok (.iconst (-1), 1) := dk_2 (dk_at dksX0_feast_9 17 rfl rfl)
theorem dX0_feast_227 : decode cX0_feast 227 = .ok (.invokestatic 55, 3) := dk_184 0 55 (dk_at dksX0_feast_9 18 rfl rfl)
theorem dX0_feast_230 : decode cX0_feast 230 = .ok (.aload_n 0, 1) := dk_42 (dk_at dksX0_feast_9 21 rfl rfl)
theorem dX0_feast_231 : decode cX0_feast 231 = .ok (.getfield 45, 3) := dk_180 0 45 (dk_at dksX0_feast_10 0 rfl rfl)
theorem dX0_feast_234 : decode cX0_feast 234 = .ok (.dup, 1) := dk_89 (dk_at dksX0_feast_10 3 rfl rfl)
theorem dX0_feast_235 : decode cX0_feast 235 = .ok (.getfield 80, 3) := dk_180 0 80 (dk_at dksX0_feast_10 4 rfl rfl)
theorem dX0_feast_238 : decode cX0_feast 238 = .ok (.iconst 1, 1) := dk_4 (dk_at dksX0_feast_10 7 rfl rfl)
theorem dX0_feast_239 : decode cX0_feast 239 = .ok (.iadd, 1) := dk_96 (dk_at dksX0_feast_10 8 rfl rfl)
theorem dX0_feast_240 : decode cX0_feast 240 = .ok (.putfield 80, 3) := dk_181 0 80 (dk_at dksX0_feast_10 9 rfl rfl)
theorem dX0_feast_243 : decode cX0_feast 243 = .ok (.iload_n 1, 1) := dk_27 (dk_at dksX0_feast_10 12 rfl rfl)
theorem dX0_feast_244 : decode cX0_feast 244 = .ok (.ireturn, 1) := dk_172 (dk_at dksX0_feast_10 13 rfl rfl)
abbrev cX0_wrongNow : ByteArray := prog_1_method_34_code
def yX0_wrongNow : MethodName := ⟨RX0, "wrongNow", "()I"⟩
def dkwX0_wrongNow_2 : List UInt8 := [180, 0, 45, 180, 0, 61, 28, 46, 120, 167, 0, 4, 3, 128, 60, 132, 2, 1, 167, 255, 197, 27, 172]
abbrev dktX0_wrongNow_2 : List UInt8 := dkwX0_wrongNow_2 ++ []
def dkwX0_wrongNow_1 : List UInt8 := [159, 0, 34, 42, 42, 180, 0, 45, 180, 0, 61, 28, 46, 28, 182, 1, 3, 153, 0, 17, 4, 42]
abbrev dktX0_wrongNow_1 : List UInt8 := dkwX0_wrongNow_1 ++ dktX0_wrongNow_2
def dkwX0_wrongNow_0 : List UInt8 := [3, 60, 3, 61, 28, 42, 180, 0, 115, 162, 0, 57, 27, 42, 180, 0, 45, 180, 0, 61, 28, 46, 2]
abbrev dktX0_wrongNow_0 : List UInt8 := dkwX0_wrongNow_0 ++ dktX0_wrongNow_1
theorem dksX0_wrongNow_0 : cX0_wrongNow.data.toList.drop 0 = dktX0_wrongNow_0 := by decide +kernel
theorem dksX0_wrongNow_1 : cX0_wrongNow.data.toList.drop 23 = dktX0_wrongNow_1 := dk_seg dksX0_wrongNow_0 23 rfl rfl
theorem dksX0_wrongNow_2 : cX0_wrongNow.data.toList.drop 45 = dktX0_wrongNow_2 := dk_seg dksX0_wrongNow_1 22 rfl rfl
theorem dX0_wrongNow_0 : decode cX0_wrongNow 0 = .ok (.iconst 0, 1) := dk_3 (dk_at dksX0_wrongNow_0 0 rfl rfl)
theorem dX0_wrongNow_1 : decode cX0_wrongNow 1 = .ok (.istore_n 1, 1) := dk_60 (dk_at dksX0_wrongNow_0 1 rfl rfl)
theorem dX0_wrongNow_2 : decode cX0_wrongNow 2 = .ok (.iconst 0, 1) := dk_3 (dk_at dksX0_wrongNow_0 2 rfl rfl)
theorem dX0_wrongNow_3 : decode cX0_wrongNow 3 = .ok (.istore_n 2, 1) := dk_61 (dk_at dksX0_wrongNow_0 3 rfl rfl)
theorem dX0_wrongNow_4 : decode cX0_wrongNow 4 = .ok (.iload_n 2, 1) := dk_28 (dk_at dksX0_wrongNow_0 4 rfl rfl)
theorem dX0_wrongNow_5 : decode cX0_wrongNow 5 = .ok (.aload_n 0, 1) := dk_42 (dk_at dksX0_wrongNow_0 5 rfl rfl)
theorem dX0_wrongNow_6 : decode cX0_wrongNow 6 = .ok (.getfield 115, 3) := dk_180 0 115 (dk_at dksX0_wrongNow_0 6 rfl rfl)
theorem dX0_wrongNow_9 : decode cX0_wrongNow 9 = .ok (.if_icmp .ge 57, 3) := dk_162 0 57 (dk_at dksX0_wrongNow_0 9 rfl rfl)
theorem dX0_wrongNow_12 : decode cX0_wrongNow 12 = .ok (.iload_n 1, 1) := dk_27 (dk_at dksX0_wrongNow_0 12 rfl rfl)
theorem dX0_wrongNow_13 : decode cX0_wrongNow 13 = .ok (.aload_n 0, 1) := dk_42 (dk_at dksX0_wrongNow_0 13 rfl rfl)
theorem dX0_wrongNow_14 : decode cX0_wrongNow 14 = .ok (.getfield 45, 3) := dk_180 0 45 (dk_at dksX0_wrongNow_0 14 rfl rfl)
theorem dX0_wrongNow_17 : decode cX0_wrongNow 17 = .ok (.getfield 61, 3) := dk_180 0 61 (dk_at dksX0_wrongNow_0 17 rfl rfl)
theorem dX0_wrongNow_20 : decode cX0_wrongNow 20 = .ok (.iload_n 2, 1) := dk_28 (dk_at dksX0_wrongNow_0 20 rfl rfl)
theorem dX0_wrongNow_21 : decode cX0_wrongNow 21 = .ok (.iaload, 1) := dk_46 (dk_at dksX0_wrongNow_0 21 rfl rfl)
theorem dX0_wrongNow_22 : decode cX0_wrongNow 22 = .ok (.iconst (-1), 1) := dk_2 (dk_at dksX0_wrongNow_0 22 rfl rfl)
theorem dX0_wrongNow_23 : decode cX0_wrongNow 23 = .ok (.if_icmp .eq 34, 3) := dk_159 0 34 (dk_at dksX0_wrongNow_1 0 rfl rfl)
theorem dX0_wrongNow_26 : decode cX0_wrongNow 26 = .ok (.aload_n 0, 1) := dk_42 (dk_at dksX0_wrongNow_1 3 rfl rfl)
theorem dX0_wrongNow_27 : decode cX0_wrongNow 27 = .ok (.aload_n 0, 1) := dk_42 (dk_at dksX0_wrongNow_1 4 rfl rfl)
theorem dX0_wrongNow_28 : decode cX0_wrongNow 28 = .ok (.getfield 45, 3) := dk_180 0 45 (dk_at dksX0_wrongNow_1 5 rfl rfl)
theorem dX0_wrongNow_31 : decode cX0_wrongNow 31 = .ok (.getfield 61, 3) := dk_180 0 61 (dk_at dksX0_wrongNow_1 8 rfl rfl)
theorem dX0_wrongNow_34 : decode cX0_wrongNow 34 = .ok (.iload_n 2, 1) := dk_28 (dk_at dksX0_wrongNow_1 11 rfl rfl)
theorem dX0_wrongNow_35 : decode cX0_wrongNow 35 = .ok (.iaload, 1) := dk_46 (dk_at dksX0_wrongNow_1 12 rfl rfl)
theorem dX0_wrongNow_36 : decode cX0_wrongNow 36 = .ok (.iload_n 2, 1) := dk_28 (dk_at dksX0_wrongNow_1 13 rfl rfl)
theorem dX0_wrongNow_37 : decode cX0_wrongNow 37 = .ok (.invokevirtual 259, 3) := dk_182 1 3 (dk_at dksX0_wrongNow_1 14 rfl rfl)
theorem dX0_wrongNow_40 : decode cX0_wrongNow 40 = .ok (.ifCond .eq 17, 3) := dk_153 0 17 (dk_at dksX0_wrongNow_1 17 rfl rfl)
theorem dX0_wrongNow_43 : decode cX0_wrongNow 43 = .ok (.iconst 1, 1) := dk_4 (dk_at dksX0_wrongNow_1 20 rfl rfl)
theorem dX0_wrongNow_44 : decode cX0_wrongNow 44 = .ok (.aload_n 0, 1) := dk_42 (dk_at dksX0_wrongNow_1 21 rfl rfl)
theorem dX0_wrongNow_45 : decode cX0_wrongNow 45 = .ok (.getfield 45, 3) := dk_180 0 45 (dk_at dksX0_wrongNow_2 0 rfl rfl)
theorem dX0_wrongNow_48 : decode cX0_wrongNow 48 = .ok (.getfield 61, 3) := dk_180 0 61 (dk_at dksX0_wrongNow_2 3 rfl rfl)
theorem dX0_wrongNow_51 : decode cX0_wrongNow 51 = .ok (.iload_n 2, 1) := dk_28 (dk_at dksX0_wrongNow_2 6 rfl rfl)
theorem dX0_wrongNow_52 : decode cX0_wrongNow 52 = .ok (.iaload, 1) := dk_46 (dk_at dksX0_wrongNow_2 7 rfl rfl)
theorem dX0_wrongNow_53 : decode cX0_wrongNow 53 = .ok (.ishl, 1) := dk_120 (dk_at dksX0_wrongNow_2 8 rfl rfl)
theorem dX0_wrongNow_54 : decode cX0_wrongNow 54 = .ok (.goto 4, 3) := dk_167 0 4 (dk_at dksX0_wrongNow_2 9 rfl rfl)
theorem dX0_wrongNow_57 : decode cX0_wrongNow 57 = .ok (.iconst 0, 1) := dk_3 (dk_at dksX0_wrongNow_2 12 rfl rfl)
theorem dX0_wrongNow_58 : decode cX0_wrongNow 58 = .ok (.ior, 1) := dk_128 (dk_at dksX0_wrongNow_2 13 rfl rfl)
theorem dX0_wrongNow_59 : decode cX0_wrongNow 59 = .ok (.istore_n 1, 1) := dk_60 (dk_at dksX0_wrongNow_2 14 rfl rfl)
theorem dX0_wrongNow_60 : decode cX0_wrongNow 60 = .ok (.iinc 2 1, 3) := dk_132 2 1 (dk_at dksX0_wrongNow_2 15 rfl rfl)
theorem dX0_wrongNow_63 : decode cX0_wrongNow 63 = .ok (.goto (-59), 3) := dk_167 255 197 (dk_at dksX0_wrongNow_2 18 rfl rfl)
theorem dX0_wrongNow_66 : decode cX0_wrongNow 66 = .ok (.iload_n 1, 1) := dk_27 (dk_at dksX0_wrongNow_2 21 rfl rfl)
theorem dX0_wrongNow_67 : decode cX0_wrongNow 67 = .ok (.ireturn, 1) := dk_172 (dk_at dksX0_wrongNow_2 22 rfl rfl)
abbrev cX0_isWrong : ByteArray := prog_1_method_13_code
def yX0_isWrong : MethodName := ⟨RX0, "isWrong", "(II)Z"⟩
def dkwX0_isWrong_1 : List UInt8 := [159, 0, 18, 42, 27, 182, 0, 71, 182, 0, 135, 154, 0, 7, 4, 167, 0, 4, 3, 172]
abbrev dktX0_isWrong_1 : List UInt8 := dkwX0_isWrong_1 ++ []
def dkwX0_isWrong_0 : List UInt8 := [42, 27, 28, 182, 0, 124, 153, 0, 30, 42, 182, 0, 128, 28, 160, 0, 26, 42, 180, 0, 132, 27]
abbrev dktX0_isWrong_0 : List UInt8 := dkwX0_isWrong_0 ++ dktX0_isWrong_1
theorem dksX0_isWrong_0 : cX0_isWrong.data.toList.drop 0 = dktX0_isWrong_0 := by decide +kernel
theorem dksX0_isWrong_1 : cX0_isWrong.data.toList.drop 22 = dktX0_isWrong_1 := dk_seg dksX0_isWrong_0 22 rfl rfl
theorem dX0_isWrong_0 : decode cX0_isWrong 0 = .ok (.aload_n 0, 1) := dk_42 (dk_at dksX0_isWrong_0 0 rfl rfl)
theorem dX0_isWrong_1 : decode cX0_isWrong 1 = .ok (.iload_n 1, 1) := dk_27 (dk_at dksX0_isWrong_0 1 rfl rfl)
theorem dX0_isWrong_2 : decode cX0_isWrong 2 = .ok (.iload_n 2, 1) := dk_28 (dk_at dksX0_isWrong_0 2 rfl rfl)
theorem dX0_isWrong_3 : decode cX0_isWrong 3 = .ok (.invokevirtual 124, 3) := dk_182 0 124 (dk_at dksX0_isWrong_0 3 rfl rfl)
theorem dX0_isWrong_6 : decode cX0_isWrong 6 = .ok (.ifCond .eq 30, 3) := dk_153 0 30 (dk_at dksX0_isWrong_0 6 rfl rfl)
theorem dX0_isWrong_9 : decode cX0_isWrong 9 = .ok (.aload_n 0, 1) := dk_42 (dk_at dksX0_isWrong_0 9 rfl rfl)
theorem dX0_isWrong_10 : decode cX0_isWrong 10 = .ok (.invokevirtual 128, 3) := dk_182 0 128 (dk_at dksX0_isWrong_0 10 rfl rfl)
theorem dX0_isWrong_13 : decode cX0_isWrong 13 = .ok (.iload_n 2, 1) := dk_28 (dk_at dksX0_isWrong_0 13 rfl rfl)
theorem dX0_isWrong_14 : decode cX0_isWrong 14 = .ok (.if_icmp .ne 26, 3) := dk_160 0 26 (dk_at dksX0_isWrong_0 14 rfl rfl)
theorem dX0_isWrong_17 : decode cX0_isWrong 17 = .ok (.aload_n 0, 1) := dk_42 (dk_at dksX0_isWrong_0 17 rfl rfl)
theorem dX0_isWrong_18 : decode cX0_isWrong 18 = .ok (.getfield 132, 3) := dk_180 0 132 (dk_at dksX0_isWrong_0 18 rfl rfl)
theorem dX0_isWrong_21 : decode cX0_isWrong 21 = .ok (.iload_n 1, 1) := dk_27 (dk_at dksX0_isWrong_0 21 rfl rfl)
theorem dX0_isWrong_22 : decode cX0_isWrong 22 = .ok (.if_icmp .eq 18, 3) := dk_159 0 18 (dk_at dksX0_isWrong_1 0 rfl rfl)
theorem dX0_isWrong_25 : decode cX0_isWrong 25 = .ok (.aload_n 0, 1) := dk_42 (dk_at dksX0_isWrong_1 3 rfl rfl)
theorem dX0_isWrong_26 : decode cX0_isWrong 26 = .ok (.iload_n 1, 1) := dk_27 (dk_at dksX0_isWrong_1 4 rfl rfl)
theorem dX0_isWrong_27 : decode cX0_isWrong 27 = .ok (.invokevirtual 71, 3) := dk_182 0 71 (dk_at dksX0_isWrong_1 5 rfl rfl)
theorem dX0_isWrong_30 : decode cX0_isWrong 30 = .ok (.invokevirtual 135, 3) := dk_182 0 135 (dk_at dksX0_isWrong_1 8 rfl rfl)
theorem dX0_isWrong_33 : decode cX0_isWrong 33 = .ok (.ifCond .ne 7, 3) := dk_154 0 7 (dk_at dksX0_isWrong_1 11 rfl rfl)
theorem dX0_isWrong_36 : decode cX0_isWrong 36 = .ok (.iconst 1, 1) := dk_4 (dk_at dksX0_isWrong_1 14 rfl rfl)
theorem dX0_isWrong_37 : decode cX0_isWrong 37 = .ok (.goto 4, 3) := dk_167 0 4 (dk_at dksX0_isWrong_1 15 rfl rfl)
theorem dX0_isWrong_40 : decode cX0_isWrong 40 = .ok (.iconst 0, 1) := dk_3 (dk_at dksX0_isWrong_1 18 rfl rfl)
theorem dX0_isWrong_41 : decode cX0_isWrong 41 = .ok (.ireturn, 1) := dk_172 (dk_at dksX0_isWrong_1 19 rfl rfl)
abbrev cX0_fits : ByteArray := prog_1_method_11_code
def yX0_fits : MethodName := ⟨RX0, "fits", "(II)Z"⟩
def dkwX0_fits_0 : List UInt8 := [42, 27, 182, 0, 71, 42, 28, 182, 0, 107, 42, 180, 0, 45, 180, 0, 68, 27, 46, 182, 0, 111, 172]
abbrev dktX0_fits_0 : List UInt8 := dkwX0_fits_0 ++ []
theorem dksX0_fits_0 : cX0_fits.data.toList.drop 0 = dktX0_fits_0 := by decide +kernel
theorem dX0_fits_0 : decode cX0_fits 0 = .ok (.aload_n 0, 1) := dk_42 (dk_at dksX0_fits_0 0 rfl rfl)
theorem dX0_fits_1 : decode cX0_fits 1 = .ok (.iload_n 1, 1) := dk_27 (dk_at dksX0_fits_0 1 rfl rfl)
theorem dX0_fits_2 : decode cX0_fits 2 = .ok (.invokevirtual 71, 3) := dk_182 0 71 (dk_at dksX0_fits_0 2 rfl rfl)
theorem dX0_fits_5 : decode cX0_fits 5 = .ok (.aload_n 0, 1) := dk_42 (dk_at dksX0_fits_0 5 rfl rfl)
theorem dX0_fits_6 : decode cX0_fits 6 = .ok (.iload_n 2, 1) := dk_28 (dk_at dksX0_fits_0 6 rfl rfl)
theorem dX0_fits_7 : decode cX0_fits 7 = .ok (.invokevirtual 107, 3) := dk_182 0 107 (dk_at dksX0_fits_0 7 rfl rfl)
theorem dX0_fits_10 : decode cX0_fits 10 = .ok (.aload_n 0, 1) := dk_42 (dk_at dksX0_fits_0 10 rfl rfl)
theorem dX0_fits_11 : decode cX0_fits 11 = .ok (.getfield 45, 3) := dk_180 0 45 (dk_at dksX0_fits_0 11 rfl rfl)
theorem dX0_fits_14 : decode cX0_fits 14 = .ok (.getfield 68, 3) := dk_180 0 68 (dk_at dksX0_fits_0 14 rfl rfl)
theorem dX0_fits_17 : decode cX0_fits 17 = .ok (.iload_n 1, 1) := dk_27 (dk_at dksX0_fits_0 17 rfl rfl)
theorem dX0_fits_18 : decode cX0_fits 18 = .ok (.iaload, 1) := dk_46 (dk_at dksX0_fits_0 18 rfl rfl)
theorem dX0_fits_19 : decode cX0_fits 19 = .ok (.invokevirtual 111, 3) := dk_182 0 111 (dk_at dksX0_fits_0 19 rfl rfl)
theorem dX0_fits_22 : decode cX0_fits 22 = .ok (.ireturn, 1) := dk_172 (dk_at dksX0_fits_0 22 rfl rfl)
abbrev cX0_behind : ByteArray := prog_1_method_14_code
def yX0_behind : MethodName := ⟨RX0, "behind", "(I)I"⟩
def dkwX0_behind_0 : List UInt8 := [27, 4, 96, 42, 180, 0, 115, 112, 172]
abbrev dktX0_behind_0 : List UInt8 := dkwX0_behind_0 ++ []
theorem dksX0_behind_0 : cX0_behind.data.toList.drop 0 = dktX0_behind_0 := by decide +kernel
theorem dX0_behind_0 : decode cX0_behind 0 = .ok (.iload_n 1, 1) := dk_27 (dk_at dksX0_behind_0 0 rfl rfl)
theorem dX0_behind_1 : decode cX0_behind 1 = .ok (.iconst 1, 1) := dk_4 (dk_at dksX0_behind_0 1 rfl rfl)
theorem dX0_behind_2 : decode cX0_behind 2 = .ok (.iadd, 1) := dk_96 (dk_at dksX0_behind_0 2 rfl rfl)
theorem dX0_behind_3 : decode cX0_behind 3 = .ok (.aload_n 0, 1) := dk_42 (dk_at dksX0_behind_0 3 rfl rfl)
theorem dX0_behind_4 : decode cX0_behind 4 = .ok (.getfield 115, 3) := dk_180 0 115 (dk_at dksX0_behind_0 4 rfl rfl)
theorem dX0_behind_7 : decode cX0_behind 7 = .ok (.irem, 1) := dk_112 (dk_at dksX0_behind_0 7 rfl rfl)
theorem dX0_behind_8 : decode cX0_behind 8 = .ok (.ireturn, 1) := dk_172 (dk_at dksX0_behind_0 8 rfl rfl)
abbrev cX0_isBeset : ByteArray := prog_1_method_35_code
def yX0_isBeset : MethodName := ⟨RX0, "isBeset", "(I)Z"⟩
def dkwX0_isBeset_2 : List UInt8 := [42, 180, 0, 115, 112, 46, 182, 1, 9, 153, 0, 7, 4, 167, 0, 4, 3, 172]
abbrev dktX0_isBeset_2 : List UInt8 := dkwX0_isBeset_2 ++ []
def dkwX0_isBeset_1 : List UInt8 := [46, 182, 1, 9, 154, 0, 32, 42, 28, 42, 180, 0, 45, 180, 0, 61, 27, 42, 180, 0, 115, 96, 4, 100]
abbrev dktX0_isBeset_1 : List UInt8 := dkwX0_isBeset_1 ++ dktX0_isBeset_2
def dkwX0_isBeset_0 : List UInt8 := [42, 180, 0, 45, 180, 0, 61, 27, 46, 61, 42, 28, 42, 180, 0, 45, 180, 0, 61, 42, 27, 182, 1, 6]
abbrev dktX0_isBeset_0 : List UInt8 := dkwX0_isBeset_0 ++ dktX0_isBeset_1
theorem dksX0_isBeset_0 : cX0_isBeset.data.toList.drop 0 = dktX0_isBeset_0 := by decide +kernel
theorem dksX0_isBeset_1 : cX0_isBeset.data.toList.drop 24 = dktX0_isBeset_1 := dk_seg dksX0_isBeset_0 24 rfl rfl
theorem dksX0_isBeset_2 : cX0_isBeset.data.toList.drop 48 = dktX0_isBeset_2 := dk_seg dksX0_isBeset_1 24 rfl rfl
theorem dX0_isBeset_0 : decode cX0_isBeset 0 = .ok (.aload_n 0, 1) := dk_42 (dk_at dksX0_isBeset_0 0 rfl rfl)
theorem dX0_isBeset_1 : decode cX0_isBeset 1 = .ok (.getfield 45, 3) := dk_180 0 45 (dk_at dksX0_isBeset_0 1 rfl rfl)
theorem dX0_isBeset_4 : decode cX0_isBeset 4 = .ok (.getfield 61, 3) := dk_180 0 61 (dk_at dksX0_isBeset_0 4 rfl rfl)
theorem dX0_isBeset_7 : decode cX0_isBeset 7 = .ok (.iload_n 1, 1) := dk_27 (dk_at dksX0_isBeset_0 7 rfl rfl)
theorem dX0_isBeset_8 : decode cX0_isBeset 8 = .ok (.iaload, 1) := dk_46 (dk_at dksX0_isBeset_0 8 rfl rfl)
theorem dX0_isBeset_9 : decode cX0_isBeset 9 = .ok (.istore_n 2, 1) := dk_61 (dk_at dksX0_isBeset_0 9 rfl rfl)
theorem dX0_isBeset_10 : decode cX0_isBeset 10 = .ok (.aload_n 0, 1) := dk_42 (dk_at dksX0_isBeset_0 10 rfl rfl)
theorem dX0_isBeset_11 : decode cX0_isBeset 11 = .ok (.iload_n 2, 1) := dk_28 (dk_at dksX0_isBeset_0 11 rfl rfl)
theorem dX0_isBeset_12 : decode cX0_isBeset 12 = .ok (.aload_n 0, 1) := dk_42 (dk_at dksX0_isBeset_0 12 rfl rfl)
theorem dX0_isBeset_13 : decode cX0_isBeset 13 = .ok (.getfield 45, 3) := dk_180 0 45 (dk_at dksX0_isBeset_0 13 rfl rfl)
theorem dX0_isBeset_16 : decode cX0_isBeset 16 = .ok (.getfield 61, 3) := dk_180 0 61 (dk_at dksX0_isBeset_0 16 rfl rfl)
theorem dX0_isBeset_19 : decode cX0_isBeset 19 = .ok (.aload_n 0, 1) := dk_42 (dk_at dksX0_isBeset_0 19 rfl rfl)
theorem dX0_isBeset_20 : decode cX0_isBeset 20 = .ok (.iload_n 1, 1) := dk_27 (dk_at dksX0_isBeset_0 20 rfl rfl)
theorem dX0_isBeset_21 : decode cX0_isBeset 21 = .ok (.invokevirtual 262, 3) := dk_182 1 6 (dk_at dksX0_isBeset_0 21 rfl rfl)
theorem dX0_isBeset_24 : decode cX0_isBeset 24 = .ok (.iaload, 1) := dk_46 (dk_at dksX0_isBeset_1 0 rfl rfl)
theorem dX0_isBeset_25 : decode cX0_isBeset 25 = .ok (.invokevirtual 265, 3) := dk_182 1 9 (dk_at dksX0_isBeset_1 1 rfl rfl)
theorem dX0_isBeset_28 : decode cX0_isBeset 28 = .ok (.ifCond .ne 32, 3) := dk_154 0 32 (dk_at dksX0_isBeset_1 4 rfl rfl)
theorem dX0_isBeset_31 : decode cX0_isBeset 31 = .ok (.aload_n 0, 1) := dk_42 (dk_at dksX0_isBeset_1 7 rfl rfl)
theorem dX0_isBeset_32 : decode cX0_isBeset 32 = .ok (.iload_n 2, 1) := dk_28 (dk_at dksX0_isBeset_1 8 rfl rfl)
theorem dX0_isBeset_33 : decode cX0_isBeset 33 = .ok (.aload_n 0, 1) := dk_42 (dk_at dksX0_isBeset_1 9 rfl rfl)
theorem dX0_isBeset_34 : decode cX0_isBeset 34 = .ok (.getfield 45, 3) := dk_180 0 45 (dk_at dksX0_isBeset_1 10 rfl rfl)
theorem dX0_isBeset_37 : decode cX0_isBeset 37 = .ok (.getfield 61, 3) := dk_180 0 61 (dk_at dksX0_isBeset_1 13 rfl rfl)
theorem dX0_isBeset_40 : decode cX0_isBeset 40 = .ok (.iload_n 1, 1) := dk_27 (dk_at dksX0_isBeset_1 16 rfl rfl)
theorem dX0_isBeset_41 : decode cX0_isBeset 41 = .ok (.aload_n 0, 1) := dk_42 (dk_at dksX0_isBeset_1 17 rfl rfl)
theorem dX0_isBeset_42 : decode cX0_isBeset 42 = .ok (.getfield 115, 3) := dk_180 0 115 (dk_at dksX0_isBeset_1 18 rfl rfl)
theorem dX0_isBeset_45 : decode cX0_isBeset 45 = .ok (.iadd, 1) := dk_96 (dk_at dksX0_isBeset_1 21 rfl rfl)
theorem dX0_isBeset_46 : decode cX0_isBeset 46 = .ok (.iconst 1, 1) := dk_4 (dk_at dksX0_isBeset_1 22 rfl rfl)
theorem dX0_isBeset_47 : decode cX0_isBeset 47 = .ok (.isub, 1) := dk_100 (dk_at dksX0_isBeset_1 23 rfl rfl)
theorem dX0_isBeset_48 : decode cX0_isBeset 48 = .ok (.aload_n 0, 1) := dk_42 (dk_at dksX0_isBeset_2 0 rfl rfl)
theorem dX0_isBeset_49 : decode cX0_isBeset 49 = .ok (.getfield 115, 3) := dk_180 0 115 (dk_at dksX0_isBeset_2 1 rfl rfl)
theorem dX0_isBeset_52 : decode cX0_isBeset 52 = .ok (.irem, 1) := dk_112 (dk_at dksX0_isBeset_2 4 rfl rfl)
theorem dX0_isBeset_53 : decode cX0_isBeset 53 = .ok (.iaload, 1) := dk_46 (dk_at dksX0_isBeset_2 5 rfl rfl)
theorem dX0_isBeset_54 : decode cX0_isBeset 54 = .ok (.invokevirtual 265, 3) := dk_182 1 9 (dk_at dksX0_isBeset_2 6 rfl rfl)
theorem dX0_isBeset_57 : decode cX0_isBeset 57 = .ok (.ifCond .eq 7, 3) := dk_153 0 7 (dk_at dksX0_isBeset_2 9 rfl rfl)
theorem dX0_isBeset_60 : decode cX0_isBeset 60 = .ok (.iconst 1, 1) := dk_4 (dk_at dksX0_isBeset_2 12 rfl rfl)
theorem dX0_isBeset_61 : decode cX0_isBeset 61 = .ok (.goto 4, 3) := dk_167 0 4 (dk_at dksX0_isBeset_2 13 rfl rfl)
theorem dX0_isBeset_64 : decode cX0_isBeset 64 = .ok (.iconst 0, 1) := dk_3 (dk_at dksX0_isBeset_2 16 rfl rfl)
theorem dX0_isBeset_65 : decode cX0_isBeset 65 = .ok (.ireturn, 1) := dk_172 (dk_at dksX0_isBeset_2 17 rfl rfl)
abbrev cX0_areEnemies : ByteArray := prog_1_method_15_code
def yX0_areEnemies : MethodName := ⟨RX0, "areEnemies", "(II)Z"⟩
def dkwX0_areEnemies_1 : List UInt8 := [167, 0, 4, 3, 172]
abbrev dktX0_areEnemies_1 : List UInt8 := dkwX0_areEnemies_1 ++ []
def dkwX0_areEnemies_0 : List UInt8 := [27, 2, 159, 0, 25, 28, 2, 159, 0, 20, 42, 180, 0, 139, 27, 46, 28, 184, 0, 142, 153, 0, 7, 4]
abbrev dktX0_areEnemies_0 : List UInt8 := dkwX0_areEnemies_0 ++ dktX0_areEnemies_1
theorem dksX0_areEnemies_0 : cX0_areEnemies.data.toList.drop 0 = dktX0_areEnemies_0 := by decide +kernel
theorem dksX0_areEnemies_1 : cX0_areEnemies.data.toList.drop 24 = dktX0_areEnemies_1 := dk_seg dksX0_areEnemies_0 24 rfl rfl
theorem dX0_areEnemies_0 : decode cX0_areEnemies 0 = .ok (.iload_n 1, 1) := dk_27 (dk_at dksX0_areEnemies_0 0 rfl rfl)
theorem dX0_areEnemies_1 : decode cX0_areEnemies 1 = .ok (.iconst (-1), 1) := dk_2 (dk_at dksX0_areEnemies_0 1 rfl rfl)
theorem dX0_areEnemies_2 : decode cX0_areEnemies 2 = .ok (.if_icmp .eq 25, 3) := dk_159 0 25 (dk_at dksX0_areEnemies_0 2 rfl rfl)
theorem dX0_areEnemies_5 : decode cX0_areEnemies 5 = .ok (.iload_n 2, 1) := dk_28 (dk_at dksX0_areEnemies_0 5 rfl rfl)
theorem dX0_areEnemies_6 : decode cX0_areEnemies 6 = .ok (.iconst (-1), 1) := dk_2 (dk_at dksX0_areEnemies_0 6 rfl rfl)
theorem dX0_areEnemies_7 : decode cX0_areEnemies 7 = .ok (.if_icmp .eq 20, 3) := dk_159 0 20 (dk_at dksX0_areEnemies_0 7 rfl rfl)
theorem dX0_areEnemies_10 : decode cX0_areEnemies 10 = .ok (.aload_n 0, 1) := dk_42 (dk_at dksX0_areEnemies_0 10 rfl rfl)
theorem dX0_areEnemies_11 : decode cX0_areEnemies 11 = .ok (.getfield 139, 3) := dk_180 0 139 (dk_at dksX0_areEnemies_0 11 rfl rfl)
theorem dX0_areEnemies_14 : decode cX0_areEnemies 14 = .ok (.iload_n 1, 1) := dk_27 (dk_at dksX0_areEnemies_0 14 rfl rfl)
theorem dX0_areEnemies_15 : decode cX0_areEnemies 15 = .ok (.iaload, 1) := dk_46 (dk_at dksX0_areEnemies_0 15 rfl rfl)
theorem dX0_areEnemies_16 : decode cX0_areEnemies 16 = .ok (.iload_n 2, 1) := dk_28 (dk_at dksX0_areEnemies_0 16 rfl rfl)
theorem dX0_areEnemies_17 : decode cX0_areEnemies 17 = .ok (.invokestatic 142, 3) := dk_184 0 142 (dk_at dksX0_areEnemies_0 17 rfl rfl)
theorem dX0_areEnemies_20 : decode cX0_areEnemies 20 = .ok (.ifCond .eq 7, 3) := dk_153 0 7 (dk_at dksX0_areEnemies_0 20 rfl rfl)
theorem dX0_areEnemies_23 : decode cX0_areEnemies 23 = .ok (.iconst 1, 1) := dk_4 (dk_at dksX0_areEnemies_0 23 rfl rfl)
theorem dX0_areEnemies_24 : decode cX0_areEnemies 24 = .ok (.goto 4, 3) := dk_167 0 4 (dk_at dksX0_areEnemies_1 0 rfl rfl)
theorem dX0_areEnemies_27 : decode cX0_areEnemies 27 = .ok (.iconst 0, 1) := dk_3 (dk_at dksX0_areEnemies_1 3 rfl rfl)
theorem dX0_areEnemies_28 : decode cX0_areEnemies 28 = .ok (.ireturn, 1) := dk_172 (dk_at dksX0_areEnemies_1 4 rfl rfl)
abbrev cX0_undo : ByteArray := prog_1_method_37_code
def yX0_undo : MethodName := ⟨RX0, "undo", "()I"⟩
def dkwX0_undo_1 : List UInt8 := [100, 90, 181, 0, 83, 50, 182, 0, 103, 87, 42, 180, 0, 83, 172]
abbrev dktX0_undo_1 : List UInt8 := dkwX0_undo_1 ++ []
def dkwX0_undo_0 : List UInt8 := [42, 180, 0, 83, 154, 0, 6, 16, 252, 172, 42, 180, 0, 45, 42, 180, 0, 93, 42, 89, 180, 0, 83, 4]
abbrev dktX0_undo_0 : List UInt8 := dkwX0_undo_0 ++ dktX0_undo_1
theorem dksX0_undo_0 : cX0_undo.data.toList.drop 0 = dktX0_undo_0 := by decide +kernel
theorem dksX0_undo_1 : cX0_undo.data.toList.drop 24 = dktX0_undo_1 := dk_seg dksX0_undo_0 24 rfl rfl
theorem dX0_undo_0 : decode cX0_undo 0 = .ok (.aload_n 0, 1) := dk_42 (dk_at dksX0_undo_0 0 rfl rfl)
theorem dX0_undo_1 : decode cX0_undo 1 = .ok (.getfield 83, 3) := dk_180 0 83 (dk_at dksX0_undo_0 1 rfl rfl)
theorem dX0_undo_4 : decode cX0_undo 4 = .ok (.ifCond .ne 6, 3) := dk_154 0 6 (dk_at dksX0_undo_0 4 rfl rfl)
theorem dX0_undo_7 : decode cX0_undo 7 = .ok (.bipush (-4), 2) := dk_16 252 (dk_at dksX0_undo_0 7 rfl rfl)
theorem dX0_undo_9 : decode cX0_undo 9 = .ok (.ireturn, 1) := dk_172 (dk_at dksX0_undo_0 9 rfl rfl)
theorem dX0_undo_10 : decode cX0_undo 10 = .ok (.aload_n 0, 1) := dk_42 (dk_at dksX0_undo_0 10 rfl rfl)
theorem dX0_undo_11 : decode cX0_undo 11 = .ok (.getfield 45, 3) := dk_180 0 45 (dk_at dksX0_undo_0 11 rfl rfl)
theorem dX0_undo_14 : decode cX0_undo 14 = .ok (.aload_n 0, 1) := dk_42 (dk_at dksX0_undo_0 14 rfl rfl)
theorem dX0_undo_15 : decode cX0_undo 15 = .ok (.getfield 93, 3) := dk_180 0 93 (dk_at dksX0_undo_0 15 rfl rfl)
theorem dX0_undo_18 : decode cX0_undo 18 = .ok (.aload_n 0, 1) := dk_42 (dk_at dksX0_undo_0 18 rfl rfl)
theorem dX0_undo_19 : decode cX0_undo 19 = .ok (.dup, 1) := dk_89 (dk_at dksX0_undo_0 19 rfl rfl)
theorem dX0_undo_20 : decode cX0_undo 20 = .ok (.getfield 83, 3) := dk_180 0 83 (dk_at dksX0_undo_0 20 rfl rfl)
theorem dX0_undo_23 : decode cX0_undo 23 = .ok (.iconst 1, 1) := dk_4 (dk_at dksX0_undo_0 23 rfl rfl)
theorem dX0_undo_24 : decode cX0_undo 24 = .ok (.isub, 1) := dk_100 (dk_at dksX0_undo_1 0 rfl rfl)
theorem dX0_undo_25 : decode cX0_undo 25 = .ok (.dup_x1, 1) := dk_90 (dk_at dksX0_undo_1 1 rfl rfl)
theorem dX0_undo_26 : decode cX0_undo 26 = .ok (.putfield 83, 3) := dk_181 0 83 (dk_at dksX0_undo_1 2 rfl rfl)
theorem dX0_undo_29 : decode cX0_undo 29 = .ok (.aaload, 1) := dk_50 (dk_at dksX0_undo_1 5 rfl rfl)
theorem dX0_undo_30 : decode cX0_undo 30 = .ok (.invokevirtual 103, 3) := dk_182 0 103 (dk_at dksX0_undo_1 6 rfl rfl)
theorem dX0_undo_33 : decode cX0_undo 33 = .ok (.pop, 1) := dk_87 (dk_at dksX0_undo_1 9 rfl rfl)
theorem dX0_undo_34 : decode cX0_undo 34 = .ok (.aload_n 0, 1) := dk_42 (dk_at dksX0_undo_1 10 rfl rfl)
theorem dX0_undo_35 : decode cX0_undo 35 = .ok (.getfield 83, 3) := dk_180 0 83 (dk_at dksX0_undo_1 11 rfl rfl)
theorem dX0_undo_38 : decode cX0_undo 38 = .ok (.ireturn, 1) := dk_172 (dk_at dksX0_undo_1 14 rfl rfl)
abbrev cX0_keep : ByteArray := prog_1_method_38_code
def yX0_keep : MethodName := ⟨RX0, "keep", "(I)I"⟩
def dkwX0_keep_1 : List UInt8 := [183, 0, 102, 42, 180, 0, 45, 182, 0, 103, 83, 42, 180, 0, 45, 180, 0, 80, 172]
abbrev dktX0_keep_1 : List UInt8 := dkwX0_keep_1 ++ []
def dkwX0_keep_0 : List UInt8 := [27, 133, 9, 10, 184, 0, 181, 154, 0, 6, 16, 254, 172, 42, 180, 0, 89, 27, 187, 0, 50, 89]
abbrev dktX0_keep_0 : List UInt8 := dkwX0_keep_0 ++ dktX0_keep_1
theorem dksX0_keep_0 : cX0_keep.data.toList.drop 0 = dktX0_keep_0 := by decide +kernel
theorem dksX0_keep_1 : cX0_keep.data.toList.drop 22 = dktX0_keep_1 := dk_seg dksX0_keep_0 22 rfl rfl
theorem dX0_keep_0 : decode cX0_keep 0 = .ok (.iload_n 1, 1) := dk_27 (dk_at dksX0_keep_0 0 rfl rfl)
theorem dX0_keep_1 : decode cX0_keep 1 = .ok (.i2l, 1) := dk_133 (dk_at dksX0_keep_0 1 rfl rfl)
theorem dX0_keep_2 : decode cX0_keep 2 = .ok (.lconst 0, 1) := dk_9 (dk_at dksX0_keep_0 2 rfl rfl)
theorem dX0_keep_3 : decode cX0_keep 3 = .ok (.lconst 1, 1) := dk_10 (dk_at dksX0_keep_0 3 rfl rfl)
theorem dX0_keep_4 : decode cX0_keep 4 = .ok (.invokestatic 181, 3) := dk_184 0 181 (dk_at dksX0_keep_0 4 rfl rfl)
theorem dX0_keep_7 : decode cX0_keep 7 = .ok (.ifCond .ne 6, 3) := dk_154 0 6 (dk_at dksX0_keep_0 7 rfl rfl)
theorem dX0_keep_10 : decode cX0_keep 10 = .ok (.bipush (-2), 2) := dk_16 254 (dk_at dksX0_keep_0 10 rfl rfl)
theorem dX0_keep_12 : decode cX0_keep 12 = .ok (.ireturn, 1) := dk_172 (dk_at dksX0_keep_0 12 rfl rfl)
theorem dX0_keep_13 : decode cX0_keep 13 = .ok (.aload_n 0, 1) := dk_42 (dk_at dksX0_keep_0 13 rfl rfl)
theorem dX0_keep_14 : decode cX0_keep 14 = .ok (.getfield 89, 3) := dk_180 0 89 (dk_at dksX0_keep_0 14 rfl rfl)
theorem dX0_keep_17 : decode cX0_keep 17 = .ok (.iload_n 1, 1) := dk_27 (dk_at dksX0_keep_0 17 rfl rfl)
theorem dX0_keep_18 : decode cX0_keep 18 = .ok (.new 50, 3) := dk_187 0 50 (dk_at dksX0_keep_0 18 rfl rfl)
theorem dX0_keep_21 : decode cX0_keep 21 = .ok (.dup, 1) := dk_89 (dk_at dksX0_keep_0 21 rfl rfl)
theorem dX0_keep_22 : decode cX0_keep 22 = .ok (.invokespecial 102, 3) := dk_183 0 102 (dk_at dksX0_keep_1 0 rfl rfl)
theorem dX0_keep_25 : decode cX0_keep 25 = .ok (.aload_n 0, 1) := dk_42 (dk_at dksX0_keep_1 3 rfl rfl)
theorem dX0_keep_26 : decode cX0_keep 26 = .ok (.getfield 45, 3) := dk_180 0 45 (dk_at dksX0_keep_1 4 rfl rfl)
theorem dX0_keep_29 : decode cX0_keep 29 = .ok (.invokevirtual 103, 3) := dk_182 0 103 (dk_at dksX0_keep_1 7 rfl rfl)
theorem dX0_keep_32 : decode cX0_keep 32 = .ok (.aastore, 1) := dk_83 (dk_at dksX0_keep_1 10 rfl rfl)
theorem dX0_keep_33 : decode cX0_keep 33 = .ok (.aload_n 0, 1) := dk_42 (dk_at dksX0_keep_1 11 rfl rfl)
theorem dX0_keep_34 : decode cX0_keep 34 = .ok (.getfield 45, 3) := dk_180 0 45 (dk_at dksX0_keep_1 12 rfl rfl)
theorem dX0_keep_37 : decode cX0_keep 37 = .ok (.getfield 80, 3) := dk_180 0 80 (dk_at dksX0_keep_1 15 rfl rfl)
theorem dX0_keep_40 : decode cX0_keep 40 = .ok (.ireturn, 1) := dk_172 (dk_at dksX0_keep_1 18 rfl rfl)
abbrev cX0_back : ByteArray := prog_1_method_39_code
def yX0_back : MethodName := ⟨RX0, "back", "(I)I"⟩
def dkwX0_back_1 : List UInt8 := [182, 0, 103, 87, 167, 0, 7, 77, 16, 252, 172, 42, 3, 181, 0, 83, 42, 180, 0, 45, 180, 0, 80, 172]
abbrev dktX0_back_1 : List UInt8 := dkwX0_back_1 ++ []
def dkwX0_back_0 : List UInt8 := [27, 133, 9, 10, 184, 0, 181, 154, 0, 6, 16, 254, 172, 42, 180, 0, 45, 42, 180, 0, 89, 27, 50]
abbrev dktX0_back_0 : List UInt8 := dkwX0_back_0 ++ dktX0_back_1
theorem dksX0_back_0 : cX0_back.data.toList.drop 0 = dktX0_back_0 := by decide +kernel
theorem dksX0_back_1 : cX0_back.data.toList.drop 23 = dktX0_back_1 := dk_seg dksX0_back_0 23 rfl rfl
theorem dX0_back_0 : decode cX0_back 0 = .ok (.iload_n 1, 1) := dk_27 (dk_at dksX0_back_0 0 rfl rfl)
theorem dX0_back_1 : decode cX0_back 1 = .ok (.i2l, 1) := dk_133 (dk_at dksX0_back_0 1 rfl rfl)
theorem dX0_back_2 : decode cX0_back 2 = .ok (.lconst 0, 1) := dk_9 (dk_at dksX0_back_0 2 rfl rfl)
theorem dX0_back_3 : decode cX0_back 3 = .ok (.lconst 1, 1) := dk_10 (dk_at dksX0_back_0 3 rfl rfl)
theorem dX0_back_4 : decode cX0_back 4 = .ok (.invokestatic 181, 3) := dk_184 0 181 (dk_at dksX0_back_0 4 rfl rfl)
theorem dX0_back_7 : decode cX0_back 7 = .ok (.ifCond .ne 6, 3) := dk_154 0 6 (dk_at dksX0_back_0 7 rfl rfl)
theorem dX0_back_10 : decode cX0_back 10 = .ok (.bipush (-2), 2) := dk_16 254 (dk_at dksX0_back_0 10 rfl rfl)
theorem dX0_back_12 : decode cX0_back 12 = .ok (.ireturn, 1) := dk_172 (dk_at dksX0_back_0 12 rfl rfl)
theorem dX0_back_13 : decode cX0_back 13 = .ok (.aload_n 0, 1) := dk_42 (dk_at dksX0_back_0 13 rfl rfl)
theorem dX0_back_14 : decode cX0_back 14 = .ok (.getfield 45, 3) := dk_180 0 45 (dk_at dksX0_back_0 14 rfl rfl)
theorem dX0_back_17 : decode cX0_back 17 = .ok (.aload_n 0, 1) := dk_42 (dk_at dksX0_back_0 17 rfl rfl)
theorem dX0_back_18 : decode cX0_back 18 = .ok (.getfield 89, 3) := dk_180 0 89 (dk_at dksX0_back_0 18 rfl rfl)
theorem dX0_back_21 : decode cX0_back 21 = .ok (.iload_n 1, 1) := dk_27 (dk_at dksX0_back_0 21 rfl rfl)
theorem dX0_back_22 : decode cX0_back 22 = .ok (.aaload, 1) := dk_50 (dk_at dksX0_back_0 22 rfl rfl)
theorem dX0_back_23 : decode cX0_back 23 = .ok (.invokevirtual 103, 3) := dk_182 0 103 (dk_at dksX0_back_1 0 rfl rfl)
theorem dX0_back_26 : decode cX0_back 26 = .ok (.pop, 1) := dk_87 (dk_at dksX0_back_1 3 rfl rfl)
theorem dX0_back_27 : decode cX0_back 27 = .ok (.goto 7, 3) := dk_167 0 7 (dk_at dksX0_back_1 4 rfl rfl)
theorem dX0_back_30 : decode cX0_back 30 = .ok (.astore_n 2, 1) := dk_77 (dk_at dksX0_back_1 7 rfl rfl)
theorem dX0_back_31 : decode cX0_back 31 = .ok (.bipush (-4), 2) := dk_16 252 (dk_at dksX0_back_1 8 rfl rfl)
theorem dX0_back_33 : decode cX0_back 33 = .ok (.ireturn, 1) := dk_172 (dk_at dksX0_back_1 10 rfl rfl)
theorem dX0_back_34 : decode cX0_back 34 = .ok (.aload_n 0, 1) := dk_42 (dk_at dksX0_back_1 11 rfl rfl)
theorem dX0_back_35 : decode cX0_back 35 = .ok (.iconst 0, 1) := dk_3 (dk_at dksX0_back_1 12 rfl rfl)
theorem dX0_back_36 : decode cX0_back 36 = .ok (.putfield 83, 3) := dk_181 0 83 (dk_at dksX0_back_1 13 rfl rfl)
theorem dX0_back_39 : decode cX0_back 39 = .ok (.aload_n 0, 1) := dk_42 (dk_at dksX0_back_1 16 rfl rfl)
theorem dX0_back_40 : decode cX0_back 40 = .ok (.getfield 45, 3) := dk_180 0 45 (dk_at dksX0_back_1 17 rfl rfl)
theorem dX0_back_43 : decode cX0_back 43 = .ok (.getfield 80, 3) := dk_180 0 80 (dk_at dksX0_back_1 20 rfl rfl)
theorem dX0_back_46 : decode cX0_back 46 = .ok (.ireturn, 1) := dk_172 (dk_at dksX0_back_1 23 rfl rfl)
abbrev cX0_seatings : ByteArray := prog_1_method_43_code
def yX0_seatings : MethodName := ⟨RX0, "seatings", "()I"⟩
def dkwX0_seatings_0 : List UInt8 := [42, 3, 182, 1, 51, 172]
abbrev dktX0_seatings_0 : List UInt8 := dkwX0_seatings_0 ++ []
theorem dksX0_seatings_0 : cX0_seatings.data.toList.drop 0 = dktX0_seatings_0 := by decide +kernel
theorem dX0_seatings_0 : decode cX0_seatings 0 = .ok (.aload_n 0, 1) := dk_42 (dk_at dksX0_seatings_0 0 rfl rfl)
theorem dX0_seatings_1 : decode cX0_seatings 1 = .ok (.iconst 0, 1) := dk_3 (dk_at dksX0_seatings_0 1 rfl rfl)
theorem dX0_seatings_2 : decode cX0_seatings 2 = .ok (.invokevirtual 307, 3) := dk_182 1 51 (dk_at dksX0_seatings_0 2 rfl rfl)
theorem dX0_seatings_5 : decode cX0_seatings 5 = .ok (.ireturn, 1) := dk_172 (dk_at dksX0_seatings_0 5 rfl rfl)
abbrev cX0_search : ByteArray := prog_1_method_42_code
def yX0_search : MethodName := ⟨RX0, "search", "(I)I"⟩
def dkwX0_search_1 : List UInt8 := [42, 27, 181, 1, 48, 42, 3, 182, 1, 45, 42, 180, 1, 33, 172]
abbrev dktX0_search_1 : List UInt8 := dkwX0_search_1 ++ []
def dkwX0_search_0 : List UInt8 := [42, 180, 0, 169, 2, 184, 0, 55, 42, 3, 181, 1, 33, 42, 16, 7, 181, 1, 36, 42, 2, 181, 1, 39]
abbrev dktX0_search_0 : List UInt8 := dkwX0_search_0 ++ dktX0_search_1
theorem dksX0_search_0 : cX0_search.data.toList.drop 0 = dktX0_search_0 := by decide +kernel
theorem dksX0_search_1 : cX0_search.data.toList.drop 24 = dktX0_search_1 := dk_seg dksX0_search_0 24 rfl rfl
theorem dX0_search_0 : decode cX0_search 0 = .ok (.aload_n 0, 1) := dk_42 (dk_at dksX0_search_0 0 rfl rfl)
theorem dX0_search_1 : decode cX0_search 1 = .ok (.getfield 169, 3) := dk_180 0 169 (dk_at dksX0_search_0 1 rfl rfl)
theorem dX0_search_4 : decode cX0_search 4 = .ok (.iconst (-1), 1) := dk_2 (dk_at dksX0_search_0 4 rfl rfl)
theorem dX0_search_5 : decode cX0_search 5 = .ok (.invokestatic 55, 3) := dk_184 0 55 (dk_at dksX0_search_0 5 rfl rfl)
theorem dX0_search_8 : decode cX0_search 8 = .ok (.aload_n 0, 1) := dk_42 (dk_at dksX0_search_0 8 rfl rfl)
theorem dX0_search_9 : decode cX0_search 9 = .ok (.iconst 0, 1) := dk_3 (dk_at dksX0_search_0 9 rfl rfl)
theorem dX0_search_10 : decode cX0_search 10 = .ok (.putfield 289, 3) := dk_181 1 33 (dk_at dksX0_search_0 10 rfl rfl)
theorem dX0_search_13 : decode cX0_search 13 = .ok (.aload_n 0, 1) := dk_42 (dk_at dksX0_search_0 13 rfl rfl)
theorem dX0_search_14 : decode cX0_search 14 = .ok (.bipush 7, 2) := dk_16 7 (dk_at dksX0_search_0 14 rfl rfl)
theorem dX0_search_16 : decode cX0_search 16 = .ok (.putfield 292, 3) := dk_181 1 36 (dk_at dksX0_search_0 16 rfl rfl)
theorem dX0_search_19 : decode cX0_search 19 = .ok (.aload_n 0, 1) := dk_42 (dk_at dksX0_search_0 19 rfl rfl)
theorem dX0_search_20 : decode cX0_search 20 = .ok (.iconst (-1), 1) := dk_2 (dk_at dksX0_search_0 20 rfl rfl)
theorem dX0_search_21 : decode cX0_search 21 = .ok (.putfield 295, 3) := dk_181 1 39 (dk_at dksX0_search_0 21 rfl rfl)
theorem dX0_search_24 : decode cX0_search 24 = .ok (.aload_n 0, 1) := dk_42 (dk_at dksX0_search_1 0 rfl rfl)
theorem dX0_search_25 : decode cX0_search 25 = .ok (.iload_n 1, 1) := dk_27 (dk_at dksX0_search_1 1 rfl rfl)
theorem dX0_search_26 : decode cX0_search 26 = .ok (.putfield 304, 3) := dk_181 1 48 (dk_at dksX0_search_1 2 rfl rfl)
theorem dX0_search_29 : decode cX0_search 29 = .ok (.aload_n 0, 1) := dk_42 (dk_at dksX0_search_1 5 rfl rfl)
theorem dX0_search_30 : decode cX0_search 30 = .ok (.iconst 0, 1) := dk_3 (dk_at dksX0_search_1 6 rfl rfl)
theorem dX0_search_31 : decode cX0_search 31 = .ok (.invokevirtual 301, 3) := dk_182 1 45 (dk_at dksX0_search_1 7 rfl rfl)
theorem dX0_search_34 : decode cX0_search 34 = .ok (.aload_n 0, 1) := dk_42 (dk_at dksX0_search_1 10 rfl rfl)
theorem dX0_search_35 : decode cX0_search 35 = .ok (.getfield 289, 3) := dk_180 1 33 (dk_at dksX0_search_1 11 rfl rfl)
theorem dX0_search_38 : decode cX0_search 38 = .ok (.ireturn, 1) := dk_172 (dk_at dksX0_search_1 14 rfl rfl)
abbrev cX0_seatAll : ByteArray := prog_1_method_40_code
def yX0_seatAll : MethodName := ⟨RX0, "seatAll", "(I)V"⟩
def dkwX0_seatAll_11 : List UInt8 := [182, 1, 45, 42, 180, 0, 169, 28, 2, 79, 132, 2, 1, 167, 255, 144, 42, 180, 0, 172, 27, 2, 79, 177]
abbrev dktX0_seatAll_11 : List UInt8 := dkwX0_seatAll_11 ++ []
def dkwX0_seatAll_10 : List UInt8 := [29, 153, 0, 31, 42, 180, 0, 169, 28, 27, 79, 42, 180, 0, 172, 27, 28, 79, 42, 27, 4, 96]
abbrev dktX0_seatAll_10 : List UInt8 := dkwX0_seatAll_10 ++ dktX0_seatAll_11
def dkwX0_seatAll_9 : List UInt8 := [180, 0, 115, 96, 4, 100, 42, 180, 0, 115, 112, 46, 182, 1, 9, 154, 0, 7, 4, 167, 0, 4, 3, 62]
abbrev dktX0_seatAll_9 : List UInt8 := dkwX0_seatAll_9 ++ dktX0_seatAll_10
def dkwX0_seatAll_8 : List UInt8 := [42, 180, 0, 169, 42, 28, 182, 1, 6, 46, 182, 1, 9, 154, 0, 33, 42, 27, 42, 180, 0, 169, 28, 42]
abbrev dktX0_seatAll_8 : List UInt8 := dkwX0_seatAll_8 ++ dktX0_seatAll_9
def dkwX0_seatAll_7 : List UInt8 := [162, 0, 110, 42, 180, 0, 169, 28, 46, 2, 160, 0, 60, 42, 27, 28, 182, 1, 3, 154, 0, 51, 42, 27]
abbrev dktX0_seatAll_7 : List UInt8 := dkwX0_seatAll_7 ++ dktX0_seatAll_8
def dkwX0_seatAll_6 : List UInt8 := [27, 184, 0, 142, 154, 0, 11, 42, 27, 4, 96, 182, 1, 45, 177, 3, 61, 28, 42, 180, 0, 115]
abbrev dktX0_seatAll_6 : List UInt8 := dkwX0_seatAll_6 ++ dktX0_seatAll_7
def dkwX0_seatAll_5 : List UInt8 := [182, 1, 42, 184, 1, 22, 181, 1, 39, 177, 42, 180, 0, 172, 27, 2, 79, 42, 180, 0, 45, 180, 0, 77]
abbrev dktX0_seatAll_5 : List UInt8 := dkwX0_seatAll_5 ++ dktX0_seatAll_6
def dkwX0_seatAll_4 : List UInt8 := [132, 3, 1, 167, 255, 180, 42, 42, 180, 1, 36, 28, 184, 1, 28, 181, 1, 36, 42, 42, 180, 1, 39, 42]
abbrev dktX0_seatAll_4 : List UInt8 := dkwX0_seatAll_4 ++ dktX0_seatAll_5
def dkwX0_seatAll_3 : List UInt8 := [180, 0, 45, 180, 0, 61, 42, 180, 0, 172, 29, 46, 46, 29, 159, 0, 7, 4, 167, 0, 4, 3, 96, 61]
abbrev dktX0_seatAll_3 : List UInt8 := dkwX0_seatAll_3 ++ dktX0_seatAll_4
def dkwX0_seatAll_2 : List UInt8 := [46, 167, 0, 9, 42, 180, 0, 175, 29, 46, 79, 28, 42, 180, 0, 172, 29, 46, 2, 159, 0, 25, 42]
abbrev dktX0_seatAll_2 : List UInt8 := dkwX0_seatAll_2 ++ dktX0_seatAll_3
def dkwX0_seatAll_1 : List UInt8 := [180, 0, 64, 162, 0, 74, 42, 180, 0, 175, 29, 42, 180, 1, 33, 4, 160, 0, 12, 42, 180, 0, 172, 29]
abbrev dktX0_seatAll_1 : List UInt8 := dkwX0_seatAll_1 ++ dktX0_seatAll_2
def dkwX0_seatAll_0 : List UInt8 := [27, 42, 180, 0, 64, 160, 0, 124, 42, 89, 180, 1, 33, 4, 96, 181, 1, 33, 3, 61, 3, 62, 29, 42]
abbrev dktX0_seatAll_0 : List UInt8 := dkwX0_seatAll_0 ++ dktX0_seatAll_1
theorem dksX0_seatAll_0 : cX0_seatAll.data.toList.drop 0 = dktX0_seatAll_0 := by decide +kernel
theorem dksX0_seatAll_1 : cX0_seatAll.data.toList.drop 24 = dktX0_seatAll_1 := dk_seg dksX0_seatAll_0 24 rfl rfl
theorem dksX0_seatAll_2 : cX0_seatAll.data.toList.drop 48 = dktX0_seatAll_2 := dk_seg dksX0_seatAll_1 24 rfl rfl
theorem dksX0_seatAll_3 : cX0_seatAll.data.toList.drop 71 = dktX0_seatAll_3 := dk_seg dksX0_seatAll_2 23 rfl rfl
theorem dksX0_seatAll_4 : cX0_seatAll.data.toList.drop 95 = dktX0_seatAll_4 := dk_seg dksX0_seatAll_3 24 rfl rfl
theorem dksX0_seatAll_5 : cX0_seatAll.data.toList.drop 119 = dktX0_seatAll_5 := dk_seg dksX0_seatAll_4 24 rfl rfl
theorem dksX0_seatAll_6 : cX0_seatAll.data.toList.drop 143 = dktX0_seatAll_6 := dk_seg dksX0_seatAll_5 24 rfl rfl
theorem dksX0_seatAll_7 : cX0_seatAll.data.toList.drop 165 = dktX0_seatAll_7 := dk_seg dksX0_seatAll_6 22 rfl rfl
theorem dksX0_seatAll_8 : cX0_seatAll.data.toList.drop 189 = dktX0_seatAll_8 := dk_seg dksX0_seatAll_7 24 rfl rfl
theorem dksX0_seatAll_9 : cX0_seatAll.data.toList.drop 213 = dktX0_seatAll_9 := dk_seg dksX0_seatAll_8 24 rfl rfl
theorem dksX0_seatAll_10 : cX0_seatAll.data.toList.drop 237 = dktX0_seatAll_10 := dk_seg dksX0_seatAll_9 24 rfl rfl
theorem dksX0_seatAll_11 : cX0_seatAll.data.toList.drop 259 = dktX0_seatAll_11 := dk_seg dksX0_seatAll_10 22 rfl rfl
theorem dX0_seatAll_0 : decode cX0_seatAll 0 = .ok (.iload_n 1, 1) := dk_27 (dk_at dksX0_seatAll_0 0 rfl rfl)
theorem dX0_seatAll_1 : decode cX0_seatAll 1 = .ok (.aload_n 0, 1) := dk_42 (dk_at dksX0_seatAll_0 1 rfl rfl)
theorem dX0_seatAll_2 : decode cX0_seatAll 2 = .ok (.getfield 64, 3) := dk_180 0 64 (dk_at dksX0_seatAll_0 2 rfl rfl)
theorem dX0_seatAll_5 : decode cX0_seatAll 5 = .ok (.if_icmp .ne 124, 3) := dk_160 0 124 (dk_at dksX0_seatAll_0 5 rfl rfl)
theorem dX0_seatAll_8 : decode cX0_seatAll 8 = .ok (.aload_n 0, 1) := dk_42 (dk_at dksX0_seatAll_0 8 rfl rfl)
theorem dX0_seatAll_9 : decode cX0_seatAll 9 = .ok (.dup, 1) := dk_89 (dk_at dksX0_seatAll_0 9 rfl rfl)
theorem dX0_seatAll_10 : decode cX0_seatAll 10 = .ok (.getfield 289, 3) := dk_180 1 33 (dk_at dksX0_seatAll_0 10 rfl rfl)
theorem dX0_seatAll_13 : decode cX0_seatAll 13 = .ok (.iconst 1, 1) := dk_4 (dk_at dksX0_seatAll_0 13 rfl rfl)
theorem dX0_seatAll_14 : decode cX0_seatAll 14 = .ok (.iadd, 1) := dk_96 (dk_at dksX0_seatAll_0 14 rfl rfl)
theorem dX0_seatAll_15 : decode cX0_seatAll 15 = .ok (.putfield 289, 3) := dk_181 1 33 (dk_at dksX0_seatAll_0 15 rfl rfl)
theorem dX0_seatAll_18 : decode cX0_seatAll 18 = .ok (.iconst 0, 1) := dk_3 (dk_at dksX0_seatAll_0 18 rfl rfl)
theorem dX0_seatAll_19 : decode cX0_seatAll 19 = .ok (.istore_n 2, 1) := dk_61 (dk_at dksX0_seatAll_0 19 rfl rfl)
theorem dX0_seatAll_20 : decode cX0_seatAll 20 = .ok (.iconst 0, 1) := dk_3 (dk_at dksX0_seatAll_0 20 rfl rfl)
theorem dX0_seatAll_21 : decode cX0_seatAll 21 = .ok (.istore_n 3, 1) := dk_62 (dk_at dksX0_seatAll_0 21 rfl rfl)
theorem dX0_seatAll_22 : decode cX0_seatAll 22 = .ok (.iload_n 3, 1) := dk_29 (dk_at dksX0_seatAll_0 22 rfl rfl)
theorem dX0_seatAll_23 : decode cX0_seatAll 23 = .ok (.aload_n 0, 1) := dk_42 (dk_at dksX0_seatAll_0 23 rfl rfl)
theorem dX0_seatAll_24 : decode cX0_seatAll 24 = .ok (.getfield 64, 3) := dk_180 0 64 (dk_at dksX0_seatAll_1 0 rfl rfl)
theorem dX0_seatAll_27 : decode cX0_seatAll 27 = .ok (.if_icmp .ge 74, 3) := dk_162 0 74 (dk_at dksX0_seatAll_1 3 rfl rfl)
theorem dX0_seatAll_30 : decode cX0_seatAll 30 = .ok (.aload_n 0, 1) := dk_42 (dk_at dksX0_seatAll_1 6 rfl rfl)
theorem dX0_seatAll_31 : decode cX0_seatAll 31 = .ok (.getfield 175, 3) := dk_180 0 175 (dk_at dksX0_seatAll_1 7 rfl rfl)
theorem dX0_seatAll_34 : decode cX0_seatAll 34 = .ok (.iload_n 3, 1) := dk_29 (dk_at dksX0_seatAll_1 10 rfl rfl)
theorem dX0_seatAll_35 : decode cX0_seatAll 35 = .ok (.aload_n 0, 1) := dk_42 (dk_at dksX0_seatAll_1 11 rfl rfl)
theorem dX0_seatAll_36 : decode cX0_seatAll 36 = .ok (.getfield 289, 3) := dk_180 1 33 (dk_at dksX0_seatAll_1 12 rfl rfl)
theorem dX0_seatAll_39 : decode cX0_seatAll 39 = .ok (.iconst 1, 1) := dk_4 (dk_at dksX0_seatAll_1 15 rfl rfl)
theorem dX0_seatAll_40 : decode cX0_seatAll 40 = .ok (.if_icmp .ne 12, 3) := dk_160 0 12 (dk_at dksX0_seatAll_1 16 rfl rfl)
theorem dX0_seatAll_43 : decode cX0_seatAll 43 = .ok (.aload_n 0, 1) := dk_42 (dk_at dksX0_seatAll_1 19 rfl rfl)
theorem dX0_seatAll_44 : decode cX0_seatAll 44 = .ok (.getfield 172, 3) := dk_180 0 172 (dk_at dksX0_seatAll_1 20 rfl rfl)
theorem dX0_seatAll_47 : decode cX0_seatAll 47 = .ok (.iload_n 3, 1) := dk_29 (dk_at dksX0_seatAll_1 23 rfl rfl)
theorem dX0_seatAll_48 : decode cX0_seatAll 48 = .ok (.iaload, 1) := dk_46 (dk_at dksX0_seatAll_2 0 rfl rfl)
theorem dX0_seatAll_49 : decode cX0_seatAll 49 = .ok (.goto 9, 3) := dk_167 0 9 (dk_at dksX0_seatAll_2 1 rfl rfl)
theorem dX0_seatAll_52 : decode cX0_seatAll 52 = .ok (.aload_n 0, 1) := dk_42 (dk_at dksX0_seatAll_2 4 rfl rfl)
theorem dX0_seatAll_53 : decode cX0_seatAll 53 = .ok (.getfield 175, 3) := dk_180 0 175 (dk_at dksX0_seatAll_2 5 rfl rfl)
theorem dX0_seatAll_56 : decode cX0_seatAll 56 = .ok (.iload_n 3, 1) := dk_29 (dk_at dksX0_seatAll_2 8 rfl rfl)
theorem dX0_seatAll_57 : decode cX0_seatAll 57 = .ok (.iaload, 1) := dk_46 (dk_at dksX0_seatAll_2 9 rfl rfl)
theorem dX0_seatAll_58 : decode cX0_seatAll 58 = .ok (.iastore, 1) := dk_79 (dk_at dksX0_seatAll_2 10 rfl rfl)
theorem dX0_seatAll_59 : decode cX0_seatAll 59 = .ok (.iload_n 2, 1) := dk_28 (dk_at dksX0_seatAll_2 11 rfl rfl)
theorem dX0_seatAll_60 : decode cX0_seatAll 60 = .ok (.aload_n 0, 1) := dk_42 (dk_at dksX0_seatAll_2 12 rfl rfl)
theorem dX0_seatAll_61 : decode cX0_seatAll 61 = .ok (.getfield 172, 3) := dk_180 0 172 (dk_at dksX0_seatAll_2 13 rfl rfl)
theorem dX0_seatAll_64 : decode cX0_seatAll 64 = .ok (.iload_n 3, 1) := dk_29 (dk_at dksX0_seatAll_2 16 rfl rfl)
theorem dX0_seatAll_65 : decode cX0_seatAll 65 = .ok (.iaload, 1) := dk_46 (dk_at dksX0_seatAll_2 17 rfl rfl)
theorem dX0_seatAll_66 : decode cX0_seatAll 66 = .ok (.iconst (-1), 1) := dk_2 (dk_at dksX0_seatAll_2 18 rfl rfl)
theorem dX0_seatAll_67 : decode cX0_seatAll 67 = .ok (.if_icmp .eq 25, 3) := dk_159 0 25 (dk_at dksX0_seatAll_2 19 rfl rfl)
theorem dX0_seatAll_70 : decode cX0_seatAll 70 = .ok (.aload_n 0, 1) := dk_42 (dk_at dksX0_seatAll_2 22 rfl rfl)
theorem dX0_seatAll_71 : decode cX0_seatAll 71 = .ok (.getfield 45, 3) := dk_180 0 45 (dk_at dksX0_seatAll_3 0 rfl rfl)
theorem dX0_seatAll_74 : decode cX0_seatAll 74 = .ok (.getfield 61, 3) := dk_180 0 61 (dk_at dksX0_seatAll_3 3 rfl rfl)
theorem dX0_seatAll_77 : decode cX0_seatAll 77 = .ok (.aload_n 0, 1) := dk_42 (dk_at dksX0_seatAll_3 6 rfl rfl)
theorem dX0_seatAll_78 : decode cX0_seatAll 78 = .ok (.getfield 172, 3) := dk_180 0 172 (dk_at dksX0_seatAll_3 7 rfl rfl)
theorem dX0_seatAll_81 : decode cX0_seatAll 81 = .ok (.iload_n 3, 1) := dk_29 (dk_at dksX0_seatAll_3 10 rfl rfl)
theorem dX0_seatAll_82 : decode cX0_seatAll 82 = .ok (.iaload, 1) := dk_46 (dk_at dksX0_seatAll_3 11 rfl rfl)
theorem dX0_seatAll_83 : decode cX0_seatAll 83 = .ok (.iaload, 1) := dk_46 (dk_at dksX0_seatAll_3 12 rfl rfl)
theorem dX0_seatAll_84 : decode cX0_seatAll 84 = .ok (.iload_n 3, 1) := dk_29 (dk_at dksX0_seatAll_3 13 rfl rfl)
theorem dX0_seatAll_85 : decode cX0_seatAll 85 = .ok (.if_icmp .eq 7, 3) := dk_159 0 7 (dk_at dksX0_seatAll_3 14 rfl rfl)
theorem dX0_seatAll_88 : decode cX0_seatAll 88 = .ok (.iconst 1, 1) := dk_4 (dk_at dksX0_seatAll_3 17 rfl rfl)
theorem dX0_seatAll_89 : decode cX0_seatAll 89 = .ok (.goto 4, 3) := dk_167 0 4 (dk_at dksX0_seatAll_3 18 rfl rfl)
theorem dX0_seatAll_92 : decode cX0_seatAll 92 = .ok (.iconst 0, 1) := dk_3 (dk_at dksX0_seatAll_3 21 rfl rfl)
theorem dX0_seatAll_93 : decode cX0_seatAll 93 = .ok (.iadd, 1) := dk_96 (dk_at dksX0_seatAll_3 22 rfl rfl)
theorem dX0_seatAll_94 : decode cX0_seatAll 94 = .ok (.istore_n 2, 1) := dk_61 (dk_at dksX0_seatAll_3 23 rfl rfl)
theorem dX0_seatAll_95 : decode cX0_seatAll 95 = .ok (.iinc 3 1, 3) := dk_132 3 1 (dk_at dksX0_seatAll_4 0 rfl rfl)
theorem dX0_seatAll_98 : decode cX0_seatAll 98 = .ok (.goto (-76), 3) := dk_167 255 180 (dk_at dksX0_seatAll_4 3 rfl rfl)
theorem dX0_seatAll_101 : decode cX0_seatAll 101 = .ok (.aload_n 0, 1) := dk_42 (dk_at dksX0_seatAll_4 6 rfl rfl)
theorem dX0_seatAll_102 : decode cX0_seatAll 102 = .ok (.aload_n 0, 1) := dk_42 (dk_at dksX0_seatAll_4 7 rfl rfl)
theorem dX0_seatAll_103 : decode cX0_seatAll 103 = .ok (.getfield 292, 3) := dk_180 1 36 (dk_at dksX0_seatAll_4 8 rfl rfl)
theorem dX0_seatAll_106 : decode cX0_seatAll 106 = .ok (.iload_n 2, 1) := dk_28 (dk_at dksX0_seatAll_4 11 rfl rfl)
theorem dX0_seatAll_107 : decode cX0_seatAll 107 = .ok (.invokestatic 284, 3) := dk_184 1 28 (dk_at dksX0_seatAll_4 12 rfl rfl)
theorem dX0_seatAll_110 : decode cX0_seatAll 110 = .ok (.putfield 292, 3) := dk_181 1 36 (dk_at dksX0_seatAll_4 15 rfl rfl)
theorem dX0_seatAll_113 : decode cX0_seatAll 113 = .ok (.aload_n 0, 1) := dk_42 (dk_at dksX0_seatAll_4 18 rfl rfl)
theorem dX0_seatAll_114 : decode cX0_seatAll 114 = .ok (.aload_n 0, 1) := dk_42 (dk_at dksX0_seatAll_4 19 rfl rfl)
theorem dX0_seatAll_115 : decode cX0_seatAll 115 = .ok (.getfield 295, 3) := dk_180 1 39 (dk_at dksX0_seatAll_4 20 rfl rfl)
theorem dX0_seatAll_118 : decode cX0_seatAll 118 = .ok (.aload_n 0, 1) := dk_42 (dk_at dksX0_seatAll_4 23 rfl rfl)
theorem dX0_seatAll_119 : decode cX0_seatAll 119 = .ok (.invokevirtual 298, 3) := dk_182 1 42 (dk_at dksX0_seatAll_5 0 rfl rfl)
theorem dX0_seatAll_122 : decode cX0_seatAll 122 = .ok (.invokestatic 278, 3) := dk_184 1 22 (dk_at dksX0_seatAll_5 3 rfl rfl)
theorem dX0_seatAll_125 : decode cX0_seatAll 125 = .ok (.putfield 295, 3) := dk_181 1 39 (dk_at dksX0_seatAll_5 6 rfl rfl)
theorem dX0_seatAll_128 : decode cX0_seatAll 128 = .ok (.return_, 1) := dk_177 (dk_at dksX0_seatAll_5 9 rfl rfl)
theorem dX0_seatAll_129 : decode cX0_seatAll 129 = .ok (.aload_n 0, 1) := dk_42 (dk_at dksX0_seatAll_5 10 rfl rfl)
theorem dX0_seatAll_130 : decode cX0_seatAll 130 = .ok (.getfield 172, 3) := dk_180 0 172 (dk_at dksX0_seatAll_5 11 rfl rfl)
theorem dX0_seatAll_133 : decode cX0_seatAll 133 = .ok (.iload_n 1, 1) := dk_27 (dk_at dksX0_seatAll_5 14 rfl rfl)
theorem dX0_seatAll_134 : decode cX0_seatAll 134 = .ok (.iconst (-1), 1) := dk_2 (dk_at dksX0_seatAll_5 15 rfl rfl)
theorem dX0_seatAll_135 : decode cX0_seatAll 135 = .ok (.iastore, 1) := dk_79 (dk_at dksX0_seatAll_5 16 rfl rfl)
theorem dX0_seatAll_136 : decode cX0_seatAll 136 = .ok (.aload_n 0, 1) := dk_42 (dk_at dksX0_seatAll_5 17 rfl rfl)
theorem dX0_seatAll_137 : decode cX0_seatAll 137 = .ok (.getfield 45, 3) := dk_180 0 45 (dk_at dksX0_seatAll_5 18 rfl rfl)
theorem dX0_seatAll_140 : decode cX0_seatAll 140 = .ok (.getfield 77, 3) := dk_180 0 77 (dk_at dksX0_seatAll_5 21 rfl rfl)
theorem dX0_seatAll_143 : decode cX0_seatAll 143 = .ok (.iload_n 1, 1) := dk_27 (dk_at dksX0_seatAll_6 0 rfl rfl)
theorem dX0_seatAll_144 : decode cX0_seatAll 144 = .ok (.invokestatic 142, 3) := dk_184 0 142 (dk_at dksX0_seatAll_6 1 rfl rfl)
theorem dX0_seatAll_147 : decode cX0_seatAll 147 = .ok (.ifCond .ne 11, 3) := dk_154 0 11 (dk_at dksX0_seatAll_6 4 rfl rfl)
theorem dX0_seatAll_150 : decode cX0_seatAll 150 = .ok (.aload_n 0, 1) := dk_42 (dk_at dksX0_seatAll_6 7 rfl rfl)
theorem dX0_seatAll_151 : decode cX0_seatAll 151 = .ok (.iload_n 1, 1) := dk_27 (dk_at dksX0_seatAll_6 8 rfl rfl)
theorem dX0_seatAll_152 : decode cX0_seatAll 152 = .ok (.iconst 1, 1) := dk_4 (dk_at dksX0_seatAll_6 9 rfl rfl)
theorem dX0_seatAll_153 : decode cX0_seatAll 153 = .ok (.iadd, 1) := dk_96 (dk_at dksX0_seatAll_6 10 rfl rfl)
theorem dX0_seatAll_154 : decode cX0_seatAll 154 = .ok (.invokevirtual 301, 3) := dk_182 1 45 (dk_at dksX0_seatAll_6 11 rfl rfl)
theorem dX0_seatAll_157 : decode cX0_seatAll 157 = .ok (.return_, 1) := dk_177 (dk_at dksX0_seatAll_6 14 rfl rfl)
theorem dX0_seatAll_158 : decode cX0_seatAll 158 = .ok (.iconst 0, 1) := dk_3 (dk_at dksX0_seatAll_6 15 rfl rfl)
theorem dX0_seatAll_159 : decode cX0_seatAll 159 = .ok (.istore_n 2, 1) := dk_61 (dk_at dksX0_seatAll_6 16 rfl rfl)
theorem dX0_seatAll_160 : decode cX0_seatAll 160 = .ok (.iload_n 2, 1) := dk_28 (dk_at dksX0_seatAll_6 17 rfl rfl)
theorem dX0_seatAll_161 : decode cX0_seatAll 161 = .ok (.aload_n 0, 1) := dk_42 (dk_at dksX0_seatAll_6 18 rfl rfl)
theorem dX0_seatAll_162 : decode cX0_seatAll 162 = .ok (.getfield 115, 3) := dk_180 0 115 (dk_at dksX0_seatAll_6 19 rfl rfl)
theorem dX0_seatAll_165 : decode cX0_seatAll 165 = .ok (.if_icmp .ge 110, 3) := dk_162 0 110 (dk_at dksX0_seatAll_7 0 rfl rfl)
theorem dX0_seatAll_168 : decode cX0_seatAll 168 = .ok (.aload_n 0, 1) := dk_42 (dk_at dksX0_seatAll_7 3 rfl rfl)
theorem dX0_seatAll_169 : decode cX0_seatAll 169 = .ok (.getfield 169, 3) := dk_180 0 169 (dk_at dksX0_seatAll_7 4 rfl rfl)
theorem dX0_seatAll_172 : decode cX0_seatAll 172 = .ok (.iload_n 2, 1) := dk_28 (dk_at dksX0_seatAll_7 7 rfl rfl)
theorem dX0_seatAll_173 : decode cX0_seatAll 173 = .ok (.iaload, 1) := dk_46 (dk_at dksX0_seatAll_7 8 rfl rfl)
theorem dX0_seatAll_174 : decode cX0_seatAll 174 = .ok (.iconst (-1), 1) := dk_2 (dk_at dksX0_seatAll_7 9 rfl rfl)
theorem dX0_seatAll_175 : decode cX0_seatAll 175 = .ok (.if_icmp .ne 60, 3) := dk_160 0 60 (dk_at dksX0_seatAll_7 10 rfl rfl)
theorem dX0_seatAll_178 : decode cX0_seatAll 178 = .ok (.aload_n 0, 1) := dk_42 (dk_at dksX0_seatAll_7 13 rfl rfl)
theorem dX0_seatAll_179 : decode cX0_seatAll 179 = .ok (.iload_n 1, 1) := dk_27 (dk_at dksX0_seatAll_7 14 rfl rfl)
theorem dX0_seatAll_180 : decode cX0_seatAll 180 = .ok (.iload_n 2, 1) := dk_28 (dk_at dksX0_seatAll_7 15 rfl rfl)
theorem dX0_seatAll_181 : decode cX0_seatAll 181 = .ok (.invokevirtual 259, 3) := dk_182 1 3 (dk_at dksX0_seatAll_7 16 rfl rfl)
theorem dX0_seatAll_184 : decode cX0_seatAll 184 = .ok (.ifCond .ne 51, 3) := dk_154 0 51 (dk_at dksX0_seatAll_7 19 rfl rfl)
theorem dX0_seatAll_187 : decode cX0_seatAll 187 = .ok (.aload_n 0, 1) := dk_42 (dk_at dksX0_seatAll_7 22 rfl rfl)
theorem dX0_seatAll_188 : decode cX0_seatAll 188 = .ok (.iload_n 1, 1) := dk_27 (dk_at dksX0_seatAll_7 23 rfl rfl)
theorem dX0_seatAll_189 : decode cX0_seatAll 189 = .ok (.aload_n 0, 1) := dk_42 (dk_at dksX0_seatAll_8 0 rfl rfl)
theorem dX0_seatAll_190 : decode cX0_seatAll 190 = .ok (.getfield 169, 3) := dk_180 0 169 (dk_at dksX0_seatAll_8 1 rfl rfl)
theorem dX0_seatAll_193 : decode cX0_seatAll 193 = .ok (.aload_n 0, 1) := dk_42 (dk_at dksX0_seatAll_8 4 rfl rfl)
theorem dX0_seatAll_194 : decode cX0_seatAll 194 = .ok (.iload_n 2, 1) := dk_28 (dk_at dksX0_seatAll_8 5 rfl rfl)
theorem dX0_seatAll_195 : decode cX0_seatAll 195 = .ok (.invokevirtual 262, 3) := dk_182 1 6 (dk_at dksX0_seatAll_8 6 rfl rfl)
theorem dX0_seatAll_198 : decode cX0_seatAll 198 = .ok (.iaload, 1) := dk_46 (dk_at dksX0_seatAll_8 9 rfl rfl)
theorem dX0_seatAll_199 : decode cX0_seatAll 199 = .ok (.invokevirtual 265, 3) := dk_182 1 9 (dk_at dksX0_seatAll_8 10 rfl rfl)
theorem dX0_seatAll_202 : decode cX0_seatAll 202 = .ok (.ifCond .ne 33, 3) := dk_154 0 33 (dk_at dksX0_seatAll_8 13 rfl rfl)
theorem dX0_seatAll_205 : decode cX0_seatAll 205 = .ok (.aload_n 0, 1) := dk_42 (dk_at dksX0_seatAll_8 16 rfl rfl)
theorem dX0_seatAll_206 : decode cX0_seatAll 206 = .ok (.iload_n 1, 1) := dk_27 (dk_at dksX0_seatAll_8 17 rfl rfl)
theorem dX0_seatAll_207 : decode cX0_seatAll 207 = .ok (.aload_n 0, 1) := dk_42 (dk_at dksX0_seatAll_8 18 rfl rfl)
theorem dX0_seatAll_208 : decode cX0_seatAll 208 = .ok (.getfield 169, 3) := dk_180 0 169 (dk_at dksX0_seatAll_8 19 rfl rfl)
theorem dX0_seatAll_211 : decode cX0_seatAll 211 = .ok (.iload_n 2, 1) := dk_28 (dk_at dksX0_seatAll_8 22 rfl rfl)
theorem dX0_seatAll_212 : decode cX0_seatAll 212 = .ok (.aload_n 0, 1) := dk_42 (dk_at dksX0_seatAll_8 23 rfl rfl)
theorem dX0_seatAll_213 : decode cX0_seatAll 213 = .ok (.getfield 115, 3) := dk_180 0 115 (dk_at dksX0_seatAll_9 0 rfl rfl)
theorem dX0_seatAll_216 : decode cX0_seatAll 216 = .ok (.iadd, 1) := dk_96 (dk_at dksX0_seatAll_9 3 rfl rfl)
theorem dX0_seatAll_217 : decode cX0_seatAll 217 = .ok (.iconst 1, 1) := dk_4 (dk_at dksX0_seatAll_9 4 rfl rfl)
theorem dX0_seatAll_218 : decode cX0_seatAll 218 = .ok (.isub, 1) := dk_100 (dk_at dksX0_seatAll_9 5 rfl rfl)
theorem dX0_seatAll_219 : decode cX0_seatAll 219 = .ok (.aload_n 0, 1) := dk_42 (dk_at dksX0_seatAll_9 6 rfl rfl)
theorem dX0_seatAll_220 : decode cX0_seatAll 220 = .ok (.getfield 115, 3) := dk_180 0 115 (dk_at dksX0_seatAll_9 7 rfl rfl)
theorem dX0_seatAll_223 : decode cX0_seatAll 223 = .ok (.irem, 1) := dk_112 (dk_at dksX0_seatAll_9 10 rfl rfl)
theorem dX0_seatAll_224 : decode cX0_seatAll 224 = .ok (.iaload, 1) := dk_46 (dk_at dksX0_seatAll_9 11 rfl rfl)
theorem dX0_seatAll_225 : decode cX0_seatAll 225 = .ok (.invokevirtual 265, 3) := dk_182 1 9 (dk_at dksX0_seatAll_9 12 rfl rfl)
theorem dX0_seatAll_228 : decode cX0_seatAll 228 = .ok (.ifCond .ne 7, 3) := dk_154 0 7 (dk_at dksX0_seatAll_9 15 rfl rfl)
theorem dX0_seatAll_231 : decode cX0_seatAll 231 = .ok (.iconst 1, 1) := dk_4 (dk_at dksX0_seatAll_9 18 rfl rfl)
theorem dX0_seatAll_232 : decode cX0_seatAll 232 = .ok (.goto 4, 3) := dk_167 0 4 (dk_at dksX0_seatAll_9 19 rfl rfl)
theorem dX0_seatAll_235 : decode cX0_seatAll 235 = .ok (.iconst 0, 1) := dk_3 (dk_at dksX0_seatAll_9 22 rfl rfl)
theorem dX0_seatAll_236 : decode cX0_seatAll 236 = .ok (.istore_n 3, 1) := dk_62 (dk_at dksX0_seatAll_9 23 rfl rfl)
theorem dX0_seatAll_237 : decode cX0_seatAll 237 = .ok (.iload_n 3, 1) := dk_29 (dk_at dksX0_seatAll_10 0 rfl rfl)
theorem dX0_seatAll_238 : decode cX0_seatAll 238 = .ok (.ifCond .eq 31, 3) := dk_153 0 31 (dk_at dksX0_seatAll_10 1 rfl rfl)
theorem dX0_seatAll_241 : decode cX0_seatAll 241 = .ok (.aload_n 0, 1) := dk_42 (dk_at dksX0_seatAll_10 4 rfl rfl)
theorem dX0_seatAll_242 : decode cX0_seatAll 242 = .ok (.getfield 169, 3) := dk_180 0 169 (dk_at dksX0_seatAll_10 5 rfl rfl)
theorem dX0_seatAll_245 : decode cX0_seatAll 245 = .ok (.iload_n 2, 1) := dk_28 (dk_at dksX0_seatAll_10 8 rfl rfl)
theorem dX0_seatAll_246 : decode cX0_seatAll 246 = .ok (.iload_n 1, 1) := dk_27 (dk_at dksX0_seatAll_10 9 rfl rfl)
theorem dX0_seatAll_247 : decode cX0_seatAll 247 = .ok (.iastore, 1) := dk_79 (dk_at dksX0_seatAll_10 10 rfl rfl)
theorem dX0_seatAll_248 : decode cX0_seatAll 248 = .ok (.aload_n 0, 1) := dk_42 (dk_at dksX0_seatAll_10 11 rfl rfl)
theorem dX0_seatAll_249 : decode cX0_seatAll 249 = .ok (.getfield 172, 3) := dk_180 0 172 (dk_at dksX0_seatAll_10 12 rfl rfl)
theorem dX0_seatAll_252 : decode cX0_seatAll 252 = .ok (.iload_n 1, 1) := dk_27 (dk_at dksX0_seatAll_10 15 rfl rfl)
theorem dX0_seatAll_253 : decode cX0_seatAll 253 = .ok (.iload_n 2, 1) := dk_28 (dk_at dksX0_seatAll_10 16 rfl rfl)
theorem dX0_seatAll_254 : decode cX0_seatAll 254 = .ok (.iastore, 1) := dk_79 (dk_at dksX0_seatAll_10 17 rfl rfl)
theorem dX0_seatAll_255 : decode cX0_seatAll 255 = .ok (.aload_n 0, 1) := dk_42 (dk_at dksX0_seatAll_10 18 rfl rfl)
theorem dX0_seatAll_256 : decode cX0_seatAll 256 = .ok (.iload_n 1, 1) := dk_27 (dk_at dksX0_seatAll_10 19 rfl rfl)
theorem dX0_seatAll_257 : decode cX0_seatAll 257 = .ok (.iconst 1, 1) := dk_4 (dk_at dksX0_seatAll_10 20 rfl rfl)
theorem dX0_seatAll_258 : decode cX0_seatAll 258 = .ok (.iadd, 1) := dk_96 (dk_at dksX0_seatAll_10 21 rfl rfl)
theorem dX0_seatAll_259 : decode cX0_seatAll 259 = .ok (.invokevirtual 301, 3) := dk_182 1 45 (dk_at dksX0_seatAll_11 0 rfl rfl)
theorem dX0_seatAll_262 : decode cX0_seatAll 262 = .ok (.aload_n 0, 1) := dk_42 (dk_at dksX0_seatAll_11 3 rfl rfl)
theorem dX0_seatAll_263 : decode cX0_seatAll 263 = .ok (.getfield 169, 3) := dk_180 0 169 (dk_at dksX0_seatAll_11 4 rfl rfl)
theorem dX0_seatAll_266 : decode cX0_seatAll 266 = .ok (.iload_n 2, 1) := dk_28 (dk_at dksX0_seatAll_11 7 rfl rfl)
theorem dX0_seatAll_267 : decode cX0_seatAll 267 = .ok (.iconst (-1), 1) := dk_2 (dk_at dksX0_seatAll_11 8 rfl rfl)
theorem dX0_seatAll_268 : decode cX0_seatAll 268 = .ok (.iastore, 1) := dk_79 (dk_at dksX0_seatAll_11 9 rfl rfl)
theorem dX0_seatAll_269 : decode cX0_seatAll 269 = .ok (.iinc 2 1, 3) := dk_132 2 1 (dk_at dksX0_seatAll_11 10 rfl rfl)
theorem dX0_seatAll_272 : decode cX0_seatAll 272 = .ok (.goto (-112), 3) := dk_167 255 144 (dk_at dksX0_seatAll_11 13 rfl rfl)
theorem dX0_seatAll_275 : decode cX0_seatAll 275 = .ok (.aload_n 0, 1) := dk_42 (dk_at dksX0_seatAll_11 16 rfl rfl)
theorem dX0_seatAll_276 : decode cX0_seatAll 276 = .ok (.getfield 172, 3) := dk_180 0 172 (dk_at dksX0_seatAll_11 17 rfl rfl)
theorem dX0_seatAll_279 : decode cX0_seatAll 279 = .ok (.iload_n 1, 1) := dk_27 (dk_at dksX0_seatAll_11 20 rfl rfl)
theorem dX0_seatAll_280 : decode cX0_seatAll 280 = .ok (.iconst (-1), 1) := dk_2 (dk_at dksX0_seatAll_11 21 rfl rfl)
theorem dX0_seatAll_281 : decode cX0_seatAll 281 = .ok (.iastore, 1) := dk_79 (dk_at dksX0_seatAll_11 22 rfl rfl)
theorem dX0_seatAll_282 : decode cX0_seatAll 282 = .ok (.return_, 1) := dk_177 (dk_at dksX0_seatAll_11 23 rfl rfl)
abbrev cX0_knowers : ByteArray := prog_1_method_41_code
def yX0_knowers : MethodName := ⟨RX0, "knowers", "()I"⟩
def dkwX0_knowers_4 : List UInt8 := [27, 172]
abbrev dktX0_knowers_4 : List UInt8 := dkwX0_knowers_4 ++ []
def dkwX0_knowers_3 : List UInt8 := [46, 42, 180, 1, 48, 184, 0, 142, 153, 0, 7, 4, 167, 0, 4, 3, 96, 60, 132, 2, 1, 167, 255, 168]
abbrev dktX0_knowers_3 : List UInt8 := dkwX0_knowers_3 ++ dktX0_knowers_4
def dkwX0_knowers_2 : List UInt8 := [46, 42, 180, 1, 48, 184, 0, 142, 154, 0, 27, 29, 2, 159, 0, 26, 42, 180, 0, 45, 180, 0, 49, 29]
abbrev dktX0_knowers_2 : List UInt8 := dkwX0_knowers_2 ++ dktX0_knowers_3
def dkwX0_knowers_1 : List UInt8 := [180, 0, 169, 42, 42, 180, 0, 172, 28, 46, 182, 1, 6, 46, 62, 27, 42, 180, 0, 45, 180, 0, 49, 28]
abbrev dktX0_knowers_1 : List UInt8 := dkwX0_knowers_1 ++ dktX0_knowers_2
def dkwX0_knowers_0 : List UInt8 := [3, 60, 3, 61, 28, 42, 180, 0, 64, 162, 0, 86, 42, 180, 0, 172, 28, 46, 2, 159, 0, 70, 42]
abbrev dktX0_knowers_0 : List UInt8 := dkwX0_knowers_0 ++ dktX0_knowers_1
theorem dksX0_knowers_0 : cX0_knowers.data.toList.drop 0 = dktX0_knowers_0 := by decide +kernel
theorem dksX0_knowers_1 : cX0_knowers.data.toList.drop 23 = dktX0_knowers_1 := dk_seg dksX0_knowers_0 23 rfl rfl
theorem dksX0_knowers_2 : cX0_knowers.data.toList.drop 47 = dktX0_knowers_2 := dk_seg dksX0_knowers_1 24 rfl rfl
theorem dksX0_knowers_3 : cX0_knowers.data.toList.drop 71 = dktX0_knowers_3 := dk_seg dksX0_knowers_2 24 rfl rfl
theorem dksX0_knowers_4 : cX0_knowers.data.toList.drop 95 = dktX0_knowers_4 := dk_seg dksX0_knowers_3 24 rfl rfl
theorem dX0_knowers_0 : decode cX0_knowers 0 = .ok (.iconst 0, 1) := dk_3 (dk_at dksX0_knowers_0 0 rfl rfl)
theorem dX0_knowers_1 : decode cX0_knowers 1 = .ok (.istore_n 1, 1) := dk_60 (dk_at dksX0_knowers_0 1 rfl rfl)
theorem dX0_knowers_2 : decode cX0_knowers 2 = .ok (.iconst 0, 1) := dk_3 (dk_at dksX0_knowers_0 2 rfl rfl)
theorem dX0_knowers_3 : decode cX0_knowers 3 = .ok (.istore_n 2, 1) := dk_61 (dk_at dksX0_knowers_0 3 rfl rfl)
theorem dX0_knowers_4 : decode cX0_knowers 4 = .ok (.iload_n 2, 1) := dk_28 (dk_at dksX0_knowers_0 4 rfl rfl)
theorem dX0_knowers_5 : decode cX0_knowers 5 = .ok (.aload_n 0, 1) := dk_42 (dk_at dksX0_knowers_0 5 rfl rfl)
theorem dX0_knowers_6 : decode cX0_knowers 6 = .ok (.getfield 64, 3) := dk_180 0 64 (dk_at dksX0_knowers_0 6 rfl rfl)
theorem dX0_knowers_9 : decode cX0_knowers 9 = .ok (.if_icmp .ge 86, 3) := dk_162 0 86 (dk_at dksX0_knowers_0 9 rfl rfl)
theorem dX0_knowers_12 : decode cX0_knowers 12 = .ok (.aload_n 0, 1) := dk_42 (dk_at dksX0_knowers_0 12 rfl rfl)
theorem dX0_knowers_13 : decode cX0_knowers 13 = .ok (.getfield 172, 3) := dk_180 0 172 (dk_at dksX0_knowers_0 13 rfl rfl)
theorem dX0_knowers_16 : decode cX0_knowers 16 = .ok (.iload_n 2, 1) := dk_28 (dk_at dksX0_knowers_0 16 rfl rfl)
theorem dX0_knowers_17 : decode cX0_knowers 17 = .ok (.iaload, 1) := dk_46 (dk_at dksX0_knowers_0 17 rfl rfl)
theorem dX0_knowers_18 : decode cX0_knowers 18 = .ok (.iconst (-1), 1) := dk_2 (dk_at dksX0_knowers_0 18 rfl rfl)
theorem dX0_knowers_19 : decode cX0_knowers 19 = .ok (.if_icmp .eq 70, 3) := dk_159 0 70 (dk_at dksX0_knowers_0 19 rfl rfl)
theorem dX0_knowers_22 : decode cX0_knowers 22 = .ok (.aload_n 0, 1) := dk_42 (dk_at dksX0_knowers_0 22 rfl rfl)
theorem dX0_knowers_23 : decode cX0_knowers 23 = .ok (.getfield 169, 3) := dk_180 0 169 (dk_at dksX0_knowers_1 0 rfl rfl)
theorem dX0_knowers_26 : decode cX0_knowers 26 = .ok (.aload_n 0, 1) := dk_42 (dk_at dksX0_knowers_1 3 rfl rfl)
theorem dX0_knowers_27 : decode cX0_knowers 27 = .ok (.aload_n 0, 1) := dk_42 (dk_at dksX0_knowers_1 4 rfl rfl)
theorem dX0_knowers_28 : decode cX0_knowers 28 = .ok (.getfield 172, 3) := dk_180 0 172 (dk_at dksX0_knowers_1 5 rfl rfl)
theorem dX0_knowers_31 : decode cX0_knowers 31 = .ok (.iload_n 2, 1) := dk_28 (dk_at dksX0_knowers_1 8 rfl rfl)
theorem dX0_knowers_32 : decode cX0_knowers 32 = .ok (.iaload, 1) := dk_46 (dk_at dksX0_knowers_1 9 rfl rfl)
theorem dX0_knowers_33 : decode cX0_knowers 33 = .ok (.invokevirtual 262, 3) := dk_182 1 6 (dk_at dksX0_knowers_1 10 rfl rfl)
theorem dX0_knowers_36 : decode cX0_knowers 36 = .ok (.iaload, 1) := dk_46 (dk_at dksX0_knowers_1 13 rfl rfl)
theorem dX0_knowers_37 : decode cX0_knowers 37 = .ok (.istore_n 3, 1) := dk_62 (dk_at dksX0_knowers_1 14 rfl rfl)
theorem dX0_knowers_38 : decode cX0_knowers 38 = .ok (.iload_n 1, 1) := dk_27 (dk_at dksX0_knowers_1 15 rfl rfl)
theorem dX0_knowers_39 : decode cX0_knowers 39 = .ok (.aload_n 0, 1) := dk_42 (dk_at dksX0_knowers_1 16 rfl rfl)
theorem dX0_knowers_40 : decode cX0_knowers 40 = .ok (.getfield 45, 3) := dk_180 0 45 (dk_at dksX0_knowers_1 17 rfl rfl)
theorem dX0_knowers_43 : decode cX0_knowers 43 = .ok (.getfield 49, 3) := dk_180 0 49 (dk_at dksX0_knowers_1 20 rfl rfl)
theorem dX0_knowers_46 : decode cX0_knowers 46 = .ok (.iload_n 2, 1) := dk_28 (dk_at dksX0_knowers_1 23 rfl rfl)
theorem dX0_knowers_47 : decode cX0_knowers 47 = .ok (.iaload, 1) := dk_46 (dk_at dksX0_knowers_2 0 rfl rfl)
theorem dX0_knowers_48 : decode cX0_knowers 48 = .ok (.aload_n 0, 1) := dk_42 (dk_at dksX0_knowers_2 1 rfl rfl)
theorem dX0_knowers_49 : decode cX0_knowers 49 = .ok (.getfield 304, 3) := dk_180 1 48 (dk_at dksX0_knowers_2 2 rfl rfl)
theorem dX0_knowers_52 : decode cX0_knowers 52 = .ok (.invokestatic 142, 3) := dk_184 0 142 (dk_at dksX0_knowers_2 5 rfl rfl)
theorem dX0_knowers_55 : decode cX0_knowers 55 = .ok (.ifCond .ne 27, 3) := dk_154 0 27 (dk_at dksX0_knowers_2 8 rfl rfl)
theorem dX0_knowers_58 : decode cX0_knowers 58 = .ok (.iload_n 3, 1) := dk_29 (dk_at dksX0_knowers_2 11 rfl rfl)
theorem dX0_knowers_59 : decode cX0_knowers 59 = .ok (.iconst (-1), 1) := dk_2 (dk_at dksX0_knowers_2 12 rfl rfl)
theorem dX0_knowers_60 : decode cX0_knowers 60 = .ok (.if_icmp .eq 26, 3) := dk_159 0 26 (dk_at dksX0_knowers_2 13 rfl rfl)
theorem dX0_knowers_63 : decode cX0_knowers 63 = .ok (.aload_n 0, 1) := dk_42 (dk_at dksX0_knowers_2 16 rfl rfl)
theorem dX0_knowers_64 : decode cX0_knowers 64 = .ok (.getfield 45, 3) := dk_180 0 45 (dk_at dksX0_knowers_2 17 rfl rfl)
theorem dX0_knowers_67 : decode cX0_knowers 67 = .ok (.getfield 49, 3) := dk_180 0 49 (dk_at dksX0_knowers_2 20 rfl rfl)
theorem dX0_knowers_70 : decode cX0_knowers 70 = .ok (.iload_n 3, 1) := dk_29 (dk_at dksX0_knowers_2 23 rfl rfl)
theorem dX0_knowers_71 : decode cX0_knowers 71 = .ok (.iaload, 1) := dk_46 (dk_at dksX0_knowers_3 0 rfl rfl)
theorem dX0_knowers_72 : decode cX0_knowers 72 = .ok (.aload_n 0, 1) := dk_42 (dk_at dksX0_knowers_3 1 rfl rfl)
theorem dX0_knowers_73 : decode cX0_knowers 73 = .ok (.getfield 304, 3) := dk_180 1 48 (dk_at dksX0_knowers_3 2 rfl rfl)
theorem dX0_knowers_76 : decode cX0_knowers 76 = .ok (.invokestatic 142, 3) := dk_184 0 142 (dk_at dksX0_knowers_3 5 rfl rfl)
theorem dX0_knowers_79 : decode cX0_knowers 79 = .ok (.ifCond .eq 7, 3) := dk_153 0 7 (dk_at dksX0_knowers_3 8 rfl rfl)
theorem dX0_knowers_82 : decode cX0_knowers 82 = .ok (.iconst 1, 1) := dk_4 (dk_at dksX0_knowers_3 11 rfl rfl)
theorem dX0_knowers_83 : decode cX0_knowers 83 = .ok (.goto 4, 3) := dk_167 0 4 (dk_at dksX0_knowers_3 12 rfl rfl)
theorem dX0_knowers_86 : decode cX0_knowers 86 = .ok (.iconst 0, 1) := dk_3 (dk_at dksX0_knowers_3 15 rfl rfl)
theorem dX0_knowers_87 : decode cX0_knowers 87 = .ok (.iadd, 1) := dk_96 (dk_at dksX0_knowers_3 16 rfl rfl)
theorem dX0_knowers_88 : decode cX0_knowers 88 = .ok (.istore_n 1, 1) := dk_60 (dk_at dksX0_knowers_3 17 rfl rfl)
theorem dX0_knowers_89 : decode cX0_knowers 89 = .ok (.iinc 2 1, 3) := dk_132 2 1 (dk_at dksX0_knowers_3 18 rfl rfl)
theorem dX0_knowers_92 : decode cX0_knowers 92 = .ok (.goto (-88), 3) := dk_167 255 168 (dk_at dksX0_knowers_3 21 rfl rfl)
theorem dX0_knowers_95 : decode cX0_knowers 95 = .ok (.iload_n 1, 1) := dk_27 (dk_at dksX0_knowers_4 0 rfl rfl)
theorem dX0_knowers_96 : decode cX0_knowers 96 = .ok (.ireturn, 1) := dk_172 (dk_at dksX0_knowers_4 1 rfl rfl)
abbrev cX0_seatOf : ByteArray := prog_1_method_44_code
def yX0_seatOf : MethodName := ⟨RX0, "seatOf", "(I)I"⟩
def dkwX0_seatOf_1 : List UInt8 := [180, 0, 175, 27, 46, 172]
abbrev dktX0_seatOf_1 : List UInt8 := dkwX0_seatOf_1 ++ []
def dkwX0_seatOf_0 : List UInt8 := [42, 27, 182, 0, 223, 154, 0, 6, 16, 254, 172, 42, 3, 182, 1, 51, 154, 0, 7, 2, 167, 0, 9, 42]
abbrev dktX0_seatOf_0 : List UInt8 := dkwX0_seatOf_0 ++ dktX0_seatOf_1
theorem dksX0_seatOf_0 : cX0_seatOf.data.toList.drop 0 = dktX0_seatOf_0 := by decide +kernel
theorem dksX0_seatOf_1 : cX0_seatOf.data.toList.drop 24 = dktX0_seatOf_1 := dk_seg dksX0_seatOf_0 24 rfl rfl
theorem dX0_seatOf_0 : decode cX0_seatOf 0 = .ok (.aload_n 0, 1) := dk_42 (dk_at dksX0_seatOf_0 0 rfl rfl)
theorem dX0_seatOf_1 : decode cX0_seatOf 1 = .ok (.iload_n 1, 1) := dk_27 (dk_at dksX0_seatOf_0 1 rfl rfl)
theorem dX0_seatOf_2 : decode cX0_seatOf 2 = .ok (.invokevirtual 223, 3) := dk_182 0 223 (dk_at dksX0_seatOf_0 2 rfl rfl)
theorem dX0_seatOf_5 : decode cX0_seatOf 5 = .ok (.ifCond .ne 6, 3) := dk_154 0 6 (dk_at dksX0_seatOf_0 5 rfl rfl)
theorem dX0_seatOf_8 : decode cX0_seatOf 8 = .ok (.bipush (-2), 2) := dk_16 254 (dk_at dksX0_seatOf_0 8 rfl rfl)
theorem dX0_seatOf_10 : decode cX0_seatOf 10 = .ok (.ireturn, 1) := dk_172 (dk_at dksX0_seatOf_0 10 rfl rfl)
theorem dX0_seatOf_11 : decode cX0_seatOf 11 = .ok (.aload_n 0, 1) := dk_42 (dk_at dksX0_seatOf_0 11 rfl rfl)
theorem dX0_seatOf_12 : decode cX0_seatOf 12 = .ok (.iconst 0, 1) := dk_3 (dk_at dksX0_seatOf_0 12 rfl rfl)
theorem dX0_seatOf_13 : decode cX0_seatOf 13 = .ok (.invokevirtual 307, 3) := dk_182 1 51 (dk_at dksX0_seatOf_0 13 rfl rfl)
theorem dX0_seatOf_16 : decode cX0_seatOf 16 = .ok (.ifCond .ne 7, 3) := dk_154 0 7 (dk_at dksX0_seatOf_0 16 rfl rfl)
theorem dX0_seatOf_19 : decode cX0_seatOf 19 = .ok (.iconst (-1), 1) := dk_2 (dk_at dksX0_seatOf_0 19 rfl rfl)
theorem dX0_seatOf_20 : decode cX0_seatOf 20 = .ok (.goto 9, 3) := dk_167 0 9 (dk_at dksX0_seatOf_0 20 rfl rfl)
theorem dX0_seatOf_23 : decode cX0_seatOf 23 = .ok (.aload_n 0, 1) := dk_42 (dk_at dksX0_seatOf_0 23 rfl rfl)
theorem dX0_seatOf_24 : decode cX0_seatOf 24 = .ok (.getfield 175, 3) := dk_180 0 175 (dk_at dksX0_seatOf_1 0 rfl rfl)
theorem dX0_seatOf_27 : decode cX0_seatOf 27 = .ok (.iload_n 1, 1) := dk_27 (dk_at dksX0_seatOf_1 3 rfl rfl)
theorem dX0_seatOf_28 : decode cX0_seatOf 28 = .ok (.iaload, 1) := dk_46 (dk_at dksX0_seatOf_1 4 rfl rfl)
theorem dX0_seatOf_29 : decode cX0_seatOf 29 = .ok (.ireturn, 1) := dk_172 (dk_at dksX0_seatOf_1 5 rfl rfl)
abbrev cX0_moved : ByteArray := prog_1_method_45_code
def yX0_moved : MethodName := ⟨RX0, "moved", "()I"⟩
def dkwX0_moved_0 : List UInt8 := [42, 3, 182, 1, 51, 154, 0, 7, 2, 167, 0, 7, 42, 180, 1, 36, 172]
abbrev dktX0_moved_0 : List UInt8 := dkwX0_moved_0 ++ []
theorem dksX0_moved_0 : cX0_moved.data.toList.drop 0 = dktX0_moved_0 := by decide +kernel
theorem dX0_moved_0 : decode cX0_moved 0 = .ok (.aload_n 0, 1) := dk_42 (dk_at dksX0_moved_0 0 rfl rfl)
theorem dX0_moved_1 : decode cX0_moved 1 = .ok (.iconst 0, 1) := dk_3 (dk_at dksX0_moved_0 1 rfl rfl)
theorem dX0_moved_2 : decode cX0_moved 2 = .ok (.invokevirtual 307, 3) := dk_182 1 51 (dk_at dksX0_moved_0 2 rfl rfl)
theorem dX0_moved_5 : decode cX0_moved 5 = .ok (.ifCond .ne 7, 3) := dk_154 0 7 (dk_at dksX0_moved_0 5 rfl rfl)
theorem dX0_moved_8 : decode cX0_moved 8 = .ok (.iconst (-1), 1) := dk_2 (dk_at dksX0_moved_0 8 rfl rfl)
theorem dX0_moved_9 : decode cX0_moved 9 = .ok (.goto 7, 3) := dk_167 0 7 (dk_at dksX0_moved_0 9 rfl rfl)
theorem dX0_moved_12 : decode cX0_moved 12 = .ok (.aload_n 0, 1) := dk_42 (dk_at dksX0_moved_0 12 rfl rfl)
theorem dX0_moved_13 : decode cX0_moved 13 = .ok (.getfield 292, 3) := dk_180 1 36 (dk_at dksX0_moved_0 13 rfl rfl)
theorem dX0_moved_16 : decode cX0_moved 16 = .ok (.ireturn, 1) := dk_172 (dk_at dksX0_moved_0 16 rfl rfl)
abbrev cX0_knows : ByteArray := prog_1_method_46_code
def yX0_knows : MethodName := ⟨RX0, "knows", "(I)I"⟩
def dkwX0_knows_1 : List UInt8 := [167, 0, 7, 42, 180, 1, 39, 172]
abbrev dktX0_knows_1 : List UInt8 := dkwX0_knows_1 ++ []
def dkwX0_knows_0 : List UInt8 := [27, 133, 9, 20, 0, 234, 184, 0, 181, 154, 0, 6, 16, 253, 172, 42, 27, 182, 1, 51, 154, 0, 7, 2]
abbrev dktX0_knows_0 : List UInt8 := dkwX0_knows_0 ++ dktX0_knows_1
theorem dksX0_knows_0 : cX0_knows.data.toList.drop 0 = dktX0_knows_0 := by decide +kernel
theorem dksX0_knows_1 : cX0_knows.data.toList.drop 24 = dktX0_knows_1 := dk_seg dksX0_knows_0 24 rfl rfl
theorem dX0_knows_0 : decode cX0_knows 0 = .ok (.iload_n 1, 1) := dk_27 (dk_at dksX0_knows_0 0 rfl rfl)
theorem dX0_knows_1 : decode cX0_knows 1 = .ok (.i2l, 1) := dk_133 (dk_at dksX0_knows_0 1 rfl rfl)
theorem dX0_knows_2 : decode cX0_knows 2 = .ok (.lconst 0, 1) := dk_9 (dk_at dksX0_knows_0 2 rfl rfl)
theorem dX0_knows_3 : decode cX0_knows 3 = .ok (.ldc2_w 234, 3) := dk_20 0 234 (dk_at dksX0_knows_0 3 rfl rfl)
theorem dX0_knows_6 : decode cX0_knows 6 = .ok (.invokestatic 181, 3) := dk_184 0 181 (dk_at dksX0_knows_0 6 rfl rfl)
theorem dX0_knows_9 : decode cX0_knows 9 = .ok (.ifCond .ne 6, 3) := dk_154 0 6 (dk_at dksX0_knows_0 9 rfl rfl)
theorem dX0_knows_12 : decode cX0_knows 12 = .ok (.bipush (-3), 2) := dk_16 253 (dk_at dksX0_knows_0 12 rfl rfl)
theorem dX0_knows_14 : decode cX0_knows 14 = .ok (.ireturn, 1) := dk_172 (dk_at dksX0_knows_0 14 rfl rfl)
theorem dX0_knows_15 : decode cX0_knows 15 = .ok (.aload_n 0, 1) := dk_42 (dk_at dksX0_knows_0 15 rfl rfl)
theorem dX0_knows_16 : decode cX0_knows 16 = .ok (.iload_n 1, 1) := dk_27 (dk_at dksX0_knows_0 16 rfl rfl)
theorem dX0_knows_17 : decode cX0_knows 17 = .ok (.invokevirtual 307, 3) := dk_182 1 51 (dk_at dksX0_knows_0 17 rfl rfl)
theorem dX0_knows_20 : decode cX0_knows 20 = .ok (.ifCond .ne 7, 3) := dk_154 0 7 (dk_at dksX0_knows_0 20 rfl rfl)
theorem dX0_knows_23 : decode cX0_knows 23 = .ok (.iconst (-1), 1) := dk_2 (dk_at dksX0_knows_0 23 rfl rfl)
theorem dX0_knows_24 : decode cX0_knows 24 = .ok (.goto 7, 3) := dk_167 0 7 (dk_at dksX0_knows_1 0 rfl rfl)
theorem dX0_knows_27 : decode cX0_knows 27 = .ok (.aload_n 0, 1) := dk_42 (dk_at dksX0_knows_1 3 rfl rfl)
theorem dX0_knows_28 : decode cX0_knows 28 = .ok (.getfield 295, 3) := dk_180 1 39 (dk_at dksX0_knows_1 4 rfl rfl)
theorem dX0_knows_31 : decode cX0_knows 31 = .ok (.ireturn, 1) := dk_172 (dk_at dksX0_knows_1 7 rfl rfl)
abbrev cX0_judge : ByteArray := prog_1_method_47_code
def yX0_judge : MethodName := ⟨RX0, "judge", "(I)I"⟩
def dkwX0_judge_3 : List UInt8 := [154, 0, 10, 42, 182, 1, 12, 167, 0, 4, 28, 172]
abbrev dktX0_judge_3 : List UInt8 := dkwX0_judge_3 ++ []
def dkwX0_judge_2 : List UInt8 := [182, 1, 6, 46, 182, 1, 9, 153, 0, 7, 4, 167, 0, 4, 3, 96, 61, 132, 3, 1, 167, 255, 208, 27]
abbrev dktX0_judge_2 : List UInt8 := dkwX0_judge_2 ++ dktX0_judge_3
def dkwX0_judge_1 : List UInt8 := [162, 0, 46, 28, 42, 42, 180, 0, 45, 180, 0, 61, 29, 46, 42, 180, 0, 45, 180, 0, 61, 42, 29]
abbrev dktX0_judge_1 : List UInt8 := dkwX0_judge_1 ++ dktX0_judge_2
def dkwX0_judge_0 : List UInt8 := [27, 133, 9, 10, 184, 0, 181, 154, 0, 6, 16, 253, 172, 3, 61, 3, 62, 29, 42, 180, 0, 115]
abbrev dktX0_judge_0 : List UInt8 := dkwX0_judge_0 ++ dktX0_judge_1
theorem dksX0_judge_0 : cX0_judge.data.toList.drop 0 = dktX0_judge_0 := by decide +kernel
theorem dksX0_judge_1 : cX0_judge.data.toList.drop 22 = dktX0_judge_1 := dk_seg dksX0_judge_0 22 rfl rfl
theorem dksX0_judge_2 : cX0_judge.data.toList.drop 45 = dktX0_judge_2 := dk_seg dksX0_judge_1 23 rfl rfl
theorem dksX0_judge_3 : cX0_judge.data.toList.drop 69 = dktX0_judge_3 := dk_seg dksX0_judge_2 24 rfl rfl
theorem dX0_judge_0 : decode cX0_judge 0 = .ok (.iload_n 1, 1) := dk_27 (dk_at dksX0_judge_0 0 rfl rfl)
theorem dX0_judge_1 : decode cX0_judge 1 = .ok (.i2l, 1) := dk_133 (dk_at dksX0_judge_0 1 rfl rfl)
theorem dX0_judge_2 : decode cX0_judge 2 = .ok (.lconst 0, 1) := dk_9 (dk_at dksX0_judge_0 2 rfl rfl)
theorem dX0_judge_3 : decode cX0_judge 3 = .ok (.lconst 1, 1) := dk_10 (dk_at dksX0_judge_0 3 rfl rfl)
theorem dX0_judge_4 : decode cX0_judge 4 = .ok (.invokestatic 181, 3) := dk_184 0 181 (dk_at dksX0_judge_0 4 rfl rfl)
theorem dX0_judge_7 : decode cX0_judge 7 = .ok (.ifCond .ne 6, 3) := dk_154 0 6 (dk_at dksX0_judge_0 7 rfl rfl)
theorem dX0_judge_10 : decode cX0_judge 10 = .ok (.bipush (-3), 2) := dk_16 253 (dk_at dksX0_judge_0 10 rfl rfl)
theorem dX0_judge_12 : decode cX0_judge 12 = .ok (.ireturn, 1) := dk_172 (dk_at dksX0_judge_0 12 rfl rfl)
theorem dX0_judge_13 : decode cX0_judge 13 = .ok (.iconst 0, 1) := dk_3 (dk_at dksX0_judge_0 13 rfl rfl)
theorem dX0_judge_14 : decode cX0_judge 14 = .ok (.istore_n 2, 1) := dk_61 (dk_at dksX0_judge_0 14 rfl rfl)
theorem dX0_judge_15 : decode cX0_judge 15 = .ok (.iconst 0, 1) := dk_3 (dk_at dksX0_judge_0 15 rfl rfl)
theorem dX0_judge_16 : decode cX0_judge 16 = .ok (.istore_n 3, 1) := dk_62 (dk_at dksX0_judge_0 16 rfl rfl)
theorem dX0_judge_17 : decode cX0_judge 17 = .ok (.iload_n 3, 1) := dk_29 (dk_at dksX0_judge_0 17 rfl rfl)
theorem dX0_judge_18 : decode cX0_judge 18 = .ok (.aload_n 0, 1) := dk_42 (dk_at dksX0_judge_0 18 rfl rfl)
theorem dX0_judge_19 : decode cX0_judge 19 = .ok (.getfield 115, 3) := dk_180 0 115 (dk_at dksX0_judge_0 19 rfl rfl)
theorem dX0_judge_22 : decode cX0_judge 22 = .ok (.if_icmp .ge 46, 3) := dk_162 0 46 (dk_at dksX0_judge_1 0 rfl rfl)
theorem dX0_judge_25 : decode cX0_judge 25 = .ok (.iload_n 2, 1) := dk_28 (dk_at dksX0_judge_1 3 rfl rfl)
theorem dX0_judge_26 : decode cX0_judge 26 = .ok (.aload_n 0, 1) := dk_42 (dk_at dksX0_judge_1 4 rfl rfl)
theorem dX0_judge_27 : decode cX0_judge 27 = .ok (.aload_n 0, 1) := dk_42 (dk_at dksX0_judge_1 5 rfl rfl)
theorem dX0_judge_28 : decode cX0_judge 28 = .ok (.getfield 45, 3) := dk_180 0 45 (dk_at dksX0_judge_1 6 rfl rfl)
theorem dX0_judge_31 : decode cX0_judge 31 = .ok (.getfield 61, 3) := dk_180 0 61 (dk_at dksX0_judge_1 9 rfl rfl)
theorem dX0_judge_34 : decode cX0_judge 34 = .ok (.iload_n 3, 1) := dk_29 (dk_at dksX0_judge_1 12 rfl rfl)
theorem dX0_judge_35 : decode cX0_judge 35 = .ok (.iaload, 1) := dk_46 (dk_at dksX0_judge_1 13 rfl rfl)
theorem dX0_judge_36 : decode cX0_judge 36 = .ok (.aload_n 0, 1) := dk_42 (dk_at dksX0_judge_1 14 rfl rfl)
theorem dX0_judge_37 : decode cX0_judge 37 = .ok (.getfield 45, 3) := dk_180 0 45 (dk_at dksX0_judge_1 15 rfl rfl)
theorem dX0_judge_40 : decode cX0_judge 40 = .ok (.getfield 61, 3) := dk_180 0 61 (dk_at dksX0_judge_1 18 rfl rfl)
theorem dX0_judge_43 : decode cX0_judge 43 = .ok (.aload_n 0, 1) := dk_42 (dk_at dksX0_judge_1 21 rfl rfl)
theorem dX0_judge_44 : decode cX0_judge 44 = .ok (.iload_n 3, 1) := dk_29 (dk_at dksX0_judge_1 22 rfl rfl)
theorem dX0_judge_45 : decode cX0_judge 45 = .ok (.invokevirtual 262, 3) := dk_182 1 6 (dk_at dksX0_judge_2 0 rfl rfl)
theorem dX0_judge_48 : decode cX0_judge 48 = .ok (.iaload, 1) := dk_46 (dk_at dksX0_judge_2 3 rfl rfl)
theorem dX0_judge_49 : decode cX0_judge 49 = .ok (.invokevirtual 265, 3) := dk_182 1 9 (dk_at dksX0_judge_2 4 rfl rfl)
theorem dX0_judge_52 : decode cX0_judge 52 = .ok (.ifCond .eq 7, 3) := dk_153 0 7 (dk_at dksX0_judge_2 7 rfl rfl)
theorem dX0_judge_55 : decode cX0_judge 55 = .ok (.iconst 1, 1) := dk_4 (dk_at dksX0_judge_2 10 rfl rfl)
theorem dX0_judge_56 : decode cX0_judge 56 = .ok (.goto 4, 3) := dk_167 0 4 (dk_at dksX0_judge_2 11 rfl rfl)
theorem dX0_judge_59 : decode cX0_judge 59 = .ok (.iconst 0, 1) := dk_3 (dk_at dksX0_judge_2 14 rfl rfl)
theorem dX0_judge_60 : decode cX0_judge 60 = .ok (.iadd, 1) := dk_96 (dk_at dksX0_judge_2 15 rfl rfl)
theorem dX0_judge_61 : decode cX0_judge 61 = .ok (.istore_n 2, 1) := dk_61 (dk_at dksX0_judge_2 16 rfl rfl)
theorem dX0_judge_62 : decode cX0_judge 62 = .ok (.iinc 3 1, 3) := dk_132 3 1 (dk_at dksX0_judge_2 17 rfl rfl)
theorem dX0_judge_65 : decode cX0_judge 65 = .ok (.goto (-48), 3) := dk_167 255 208 (dk_at dksX0_judge_2 20 rfl rfl)
theorem dX0_judge_68 : decode cX0_judge 68 = .ok (.iload_n 1, 1) := dk_27 (dk_at dksX0_judge_2 23 rfl rfl)
theorem dX0_judge_69 : decode cX0_judge 69 = .ok (.ifCond .ne 10, 3) := dk_154 0 10 (dk_at dksX0_judge_3 0 rfl rfl)
theorem dX0_judge_72 : decode cX0_judge 72 = .ok (.aload_n 0, 1) := dk_42 (dk_at dksX0_judge_3 3 rfl rfl)
theorem dX0_judge_73 : decode cX0_judge 73 = .ok (.invokevirtual 268, 3) := dk_182 1 12 (dk_at dksX0_judge_3 4 rfl rfl)
theorem dX0_judge_76 : decode cX0_judge 76 = .ok (.goto 4, 3) := dk_167 0 4 (dk_at dksX0_judge_3 7 rfl rfl)
theorem dX0_judge_79 : decode cX0_judge 79 = .ok (.iload_n 2, 1) := dk_28 (dk_at dksX0_judge_3 10 rfl rfl)
theorem dX0_judge_80 : decode cX0_judge 80 = .ok (.ireturn, 1) := dk_172 (dk_at dksX0_judge_3 11 rfl rfl)
abbrev cX0_seen : ByteArray := prog_1_method_48_code
def yX0_seen : MethodName := ⟨RX0, "seen", "(IIII)I"⟩
def dkwX0_seen_4 : List UInt8 := [180, 0, 86, 4, 96, 90, 181, 0, 86, 172]
abbrev dktX0_seen_4 : List UInt8 := dkwX0_seen_4 ++ []
def dkwX0_seen_3 : List UInt8 := [188, 10, 89, 3, 27, 79, 89, 4, 28, 79, 89, 5, 29, 79, 89, 6, 21, 4, 79, 83, 42, 89]
abbrev dktX0_seen_3 : List UInt8 := dkwX0_seen_3 ++ dktX0_seen_4
def dkwX0_seen_2 : List UInt8 := [16, 253, 172, 42, 180, 0, 86, 16, 8, 160, 0, 6, 16, 251, 172, 42, 180, 0, 161, 42, 180, 0, 86, 7]
abbrev dktX0_seen_2 : List UInt8 := dkwX0_seen_2 ++ dktX0_seen_3
def dkwX0_seen_1 : List UInt8 := [180, 0, 45, 180, 0, 80, 133, 184, 0, 181, 153, 0, 14, 21, 4, 133, 9, 10, 184, 0, 181, 154, 0, 6]
abbrev dktX0_seen_1 : List UInt8 := dkwX0_seen_1 ++ dktX0_seen_2
def dkwX0_seen_0 : List UInt8 := [42, 27, 182, 0, 223, 153, 0, 11, 42, 28, 182, 0, 213, 154, 0, 6, 16, 254, 172, 29, 133, 9, 42]
abbrev dktX0_seen_0 : List UInt8 := dkwX0_seen_0 ++ dktX0_seen_1
theorem dksX0_seen_0 : cX0_seen.data.toList.drop 0 = dktX0_seen_0 := by decide +kernel
theorem dksX0_seen_1 : cX0_seen.data.toList.drop 23 = dktX0_seen_1 := dk_seg dksX0_seen_0 23 rfl rfl
theorem dksX0_seen_2 : cX0_seen.data.toList.drop 47 = dktX0_seen_2 := dk_seg dksX0_seen_1 24 rfl rfl
theorem dksX0_seen_3 : cX0_seen.data.toList.drop 71 = dktX0_seen_3 := dk_seg dksX0_seen_2 24 rfl rfl
theorem dksX0_seen_4 : cX0_seen.data.toList.drop 93 = dktX0_seen_4 := dk_seg dksX0_seen_3 22 rfl rfl
theorem dX0_seen_0 : decode cX0_seen 0 = .ok (.aload_n 0, 1) := dk_42 (dk_at dksX0_seen_0 0 rfl rfl)
theorem dX0_seen_1 : decode cX0_seen 1 = .ok (.iload_n 1, 1) := dk_27 (dk_at dksX0_seen_0 1 rfl rfl)
theorem dX0_seen_2 : decode cX0_seen 2 = .ok (.invokevirtual 223, 3) := dk_182 0 223 (dk_at dksX0_seen_0 2 rfl rfl)
theorem dX0_seen_5 : decode cX0_seen 5 = .ok (.ifCond .eq 11, 3) := dk_153 0 11 (dk_at dksX0_seen_0 5 rfl rfl)
theorem dX0_seen_8 : decode cX0_seen 8 = .ok (.aload_n 0, 1) := dk_42 (dk_at dksX0_seen_0 8 rfl rfl)
theorem dX0_seen_9 : decode cX0_seen 9 = .ok (.iload_n 2, 1) := dk_28 (dk_at dksX0_seen_0 9 rfl rfl)
theorem dX0_seen_10 : decode cX0_seen 10 = .ok (.invokevirtual 213, 3) := dk_182 0 213 (dk_at dksX0_seen_0 10 rfl rfl)
theorem dX0_seen_13 : decode cX0_seen 13 = .ok (.ifCond .ne 6, 3) := dk_154 0 6 (dk_at dksX0_seen_0 13 rfl rfl)
theorem dX0_seen_16 : decode cX0_seen 16 = .ok (.bipush (-2), 2) := dk_16 254 (dk_at dksX0_seen_0 16 rfl rfl)
theorem dX0_seen_18 : decode cX0_seen 18 = .ok (.ireturn, 1) := dk_172 (dk_at dksX0_seen_0 18 rfl rfl)
theorem dX0_seen_19 : decode cX0_seen 19 = .ok (.iload_n 3, 1) := dk_29 (dk_at dksX0_seen_0 19 rfl rfl)
theorem dX0_seen_20 : decode cX0_seen 20 = .ok (.i2l, 1) := dk_133 (dk_at dksX0_seen_0 20 rfl rfl)
theorem dX0_seen_21 : decode cX0_seen 21 = .ok (.lconst 0, 1) := dk_9 (dk_at dksX0_seen_0 21 rfl rfl)
theorem dX0_seen_22 : decode cX0_seen 22 = .ok (.aload_n 0, 1) := dk_42 (dk_at dksX0_seen_0 22 rfl rfl)
theorem dX0_seen_23 : decode cX0_seen 23 = .ok (.getfield 45, 3) := dk_180 0 45 (dk_at dksX0_seen_1 0 rfl rfl)
theorem dX0_seen_26 : decode cX0_seen 26 = .ok (.getfield 80, 3) := dk_180 0 80 (dk_at dksX0_seen_1 3 rfl rfl)
theorem dX0_seen_29 : decode cX0_seen 29 = .ok (.i2l, 1) := dk_133 (dk_at dksX0_seen_1 6 rfl rfl)
theorem dX0_seen_30 : decode cX0_seen 30 = .ok (.invokestatic 181, 3) := dk_184 0 181 (dk_at dksX0_seen_1 7 rfl rfl)
theorem dX0_seen_33 : decode cX0_seen 33 = .ok (.ifCond .eq 14, 3) := dk_153 0 14 (dk_at dksX0_seen_1 10 rfl rfl)
theorem dX0_seen_36 : decode cX0_seen 36 = .ok (.iload 4, 2) := dk_21 4 (dk_at dksX0_seen_1 13 rfl rfl)
theorem dX0_seen_38 : decode cX0_seen 38 = .ok (.i2l, 1) := dk_133 (dk_at dksX0_seen_1 15 rfl rfl)
theorem dX0_seen_39 : decode cX0_seen 39 = .ok (.lconst 0, 1) := dk_9 (dk_at dksX0_seen_1 16 rfl rfl)
theorem dX0_seen_40 : decode cX0_seen 40 = .ok (.lconst 1, 1) := dk_10 (dk_at dksX0_seen_1 17 rfl rfl)
theorem dX0_seen_41 : decode cX0_seen 41 = .ok (.invokestatic 181, 3) := dk_184 0 181 (dk_at dksX0_seen_1 18 rfl rfl)
theorem dX0_seen_44 : decode cX0_seen 44 = .ok (.ifCond .ne 6, 3) := dk_154 0 6 (dk_at dksX0_seen_1 21 rfl rfl)
theorem dX0_seen_47 : decode cX0_seen 47 = .ok (.bipush (-3), 2) := dk_16 253 (dk_at dksX0_seen_2 0 rfl rfl)
theorem dX0_seen_49 : decode cX0_seen 49 = .ok (.ireturn, 1) := dk_172 (dk_at dksX0_seen_2 2 rfl rfl)
theorem dX0_seen_50 : decode cX0_seen 50 = .ok (.aload_n 0, 1) := dk_42 (dk_at dksX0_seen_2 3 rfl rfl)
theorem dX0_seen_51 : decode cX0_seen 51 = .ok (.getfield 86, 3) := dk_180 0 86 (dk_at dksX0_seen_2 4 rfl rfl)
theorem dX0_seen_54 : decode cX0_seen 54 = .ok (.bipush 8, 2) := dk_16 8 (dk_at dksX0_seen_2 7 rfl rfl)
theorem dX0_seen_56 : decode cX0_seen 56 = .ok (.if_icmp .ne 6, 3) := dk_160 0 6 (dk_at dksX0_seen_2 9 rfl rfl)
theorem dX0_seen_59 : decode cX0_seen 59 = .ok (.bipush (-5), 2) := dk_16 251 (dk_at dksX0_seen_2 12 rfl rfl)
theorem dX0_seen_61 : decode cX0_seen 61 = .ok (.ireturn, 1) := dk_172 (dk_at dksX0_seen_2 14 rfl rfl)
theorem dX0_seen_62 : decode cX0_seen 62 = .ok (.aload_n 0, 1) := dk_42 (dk_at dksX0_seen_2 15 rfl rfl)
theorem dX0_seen_63 : decode cX0_seen 63 = .ok (.getfield 161, 3) := dk_180 0 161 (dk_at dksX0_seen_2 16 rfl rfl)
theorem dX0_seen_66 : decode cX0_seen 66 = .ok (.aload_n 0, 1) := dk_42 (dk_at dksX0_seen_2 19 rfl rfl)
theorem dX0_seen_67 : decode cX0_seen 67 = .ok (.getfield 86, 3) := dk_180 0 86 (dk_at dksX0_seen_2 20 rfl rfl)
theorem dX0_seen_70 : decode cX0_seen 70 = .ok (.iconst 4, 1) := dk_7 (dk_at dksX0_seen_2 23 rfl rfl)
theorem dX0_seen_71 : decode cX0_seen 71 = .ok (.newarray .int, 2) := dk_188_10 (dk_at dksX0_seen_3 0 rfl rfl)
theorem dX0_seen_73 : decode cX0_seen 73 = .ok (.dup, 1) := dk_89 (dk_at dksX0_seen_3 2 rfl rfl)
theorem dX0_seen_74 : decode cX0_seen 74 = .ok (.iconst 0, 1) := dk_3 (dk_at dksX0_seen_3 3 rfl rfl)
theorem dX0_seen_75 : decode cX0_seen 75 = .ok (.iload_n 1, 1) := dk_27 (dk_at dksX0_seen_3 4 rfl rfl)
theorem dX0_seen_76 : decode cX0_seen 76 = .ok (.iastore, 1) := dk_79 (dk_at dksX0_seen_3 5 rfl rfl)
theorem dX0_seen_77 : decode cX0_seen 77 = .ok (.dup, 1) := dk_89 (dk_at dksX0_seen_3 6 rfl rfl)
theorem dX0_seen_78 : decode cX0_seen 78 = .ok (.iconst 1, 1) := dk_4 (dk_at dksX0_seen_3 7 rfl rfl)
theorem dX0_seen_79 : decode cX0_seen 79 = .ok (.iload_n 2, 1) := dk_28 (dk_at dksX0_seen_3 8 rfl rfl)
theorem dX0_seen_80 : decode cX0_seen 80 = .ok (.iastore, 1) := dk_79 (dk_at dksX0_seen_3 9 rfl rfl)
theorem dX0_seen_81 : decode cX0_seen 81 = .ok (.dup, 1) := dk_89 (dk_at dksX0_seen_3 10 rfl rfl)
theorem dX0_seen_82 : decode cX0_seen 82 = .ok (.iconst 2, 1) := dk_5 (dk_at dksX0_seen_3 11 rfl rfl)
theorem dX0_seen_83 : decode cX0_seen 83 = .ok (.iload_n 3, 1) := dk_29 (dk_at dksX0_seen_3 12 rfl rfl)
theorem dX0_seen_84 : decode cX0_seen 84 = .ok (.iastore, 1) := dk_79 (dk_at dksX0_seen_3 13 rfl rfl)
theorem dX0_seen_85 : decode cX0_seen 85 = .ok (.dup, 1) := dk_89 (dk_at dksX0_seen_3 14 rfl rfl)
theorem dX0_seen_86 : decode cX0_seen 86 = .ok (.iconst 3, 1) := dk_6 (dk_at dksX0_seen_3 15 rfl rfl)
theorem dX0_seen_87 : decode cX0_seen 87 = .ok (.iload 4, 2) := dk_21 4 (dk_at dksX0_seen_3 16 rfl rfl)
theorem dX0_seen_89 : decode cX0_seen 89 = .ok (.iastore, 1) := dk_79 (dk_at dksX0_seen_3 18 rfl rfl)
theorem dX0_seen_90 : decode cX0_seen 90 = .ok (.aastore, 1) := dk_83 (dk_at dksX0_seen_3 19 rfl rfl)
theorem dX0_seen_91 : decode cX0_seen 91 = .ok (.aload_n 0, 1) := dk_42 (dk_at dksX0_seen_3 20 rfl rfl)
theorem dX0_seen_92 : decode cX0_seen 92 = .ok (.dup, 1) := dk_89 (dk_at dksX0_seen_3 21 rfl rfl)
theorem dX0_seen_93 : decode cX0_seen 93 = .ok (.getfield 86, 3) := dk_180 0 86 (dk_at dksX0_seen_4 0 rfl rfl)
theorem dX0_seen_96 : decode cX0_seen 96 = .ok (.iconst 1, 1) := dk_4 (dk_at dksX0_seen_4 3 rfl rfl)
theorem dX0_seen_97 : decode cX0_seen 97 = .ok (.iadd, 1) := dk_96 (dk_at dksX0_seen_4 4 rfl rfl)
theorem dX0_seen_98 : decode cX0_seen 98 = .ok (.dup_x1, 1) := dk_90 (dk_at dksX0_seen_4 5 rfl rfl)
theorem dX0_seen_99 : decode cX0_seen 99 = .ok (.putfield 86, 3) := dk_181 0 86 (dk_at dksX0_seen_4 6 rfl rfl)
theorem dX0_seen_102 : decode cX0_seen 102 = .ok (.ireturn, 1) := dk_172 (dk_at dksX0_seen_4 9 rfl rfl)
abbrev cX0_forget : ByteArray := prog_1_method_49_code
def yX0_forget : MethodName := ⟨RX0, "forget", "()I"⟩
def dkwX0_forget_0 : List UInt8 := [42, 180, 0, 86, 60, 42, 3, 181, 0, 86, 27, 172]
abbrev dktX0_forget_0 : List UInt8 := dkwX0_forget_0 ++ []
theorem dksX0_forget_0 : cX0_forget.data.toList.drop 0 = dktX0_forget_0 := by decide +kernel
theorem dX0_forget_0 : decode cX0_forget 0 = .ok (.aload_n 0, 1) := dk_42 (dk_at dksX0_forget_0 0 rfl rfl)
theorem dX0_forget_1 : decode cX0_forget 1 = .ok (.getfield 86, 3) := dk_180 0 86 (dk_at dksX0_forget_0 1 rfl rfl)
theorem dX0_forget_4 : decode cX0_forget 4 = .ok (.istore_n 1, 1) := dk_60 (dk_at dksX0_forget_0 4 rfl rfl)
theorem dX0_forget_5 : decode cX0_forget 5 = .ok (.aload_n 0, 1) := dk_42 (dk_at dksX0_forget_0 5 rfl rfl)
theorem dX0_forget_6 : decode cX0_forget 6 = .ok (.iconst 0, 1) := dk_3 (dk_at dksX0_forget_0 6 rfl rfl)
theorem dX0_forget_7 : decode cX0_forget 7 = .ok (.putfield 86, 3) := dk_181 0 86 (dk_at dksX0_forget_0 7 rfl rfl)
theorem dX0_forget_10 : decode cX0_forget 10 = .ok (.iload_n 1, 1) := dk_27 (dk_at dksX0_forget_0 10 rfl rfl)
theorem dX0_forget_11 : decode cX0_forget 11 = .ok (.ireturn, 1) := dk_172 (dk_at dksX0_forget_0 11 rfl rfl)
abbrev cX0_worlds : ByteArray := prog_1_method_51_code
def yX0_worlds : MethodName := ⟨RX0, "worlds", "(I)I"⟩
def dkwX0_worlds_6 : List UInt8 := [167, 0, 14, 27, 4, 160, 0, 7, 29, 167, 0, 5, 21, 4, 172]
abbrev dktX0_worlds_6 : List UInt8 := dkwX0_worlds_6 ++ []
def dkwX0_worlds_5 : List UInt8 := [132, 7, 1, 167, 255, 185, 132, 6, 1, 167, 255, 167, 132, 5, 1, 167, 255, 149, 27, 154, 0, 7, 28]
abbrev dktX0_worlds_5 : List UInt8 := dkwX0_worlds_5 ++ dktX0_worlds_6
def dkwX0_worlds_4 : List UInt8 := [128, 62, 21, 4, 4, 21, 7, 2, 160, 0, 8, 16, 6, 167, 0, 5, 21, 7, 120, 128, 54, 4]
abbrev dktX0_worlds_4 : List UInt8 := dkwX0_worlds_4 ++ dktX0_worlds_5
def dkwX0_worlds_3 : List UInt8 := [132, 2, 1, 29, 4, 21, 5, 21, 6, 42, 180, 0, 45, 180, 0, 80, 104, 96, 42, 180, 0, 115, 112, 120]
abbrev dktX0_worlds_3 : List UInt8 := dkwX0_worlds_3 ++ dktX0_worlds_4
def dkwX0_worlds_2 : List UInt8 := [54, 7, 21, 7, 42, 180, 0, 64, 162, 0, 68, 42, 21, 5, 21, 6, 21, 7, 182, 1, 56, 153, 0, 49]
abbrev dktX0_worlds_2 : List UInt8 := dkwX0_worlds_2 ++ dktX0_worlds_3
def dkwX0_worlds_1 : List UInt8 := [54, 5, 21, 5, 42, 180, 0, 115, 162, 0, 104, 3, 54, 6, 21, 6, 42, 180, 0, 115, 162, 0, 86, 2]
abbrev dktX0_worlds_1 : List UInt8 := dkwX0_worlds_1 ++ dktX0_worlds_2
def dkwX0_worlds_0 : List UInt8 := [27, 133, 9, 20, 1, 54, 184, 0, 181, 154, 0, 6, 16, 253, 172, 3, 61, 3, 62, 3, 54, 4, 3]
abbrev dktX0_worlds_0 : List UInt8 := dkwX0_worlds_0 ++ dktX0_worlds_1
theorem dksX0_worlds_0 : cX0_worlds.data.toList.drop 0 = dktX0_worlds_0 := by decide +kernel
theorem dksX0_worlds_1 : cX0_worlds.data.toList.drop 23 = dktX0_worlds_1 := dk_seg dksX0_worlds_0 23 rfl rfl
theorem dksX0_worlds_2 : cX0_worlds.data.toList.drop 47 = dktX0_worlds_2 := dk_seg dksX0_worlds_1 24 rfl rfl
theorem dksX0_worlds_3 : cX0_worlds.data.toList.drop 71 = dktX0_worlds_3 := dk_seg dksX0_worlds_2 24 rfl rfl
theorem dksX0_worlds_4 : cX0_worlds.data.toList.drop 95 = dktX0_worlds_4 := dk_seg dksX0_worlds_3 24 rfl rfl
theorem dksX0_worlds_5 : cX0_worlds.data.toList.drop 117 = dktX0_worlds_5 := dk_seg dksX0_worlds_4 22 rfl rfl
theorem dksX0_worlds_6 : cX0_worlds.data.toList.drop 140 = dktX0_worlds_6 := dk_seg dksX0_worlds_5 23 rfl rfl
theorem dX0_worlds_0 : decode cX0_worlds 0 = .ok (.iload_n 1, 1) := dk_27 (dk_at dksX0_worlds_0 0 rfl rfl)
theorem dX0_worlds_1 : decode cX0_worlds 1 = .ok (.i2l, 1) := dk_133 (dk_at dksX0_worlds_0 1 rfl rfl)
theorem dX0_worlds_2 : decode cX0_worlds 2 = .ok (.lconst 0, 1) := dk_9 (dk_at dksX0_worlds_0 2 rfl rfl)
theorem dX0_worlds_3 : decode cX0_worlds 3 = .ok (.ldc2_w 310, 3) := dk_20 1 54 (dk_at dksX0_worlds_0 3 rfl rfl)
theorem dX0_worlds_6 : decode cX0_worlds 6 = .ok (.invokestatic 181, 3) := dk_184 0 181 (dk_at dksX0_worlds_0 6 rfl rfl)
theorem dX0_worlds_9 : decode cX0_worlds 9 = .ok (.ifCond .ne 6, 3) := dk_154 0 6 (dk_at dksX0_worlds_0 9 rfl rfl)
theorem dX0_worlds_12 : decode cX0_worlds 12 = .ok (.bipush (-3), 2) := dk_16 253 (dk_at dksX0_worlds_0 12 rfl rfl)
theorem dX0_worlds_14 : decode cX0_worlds 14 = .ok (.ireturn, 1) := dk_172 (dk_at dksX0_worlds_0 14 rfl rfl)
theorem dX0_worlds_15 : decode cX0_worlds 15 = .ok (.iconst 0, 1) := dk_3 (dk_at dksX0_worlds_0 15 rfl rfl)
theorem dX0_worlds_16 : decode cX0_worlds 16 = .ok (.istore_n 2, 1) := dk_61 (dk_at dksX0_worlds_0 16 rfl rfl)
theorem dX0_worlds_17 : decode cX0_worlds 17 = .ok (.iconst 0, 1) := dk_3 (dk_at dksX0_worlds_0 17 rfl rfl)
theorem dX0_worlds_18 : decode cX0_worlds 18 = .ok (.istore_n 3, 1) := dk_62 (dk_at dksX0_worlds_0 18 rfl rfl)
theorem dX0_worlds_19 : decode cX0_worlds 19 = .ok (.iconst 0, 1) := dk_3 (dk_at dksX0_worlds_0 19 rfl rfl)
theorem dX0_worlds_20 : decode cX0_worlds 20 = .ok (.istore 4, 2) := dk_54 4 (dk_at dksX0_worlds_0 20 rfl rfl)
theorem dX0_worlds_22 : decode cX0_worlds 22 = .ok (.iconst 0, 1) := dk_3 (dk_at dksX0_worlds_0 22 rfl rfl)
theorem dX0_worlds_23 : decode cX0_worlds 23 = .ok (.istore 5, 2) := dk_54 5 (dk_at dksX0_worlds_1 0 rfl rfl)
theorem dX0_worlds_25 : decode cX0_worlds 25 = .ok (.iload 5, 2) := dk_21 5 (dk_at dksX0_worlds_1 2 rfl rfl)
theorem dX0_worlds_27 : decode cX0_worlds 27 = .ok (.aload_n 0, 1) := dk_42 (dk_at dksX0_worlds_1 4 rfl rfl)
theorem dX0_worlds_28 : decode cX0_worlds 28 = .ok (.getfield 115, 3) := dk_180 0 115 (dk_at dksX0_worlds_1 5 rfl rfl)
theorem dX0_worlds_31 : decode cX0_worlds 31 = .ok (.if_icmp .ge 104, 3) := dk_162 0 104 (dk_at dksX0_worlds_1 8 rfl rfl)
theorem dX0_worlds_34 : decode cX0_worlds 34 = .ok (.iconst 0, 1) := dk_3 (dk_at dksX0_worlds_1 11 rfl rfl)
theorem dX0_worlds_35 : decode cX0_worlds 35 = .ok (.istore 6, 2) := dk_54 6 (dk_at dksX0_worlds_1 12 rfl rfl)
theorem dX0_worlds_37 : decode cX0_worlds 37 = .ok (.iload 6, 2) := dk_21 6 (dk_at dksX0_worlds_1 14 rfl rfl)
theorem dX0_worlds_39 : decode cX0_worlds 39 = .ok (.aload_n 0, 1) := dk_42 (dk_at dksX0_worlds_1 16 rfl rfl)
theorem dX0_worlds_40 : decode cX0_worlds 40 = .ok (.getfield 115, 3) := dk_180 0 115 (dk_at dksX0_worlds_1 17 rfl rfl)
theorem dX0_worlds_43 : decode cX0_worlds 43 = .ok (.if_icmp .ge 86, 3) := dk_162 0 86 (dk_at dksX0_worlds_1 20 rfl rfl)
theorem dX0_worlds_46 : decode cX0_worlds 46 = .ok (.iconst (-1), 1) := dk_2 (dk_at dksX0_worlds_1 23 rfl rfl)
theorem dX0_worlds_47 : decode cX0_worlds 47 = .ok (.istore 7, 2) := dk_54 7 (dk_at dksX0_worlds_2 0 rfl rfl)
theorem dX0_worlds_49 : decode cX0_worlds 49 = .ok (.iload 7, 2) := dk_21 7 (dk_at dksX0_worlds_2 2 rfl rfl)
theorem dX0_worlds_51 : decode cX0_worlds 51 = .ok (.aload_n 0, 1) := dk_42 (dk_at dksX0_worlds_2 4 rfl rfl)
theorem dX0_worlds_52 : decode cX0_worlds 52 = .ok (.getfield 64, 3) := dk_180 0 64 (dk_at dksX0_worlds_2 5 rfl rfl)
theorem dX0_worlds_55 : decode cX0_worlds 55 = .ok (.if_icmp .ge 68, 3) := dk_162 0 68 (dk_at dksX0_worlds_2 8 rfl rfl)
theorem dX0_worlds_58 : decode cX0_worlds 58 = .ok (.aload_n 0, 1) := dk_42 (dk_at dksX0_worlds_2 11 rfl rfl)
theorem dX0_worlds_59 : decode cX0_worlds 59 = .ok (.iload 5, 2) := dk_21 5 (dk_at dksX0_worlds_2 12 rfl rfl)
theorem dX0_worlds_61 : decode cX0_worlds 61 = .ok (.iload 6, 2) := dk_21 6 (dk_at dksX0_worlds_2 14 rfl rfl)
theorem dX0_worlds_63 : decode cX0_worlds 63 = .ok (.iload 7, 2) := dk_21 7 (dk_at dksX0_worlds_2 16 rfl rfl)
theorem dX0_worlds_65 : decode cX0_worlds 65 = .ok (.invokevirtual 312, 3) := dk_182 1 56 (dk_at dksX0_worlds_2 18 rfl rfl)
theorem dX0_worlds_68 : decode cX0_worlds 68 = .ok (.ifCond .eq 49, 3) := dk_153 0 49 (dk_at dksX0_worlds_2 21 rfl rfl)
theorem dX0_worlds_71 : decode cX0_worlds 71 = .ok (.iinc 2 1, 3) := dk_132 2 1 (dk_at dksX0_worlds_3 0 rfl rfl)
theorem dX0_worlds_74 : decode cX0_worlds 74 = .ok (.iload_n 3, 1) := dk_29 (dk_at dksX0_worlds_3 3 rfl rfl)
theorem dX0_worlds_75 : decode cX0_worlds 75 = .ok (.iconst 1, 1) := dk_4 (dk_at dksX0_worlds_3 4 rfl rfl)
theorem dX0_worlds_76 : decode cX0_worlds 76 = .ok (.iload 5, 2) := dk_21 5 (dk_at dksX0_worlds_3 5 rfl rfl)
theorem dX0_worlds_78 : decode cX0_worlds 78 = .ok (.iload 6, 2) := dk_21 6 (dk_at dksX0_worlds_3 7 rfl rfl)
theorem dX0_worlds_80 : decode cX0_worlds 80 = .ok (.aload_n 0, 1) := dk_42 (dk_at dksX0_worlds_3 9 rfl rfl)
theorem dX0_worlds_81 : decode cX0_worlds 81 = .ok (.getfield 45, 3) := dk_180 0 45 (dk_at dksX0_worlds_3 10 rfl rfl)
theorem dX0_worlds_84 : decode cX0_worlds 84 = .ok (.getfield 80, 3) := dk_180 0 80 (dk_at dksX0_worlds_3 13 rfl rfl)
theorem dX0_worlds_87 : decode cX0_worlds 87 = .ok (.imul, 1) := dk_104 (dk_at dksX0_worlds_3 16 rfl rfl)
theorem dX0_worlds_88 : decode cX0_worlds 88 = .ok (.iadd, 1) := dk_96 (dk_at dksX0_worlds_3 17 rfl rfl)
theorem dX0_worlds_89 : decode cX0_worlds 89 = .ok (.aload_n 0, 1) := dk_42 (dk_at dksX0_worlds_3 18 rfl rfl)
theorem dX0_worlds_90 : decode cX0_worlds 90 = .ok (.getfield 115, 3) := dk_180 0 115 (dk_at dksX0_worlds_3 19 rfl rfl)
theorem dX0_worlds_93 : decode cX0_worlds 93 = .ok (.irem, 1) := dk_112 (dk_at dksX0_worlds_3 22 rfl rfl)
theorem dX0_worlds_94 : decode cX0_worlds 94 = .ok (.ishl, 1) := dk_120 (dk_at dksX0_worlds_3 23 rfl rfl)
theorem dX0_worlds_95 : decode cX0_worlds 95 = .ok (.ior, 1) := dk_128 (dk_at dksX0_worlds_4 0 rfl rfl)
theorem dX0_worlds_96 : decode cX0_worlds 96 = .ok (.istore_n 3, 1) := dk_62 (dk_at dksX0_worlds_4 1 rfl rfl)
theorem dX0_worlds_97 : decode cX0_worlds 97 = .ok (.iload 4, 2) := dk_21 4 (dk_at dksX0_worlds_4 2 rfl rfl)
theorem dX0_worlds_99 : decode cX0_worlds 99 = .ok (.iconst 1, 1) := dk_4 (dk_at dksX0_worlds_4 4 rfl rfl)
theorem dX0_worlds_100 : decode cX0_worlds 100 = .ok (.iload 7, 2) := dk_21 7 (dk_at dksX0_worlds_4 5 rfl rfl)
theorem dX0_worlds_102 : decode cX0_worlds 102 = .ok (.iconst (-1), 1) := dk_2 (dk_at dksX0_worlds_4 7 rfl rfl)
theorem dX0_worlds_103 : decode cX0_worlds 103 = .ok (.if_icmp .ne 8, 3) := dk_160 0 8 (dk_at dksX0_worlds_4 8 rfl rfl)
theorem dX0_worlds_106 : decode cX0_worlds 106 = .ok (.bipush 6, 2) := dk_16 6 (dk_at dksX0_worlds_4 11 rfl rfl)
theorem dX0_worlds_108 : decode cX0_worlds 108 = .ok (.goto 5, 3) := dk_167 0 5 (dk_at dksX0_worlds_4 13 rfl rfl)
theorem dX0_worlds_111 : decode cX0_worlds 111 = .ok (.iload 7, 2) := dk_21 7 (dk_at dksX0_worlds_4 16 rfl rfl)
theorem dX0_worlds_113 : decode cX0_worlds 113 = .ok (.ishl, 1) := dk_120 (dk_at dksX0_worlds_4 18 rfl rfl)
theorem dX0_worlds_114 : decode cX0_worlds 114 = .ok (.ior, 1) := dk_128 (dk_at dksX0_worlds_4 19 rfl rfl)
theorem dX0_worlds_115 : decode cX0_worlds 115 = .ok (.istore 4, 2) := dk_54 4 (dk_at dksX0_worlds_4 20 rfl rfl)
theorem dX0_worlds_117 : decode cX0_worlds 117 = .ok (.iinc 7 1, 3) := dk_132 7 1 (dk_at dksX0_worlds_5 0 rfl rfl)
theorem dX0_worlds_120 : decode cX0_worlds 120 = .ok (.goto (-71), 3) := dk_167 255 185 (dk_at dksX0_worlds_5 3 rfl rfl)
theorem dX0_worlds_123 : decode cX0_worlds 123 = .ok (.iinc 6 1, 3) := dk_132 6 1 (dk_at dksX0_worlds_5 6 rfl rfl)
theorem dX0_worlds_126 : decode cX0_worlds 126 = .ok (.goto (-89), 3) := dk_167 255 167 (dk_at dksX0_worlds_5 9 rfl rfl)
theorem dX0_worlds_129 : decode cX0_worlds 129 = .ok (.iinc 5 1, 3) := dk_132 5 1 (dk_at dksX0_worlds_5 12 rfl rfl)
theorem dX0_worlds_132 : decode cX0_worlds 132 = .ok (.goto (-107), 3) := dk_167 255 149 (dk_at dksX0_worlds_5 15 rfl rfl)
theorem dX0_worlds_135 : decode cX0_worlds 135 = .ok (.iload_n 1, 1) := dk_27 (dk_at dksX0_worlds_5 18 rfl rfl)
theorem dX0_worlds_136 : decode cX0_worlds 136 = .ok (.ifCond .ne 7, 3) := dk_154 0 7 (dk_at dksX0_worlds_5 19 rfl rfl)
theorem dX0_worlds_139 : decode cX0_worlds 139 = .ok (.iload_n 2, 1) := dk_28 (dk_at dksX0_worlds_5 22 rfl rfl)
theorem dX0_worlds_140 : decode cX0_worlds 140 = .ok (.goto 14, 3) := dk_167 0 14 (dk_at dksX0_worlds_6 0 rfl rfl)
theorem dX0_worlds_143 : decode cX0_worlds 143 = .ok (.iload_n 1, 1) := dk_27 (dk_at dksX0_worlds_6 3 rfl rfl)
theorem dX0_worlds_144 : decode cX0_worlds 144 = .ok (.iconst 1, 1) := dk_4 (dk_at dksX0_worlds_6 4 rfl rfl)
theorem dX0_worlds_145 : decode cX0_worlds 145 = .ok (.if_icmp .ne 7, 3) := dk_160 0 7 (dk_at dksX0_worlds_6 5 rfl rfl)
theorem dX0_worlds_148 : decode cX0_worlds 148 = .ok (.iload_n 3, 1) := dk_29 (dk_at dksX0_worlds_6 8 rfl rfl)
theorem dX0_worlds_149 : decode cX0_worlds 149 = .ok (.goto 5, 3) := dk_167 0 5 (dk_at dksX0_worlds_6 9 rfl rfl)
theorem dX0_worlds_152 : decode cX0_worlds 152 = .ok (.iload 4, 2) := dk_21 4 (dk_at dksX0_worlds_6 12 rfl rfl)
theorem dX0_worlds_154 : decode cX0_worlds 154 = .ok (.ireturn, 1) := dk_172 (dk_at dksX0_worlds_6 14 rfl rfl)
abbrev cX0_isWorld : ByteArray := prog_1_method_50_code
def yX0_isWorld : MethodName := ⟨RX0, "isWorld", "(III)Z"⟩
def dkwX0_isWorld_3 : List UInt8 := [3, 160, 0, 6, 167, 0, 5, 3, 172, 132, 4, 1, 167, 255, 177, 4, 172]
abbrev dktX0_isWorld_3 : List UInt8 := dkwX0_isWorld_3 ++ []
def dkwX0_isWorld_2 : List UInt8 := [159, 0, 7, 4, 167, 0, 4, 3, 54, 6, 21, 6, 25, 5, 6, 46, 4, 160, 0, 7, 4, 167, 0, 4]
abbrev dktX0_isWorld_2 : List UInt8 := dkwX0_isWorld_2 ++ dktX0_isWorld_3
def dkwX0_isWorld_1 : List UInt8 := [25, 5, 5, 46, 104, 96, 42, 180, 0, 115, 112, 25, 5, 4, 46, 160, 0, 15, 29, 25, 5, 3, 46]
abbrev dktX0_isWorld_1 : List UInt8 := dkwX0_isWorld_1 ++ dktX0_isWorld_2
def dkwX0_isWorld_0 : List UInt8 := [3, 54, 4, 21, 4, 42, 180, 0, 86, 162, 0, 76, 42, 180, 0, 161, 21, 4, 50, 58, 5, 27, 28]
abbrev dktX0_isWorld_0 : List UInt8 := dkwX0_isWorld_0 ++ dktX0_isWorld_1
theorem dksX0_isWorld_0 : cX0_isWorld.data.toList.drop 0 = dktX0_isWorld_0 := by decide +kernel
theorem dksX0_isWorld_1 : cX0_isWorld.data.toList.drop 23 = dktX0_isWorld_1 := dk_seg dksX0_isWorld_0 23 rfl rfl
theorem dksX0_isWorld_2 : cX0_isWorld.data.toList.drop 46 = dktX0_isWorld_2 := dk_seg dksX0_isWorld_1 23 rfl rfl
theorem dksX0_isWorld_3 : cX0_isWorld.data.toList.drop 70 = dktX0_isWorld_3 := dk_seg dksX0_isWorld_2 24 rfl rfl
theorem dX0_isWorld_0 : decode cX0_isWorld 0 = .ok (.iconst 0, 1) := dk_3 (dk_at dksX0_isWorld_0 0 rfl rfl)
theorem dX0_isWorld_1 : decode cX0_isWorld 1 = .ok (.istore 4, 2) := dk_54 4 (dk_at dksX0_isWorld_0 1 rfl rfl)
theorem dX0_isWorld_3 : decode cX0_isWorld 3 = .ok (.iload 4, 2) := dk_21 4 (dk_at dksX0_isWorld_0 3 rfl rfl)
theorem dX0_isWorld_5 : decode cX0_isWorld 5 = .ok (.aload_n 0, 1) := dk_42 (dk_at dksX0_isWorld_0 5 rfl rfl)
theorem dX0_isWorld_6 : decode cX0_isWorld 6 = .ok (.getfield 86, 3) := dk_180 0 86 (dk_at dksX0_isWorld_0 6 rfl rfl)
theorem dX0_isWorld_9 : decode cX0_isWorld 9 = .ok (.if_icmp .ge 76, 3) := dk_162 0 76 (dk_at dksX0_isWorld_0 9 rfl rfl)
theorem dX0_isWorld_12 : decode cX0_isWorld 12 = .ok (.aload_n 0, 1) := dk_42 (dk_at dksX0_isWorld_0 12 rfl rfl)
theorem dX0_isWorld_13 : decode cX0_isWorld 13 = .ok (.getfield 161, 3) := dk_180 0 161 (dk_at dksX0_isWorld_0 13 rfl rfl)
theorem dX0_isWorld_16 : decode cX0_isWorld 16 = .ok (.iload 4, 2) := dk_21 4 (dk_at dksX0_isWorld_0 16 rfl rfl)
theorem dX0_isWorld_18 : decode cX0_isWorld 18 = .ok (.aaload, 1) := dk_50 (dk_at dksX0_isWorld_0 18 rfl rfl)
theorem dX0_isWorld_19 : decode cX0_isWorld 19 = .ok (.astore 5, 2) := dk_58 5 (dk_at dksX0_isWorld_0 19 rfl rfl)
theorem dX0_isWorld_21 : decode cX0_isWorld 21 = .ok (.iload_n 1, 1) := dk_27 (dk_at dksX0_isWorld_0 21 rfl rfl)
theorem dX0_isWorld_22 : decode cX0_isWorld 22 = .ok (.iload_n 2, 1) := dk_28 (dk_at dksX0_isWorld_0 22 rfl rfl)
theorem dX0_isWorld_23 : decode cX0_isWorld 23 = .ok (.aload 5, 2) := dk_25 5 (dk_at dksX0_isWorld_1 0 rfl rfl)
theorem dX0_isWorld_25 : decode cX0_isWorld 25 = .ok (.iconst 2, 1) := dk_5 (dk_at dksX0_isWorld_1 2 rfl rfl)
theorem dX0_isWorld_26 : decode cX0_isWorld 26 = .ok (.iaload, 1) := dk_46 (dk_at dksX0_isWorld_1 3 rfl rfl)
theorem dX0_isWorld_27 : decode cX0_isWorld 27 = .ok (.imul, 1) := dk_104 (dk_at dksX0_isWorld_1 4 rfl rfl)
theorem dX0_isWorld_28 : decode cX0_isWorld 28 = .ok (.iadd, 1) := dk_96 (dk_at dksX0_isWorld_1 5 rfl rfl)
theorem dX0_isWorld_29 : decode cX0_isWorld 29 = .ok (.aload_n 0, 1) := dk_42 (dk_at dksX0_isWorld_1 6 rfl rfl)
theorem dX0_isWorld_30 : decode cX0_isWorld 30 = .ok (.getfield 115, 3) := dk_180 0 115 (dk_at dksX0_isWorld_1 7 rfl rfl)
theorem dX0_isWorld_33 : decode cX0_isWorld 33 = .ok (.irem, 1) := dk_112 (dk_at dksX0_isWorld_1 10 rfl rfl)
theorem dX0_isWorld_34 : decode cX0_isWorld 34 = .ok (.aload 5, 2) := dk_25 5 (dk_at dksX0_isWorld_1 11 rfl rfl)
theorem dX0_isWorld_36 : decode cX0_isWorld 36 = .ok (.iconst 1, 1) := dk_4 (dk_at dksX0_isWorld_1 13 rfl rfl)
theorem dX0_isWorld_37 : decode cX0_isWorld 37 = .ok (.iaload, 1) := dk_46 (dk_at dksX0_isWorld_1 14 rfl rfl)
theorem dX0_isWorld_38 : decode cX0_isWorld 38 = .ok (.if_icmp .ne 15, 3) := dk_160 0 15 (dk_at dksX0_isWorld_1 15 rfl rfl)
theorem dX0_isWorld_41 : decode cX0_isWorld 41 = .ok (.iload_n 3, 1) := dk_29 (dk_at dksX0_isWorld_1 18 rfl rfl)
theorem dX0_isWorld_42 : decode cX0_isWorld 42 = .ok (.aload 5, 2) := dk_25 5 (dk_at dksX0_isWorld_1 19 rfl rfl)
theorem dX0_isWorld_44 : decode cX0_isWorld 44 = .ok (.iconst 0, 1) := dk_3 (dk_at dksX0_isWorld_1 21 rfl rfl)
theorem dX0_isWorld_45 : decode cX0_isWorld 45 = .ok (.iaload, 1) := dk_46 (dk_at dksX0_isWorld_1 22 rfl rfl)
theorem dX0_isWorld_46 : decode cX0_isWorld 46 = .ok (.if_icmp .eq 7, 3) := dk_159 0 7 (dk_at dksX0_isWorld_2 0 rfl rfl)
theorem dX0_isWorld_49 : decode cX0_isWorld 49 = .ok (.iconst 1, 1) := dk_4 (dk_at dksX0_isWorld_2 3 rfl rfl)
theorem dX0_isWorld_50 : decode cX0_isWorld 50 = .ok (.goto 4, 3) := dk_167 0 4 (dk_at dksX0_isWorld_2 4 rfl rfl)
theorem dX0_isWorld_53 : decode cX0_isWorld 53 = .ok (.iconst 0, 1) := dk_3 (dk_at dksX0_isWorld_2 7 rfl rfl)
theorem dX0_isWorld_54 : decode cX0_isWorld 54 = .ok (.istore 6, 2) := dk_54 6 (dk_at dksX0_isWorld_2 8 rfl rfl)
theorem dX0_isWorld_56 : decode cX0_isWorld 56 = .ok (.iload 6, 2) := dk_21 6 (dk_at dksX0_isWorld_2 10 rfl rfl)
theorem dX0_isWorld_58 : decode cX0_isWorld 58 = .ok (.aload 5, 2) := dk_25 5 (dk_at dksX0_isWorld_2 12 rfl rfl)
theorem dX0_isWorld_60 : decode cX0_isWorld 60 = .ok (.iconst 3, 1) := dk_6 (dk_at dksX0_isWorld_2 14 rfl rfl)
theorem dX0_isWorld_61 : decode cX0_isWorld 61 = .ok (.iaload, 1) := dk_46 (dk_at dksX0_isWorld_2 15 rfl rfl)
theorem dX0_isWorld_62 : decode cX0_isWorld 62 = .ok (.iconst 1, 1) := dk_4 (dk_at dksX0_isWorld_2 16 rfl rfl)
theorem dX0_isWorld_63 : decode cX0_isWorld 63 = .ok (.if_icmp .ne 7, 3) := dk_160 0 7 (dk_at dksX0_isWorld_2 17 rfl rfl)
theorem dX0_isWorld_66 : decode cX0_isWorld 66 = .ok (.iconst 1, 1) := dk_4 (dk_at dksX0_isWorld_2 20 rfl rfl)
theorem dX0_isWorld_67 : decode cX0_isWorld 67 = .ok (.goto 4, 3) := dk_167 0 4 (dk_at dksX0_isWorld_2 21 rfl rfl)
theorem dX0_isWorld_70 : decode cX0_isWorld 70 = .ok (.iconst 0, 1) := dk_3 (dk_at dksX0_isWorld_3 0 rfl rfl)
theorem dX0_isWorld_71 : decode cX0_isWorld 71 = .ok (.if_icmp .ne 6, 3) := dk_160 0 6 (dk_at dksX0_isWorld_3 1 rfl rfl)
theorem dX0_isWorld_74 : decode cX0_isWorld 74 = .ok (.goto 5, 3) := dk_167 0 5 (dk_at dksX0_isWorld_3 4 rfl rfl)
theorem dX0_isWorld_77 : decode cX0_isWorld 77 = .ok (.iconst 0, 1) := dk_3 (dk_at dksX0_isWorld_3 7 rfl rfl)
theorem dX0_isWorld_78 : decode cX0_isWorld 78 = .ok (.ireturn, 1) := dk_172 (dk_at dksX0_isWorld_3 8 rfl rfl)
theorem dX0_isWorld_79 : decode cX0_isWorld 79 = .ok (.iinc 4 1, 3) := dk_132 4 1 (dk_at dksX0_isWorld_3 9 rfl rfl)
theorem dX0_isWorld_82 : decode cX0_isWorld 82 = .ok (.goto (-79), 3) := dk_167 255 177 (dk_at dksX0_isWorld_3 12 rfl rfl)
theorem dX0_isWorld_85 : decode cX0_isWorld 85 = .ok (.iconst 1, 1) := dk_4 (dk_at dksX0_isWorld_3 15 rfl rfl)
theorem dX0_isWorld_86 : decode cX0_isWorld 86 = .ok (.ireturn, 1) := dk_172 (dk_at dksX0_isWorld_3 16 rfl rfl)
abbrev cX0_safest : ByteArray := prog_1_method_53_code
def yX0_safest : MethodName := ⟨RX0, "safest", "(II)I"⟩
def dkwX0_safest_4 : List UInt8 := [2, 159, 0, 7, 28, 154, 0, 7, 29, 167, 0, 5, 21, 4, 172]
abbrev dktX0_safest_4 : List UInt8 := dkwX0_safest_4 ++ []
def dkwX0_safest_3 : List UInt8 := [159, 0, 10, 21, 6, 21, 4, 162, 0, 10, 21, 5, 62, 21, 6, 54, 4, 132, 5, 1, 167, 255, 196, 29]
abbrev dktX0_safest_3 : List UInt8 := dkwX0_safest_3 ++ dktX0_safest_4
def dkwX0_safest_2 : List UInt8 := [153, 0, 13, 42, 27, 21, 5, 182, 1, 60, 167, 0, 4, 2, 54, 6, 21, 6, 2, 159, 0, 22, 29, 2]
abbrev dktX0_safest_2 : List UInt8 := dkwX0_safest_2 ++ dktX0_safest_3
def dkwX0_safest_1 : List UInt8 := [2, 62, 3, 54, 4, 3, 54, 5, 21, 5, 42, 180, 0, 115, 162, 0, 57, 42, 27, 21, 5, 182, 0, 124]
abbrev dktX0_safest_1 : List UInt8 := dkwX0_safest_1 ++ dktX0_safest_2
def dkwX0_safest_0 : List UInt8 := [42, 27, 182, 0, 223, 154, 0, 6, 16, 254, 172, 28, 133, 9, 10, 184, 0, 181, 154, 0, 6, 16, 253, 172]
abbrev dktX0_safest_0 : List UInt8 := dkwX0_safest_0 ++ dktX0_safest_1
theorem dksX0_safest_0 : cX0_safest.data.toList.drop 0 = dktX0_safest_0 := by decide +kernel
theorem dksX0_safest_1 : cX0_safest.data.toList.drop 24 = dktX0_safest_1 := dk_seg dksX0_safest_0 24 rfl rfl
theorem dksX0_safest_2 : cX0_safest.data.toList.drop 48 = dktX0_safest_2 := dk_seg dksX0_safest_1 24 rfl rfl
theorem dksX0_safest_3 : cX0_safest.data.toList.drop 72 = dktX0_safest_3 := dk_seg dksX0_safest_2 24 rfl rfl
theorem dksX0_safest_4 : cX0_safest.data.toList.drop 96 = dktX0_safest_4 := dk_seg dksX0_safest_3 24 rfl rfl
theorem dX0_safest_0 : decode cX0_safest 0 = .ok (.aload_n 0, 1) := dk_42 (dk_at dksX0_safest_0 0 rfl rfl)
theorem dX0_safest_1 : decode cX0_safest 1 = .ok (.iload_n 1, 1) := dk_27 (dk_at dksX0_safest_0 1 rfl rfl)
theorem dX0_safest_2 : decode cX0_safest 2 = .ok (.invokevirtual 223, 3) := dk_182 0 223 (dk_at dksX0_safest_0 2 rfl rfl)
theorem dX0_safest_5 : decode cX0_safest 5 = .ok (.ifCond .ne 6, 3) := dk_154 0 6 (dk_at dksX0_safest_0 5 rfl rfl)
theorem dX0_safest_8 : decode cX0_safest 8 = .ok (.bipush (-2), 2) := dk_16 254 (dk_at dksX0_safest_0 8 rfl rfl)
theorem dX0_safest_10 : decode cX0_safest 10 = .ok (.ireturn, 1) := dk_172 (dk_at dksX0_safest_0 10 rfl rfl)
theorem dX0_safest_11 : decode cX0_safest 11 = .ok (.iload_n 2, 1) := dk_28 (dk_at dksX0_safest_0 11 rfl rfl)
theorem dX0_safest_12 : decode cX0_safest 12 = .ok (.i2l, 1) := dk_133 (dk_at dksX0_safest_0 12 rfl rfl)
theorem dX0_safest_13 : decode cX0_safest 13 = .ok (.lconst 0, 1) := dk_9 (dk_at dksX0_safest_0 13 rfl rfl)
theorem dX0_safest_14 : decode cX0_safest 14 = .ok (.lconst 1, 1) := dk_10 (dk_at dksX0_safest_0 14 rfl rfl)
theorem dX0_safest_15 : decode cX0_safest 15 = .ok (.invokestatic 181, 3) := dk_184 0 181 (dk_at dksX0_safest_0 15 rfl rfl)
theorem dX0_safest_18 : decode cX0_safest 18 = .ok (.ifCond .ne 6, 3) := dk_154 0 6 (dk_at dksX0_safest_0 18 rfl rfl)
theorem dX0_safest_21 : decode cX0_safest 21 = .ok (.bipush (-3), 2) := dk_16 253 (dk_at dksX0_safest_0 21 rfl rfl)
theorem dX0_safest_23 : decode cX0_safest 23 = .ok (.ireturn, 1) := dk_172 (dk_at dksX0_safest_0 23 rfl rfl)
theorem dX0_safest_24 : decode cX0_safest 24 = .ok (.iconst (-1), 1) := dk_2 (dk_at dksX0_safest_1 0 rfl rfl)
theorem dX0_safest_25 : decode cX0_safest 25 = .ok (.istore_n 3, 1) := dk_62 (dk_at dksX0_safest_1 1 rfl rfl)
theorem dX0_safest_26 : decode cX0_safest 26 = .ok (.iconst 0, 1) := dk_3 (dk_at dksX0_safest_1 2 rfl rfl)
theorem dX0_safest_27 : decode cX0_safest 27 = .ok (.istore 4, 2) := dk_54 4 (dk_at dksX0_safest_1 3 rfl rfl)
theorem dX0_safest_29 : decode cX0_safest 29 = .ok (.iconst 0, 1) := dk_3 (dk_at dksX0_safest_1 5 rfl rfl)
theorem dX0_safest_30 : decode cX0_safest 30 = .ok (.istore 5, 2) := dk_54 5 (dk_at dksX0_safest_1 6 rfl rfl)
theorem dX0_safest_32 : decode cX0_safest 32 = .ok (.iload 5, 2) := dk_21 5 (dk_at dksX0_safest_1 8 rfl rfl)
theorem dX0_safest_34 : decode cX0_safest 34 = .ok (.aload_n 0, 1) := dk_42 (dk_at dksX0_safest_1 10 rfl rfl)
theorem dX0_safest_35 : decode cX0_safest 35 = .ok (.getfield 115, 3) := dk_180 0 115 (dk_at dksX0_safest_1 11 rfl rfl)
theorem dX0_safest_38 : decode cX0_safest 38 = .ok (.if_icmp .ge 57, 3) := dk_162 0 57 (dk_at dksX0_safest_1 14 rfl rfl)
theorem dX0_safest_41 : decode cX0_safest 41 = .ok (.aload_n 0, 1) := dk_42 (dk_at dksX0_safest_1 17 rfl rfl)
theorem dX0_safest_42 : decode cX0_safest 42 = .ok (.iload_n 1, 1) := dk_27 (dk_at dksX0_safest_1 18 rfl rfl)
theorem dX0_safest_43 : decode cX0_safest 43 = .ok (.iload 5, 2) := dk_21 5 (dk_at dksX0_safest_1 19 rfl rfl)
theorem dX0_safest_45 : decode cX0_safest 45 = .ok (.invokevirtual 124, 3) := dk_182 0 124 (dk_at dksX0_safest_1 21 rfl rfl)
theorem dX0_safest_48 : decode cX0_safest 48 = .ok (.ifCond .eq 13, 3) := dk_153 0 13 (dk_at dksX0_safest_2 0 rfl rfl)
theorem dX0_safest_51 : decode cX0_safest 51 = .ok (.aload_n 0, 1) := dk_42 (dk_at dksX0_safest_2 3 rfl rfl)
theorem dX0_safest_52 : decode cX0_safest 52 = .ok (.iload_n 1, 1) := dk_27 (dk_at dksX0_safest_2 4 rfl rfl)
theorem dX0_safest_53 : decode cX0_safest 53 = .ok (.iload 5, 2) := dk_21 5 (dk_at dksX0_safest_2 5 rfl rfl)
theorem dX0_safest_55 : decode cX0_safest 55 = .ok (.invokevirtual 316, 3) := dk_182 1 60 (dk_at dksX0_safest_2 7 rfl rfl)
theorem dX0_safest_58 : decode cX0_safest 58 = .ok (.goto 4, 3) := dk_167 0 4 (dk_at dksX0_safest_2 10 rfl rfl)
theorem dX0_safest_61 : decode cX0_safest 61 = .ok (.iconst (-1), 1) := dk_2 (dk_at dksX0_safest_2 13 rfl rfl)
theorem dX0_safest_62 : decode cX0_safest 62 = .ok (.istore 6, 2) := dk_54 6 (dk_at dksX0_safest_2 14 rfl rfl)
theorem dX0_safest_64 : decode cX0_safest 64 = .ok (.iload 6, 2) := dk_21 6 (dk_at dksX0_safest_2 16 rfl rfl)
theorem dX0_safest_66 : decode cX0_safest 66 = .ok (.iconst (-1), 1) := dk_2 (dk_at dksX0_safest_2 18 rfl rfl)
theorem dX0_safest_67 : decode cX0_safest 67 = .ok (.if_icmp .eq 22, 3) := dk_159 0 22 (dk_at dksX0_safest_2 19 rfl rfl)
theorem dX0_safest_70 : decode cX0_safest 70 = .ok (.iload_n 3, 1) := dk_29 (dk_at dksX0_safest_2 22 rfl rfl)
theorem dX0_safest_71 : decode cX0_safest 71 = .ok (.iconst (-1), 1) := dk_2 (dk_at dksX0_safest_2 23 rfl rfl)
theorem dX0_safest_72 : decode cX0_safest 72 = .ok (.if_icmp .eq 10, 3) := dk_159 0 10 (dk_at dksX0_safest_3 0 rfl rfl)
theorem dX0_safest_75 : decode cX0_safest 75 = .ok (.iload 6, 2) := dk_21 6 (dk_at dksX0_safest_3 3 rfl rfl)
theorem dX0_safest_77 : decode cX0_safest 77 = .ok (.iload 4, 2) := dk_21 4 (dk_at dksX0_safest_3 5 rfl rfl)
theorem dX0_safest_79 : decode cX0_safest 79 = .ok (.if_icmp .ge 10, 3) := dk_162 0 10 (dk_at dksX0_safest_3 7 rfl rfl)
theorem dX0_safest_82 : decode cX0_safest 82 = .ok (.iload 5, 2) := dk_21 5 (dk_at dksX0_safest_3 10 rfl rfl)
theorem dX0_safest_84 : decode cX0_safest 84 = .ok (.istore_n 3, 1) := dk_62 (dk_at dksX0_safest_3 12 rfl rfl)
theorem dX0_safest_85 : decode cX0_safest 85 = .ok (.iload 6, 2) := dk_21 6 (dk_at dksX0_safest_3 13 rfl rfl)
theorem dX0_safest_87 : decode cX0_safest 87 = .ok (.istore 4, 2) := dk_54 4 (dk_at dksX0_safest_3 15 rfl rfl)
theorem dX0_safest_89 : decode cX0_safest 89 = .ok (.iinc 5 1, 3) := dk_132 5 1 (dk_at dksX0_safest_3 17 rfl rfl)
theorem dX0_safest_92 : decode cX0_safest 92 = .ok (.goto (-60), 3) := dk_167 255 196 (dk_at dksX0_safest_3 20 rfl rfl)
theorem dX0_safest_95 : decode cX0_safest 95 = .ok (.iload_n 3, 1) := dk_29 (dk_at dksX0_safest_3 23 rfl rfl)
theorem dX0_safest_96 : decode cX0_safest 96 = .ok (.iconst (-1), 1) := dk_2 (dk_at dksX0_safest_4 0 rfl rfl)
theorem dX0_safest_97 : decode cX0_safest 97 = .ok (.if_icmp .eq 7, 3) := dk_159 0 7 (dk_at dksX0_safest_4 1 rfl rfl)
theorem dX0_safest_100 : decode cX0_safest 100 = .ok (.iload_n 2, 1) := dk_28 (dk_at dksX0_safest_4 4 rfl rfl)
theorem dX0_safest_101 : decode cX0_safest 101 = .ok (.ifCond .ne 7, 3) := dk_154 0 7 (dk_at dksX0_safest_4 5 rfl rfl)
theorem dX0_safest_104 : decode cX0_safest 104 = .ok (.iload_n 3, 1) := dk_29 (dk_at dksX0_safest_4 8 rfl rfl)
theorem dX0_safest_105 : decode cX0_safest 105 = .ok (.goto 5, 3) := dk_167 0 5 (dk_at dksX0_safest_4 9 rfl rfl)
theorem dX0_safest_108 : decode cX0_safest 108 = .ok (.iload 4, 2) := dk_21 4 (dk_at dksX0_safest_4 12 rfl rfl)
theorem dX0_safest_110 : decode cX0_safest 110 = .ok (.ireturn, 1) := dk_172 (dk_at dksX0_safest_4 14 rfl rfl)
abbrev cX0_dangers : ByteArray := prog_1_method_52_code
def yX0_dangers : MethodName := ⟨RX0, "dangers", "(II)I"⟩
def dkwX0_dangers_5 : List UInt8 := [167, 0, 4, 29, 172]
abbrev dktX0_dangers_5 : List UInt8 := dkwX0_dangers_5 ++ []
def dkwX0_dangers_4 : List UInt8 := [132, 5, 1, 167, 255, 177, 132, 4, 1, 167, 255, 159, 42, 27, 182, 0, 71, 182, 0, 135, 153, 0, 7, 3]
abbrev dktX0_dangers_4 : List UInt8 := dkwX0_dangers_4 ++ dktX0_dangers_5
def dkwX0_dangers_3 : List UInt8 := [21, 5, 21, 6, 182, 1, 56, 153, 0, 7, 4, 167, 0, 4, 3, 96, 62, 132, 6, 1, 167, 255, 195]
abbrev dktX0_dangers_3 : List UInt8 := dkwX0_dangers_3 ++ dktX0_dangers_4
def dkwX0_dangers_2 : List UInt8 := [180, 0, 80, 104, 96, 42, 180, 0, 115, 112, 28, 160, 0, 26, 21, 6, 27, 159, 0, 20, 42, 21, 4]
abbrev dktX0_dangers_2 : List UInt8 := dkwX0_dangers_2 ++ dktX0_dangers_3
def dkwX0_dangers_1 : List UInt8 := [162, 0, 76, 2, 54, 6, 21, 6, 42, 180, 0, 64, 162, 0, 58, 29, 21, 4, 21, 5, 42, 180, 0, 45]
abbrev dktX0_dangers_1 : List UInt8 := dkwX0_dangers_1 ++ dktX0_dangers_2
def dkwX0_dangers_0 : List UInt8 := [3, 62, 3, 54, 4, 21, 4, 42, 180, 0, 115, 162, 0, 94, 3, 54, 5, 21, 5, 42, 180, 0, 115]
abbrev dktX0_dangers_0 : List UInt8 := dkwX0_dangers_0 ++ dktX0_dangers_1
theorem dksX0_dangers_0 : cX0_dangers.data.toList.drop 0 = dktX0_dangers_0 := by decide +kernel
theorem dksX0_dangers_1 : cX0_dangers.data.toList.drop 23 = dktX0_dangers_1 := dk_seg dksX0_dangers_0 23 rfl rfl
theorem dksX0_dangers_2 : cX0_dangers.data.toList.drop 47 = dktX0_dangers_2 := dk_seg dksX0_dangers_1 24 rfl rfl
theorem dksX0_dangers_3 : cX0_dangers.data.toList.drop 70 = dktX0_dangers_3 := dk_seg dksX0_dangers_2 23 rfl rfl
theorem dksX0_dangers_4 : cX0_dangers.data.toList.drop 93 = dktX0_dangers_4 := dk_seg dksX0_dangers_3 23 rfl rfl
theorem dksX0_dangers_5 : cX0_dangers.data.toList.drop 117 = dktX0_dangers_5 := dk_seg dksX0_dangers_4 24 rfl rfl
theorem dX0_dangers_0 : decode cX0_dangers 0 = .ok (.iconst 0, 1) := dk_3 (dk_at dksX0_dangers_0 0 rfl rfl)
theorem dX0_dangers_1 : decode cX0_dangers 1 = .ok (.istore_n 3, 1) := dk_62 (dk_at dksX0_dangers_0 1 rfl rfl)
theorem dX0_dangers_2 : decode cX0_dangers 2 = .ok (.iconst 0, 1) := dk_3 (dk_at dksX0_dangers_0 2 rfl rfl)
theorem dX0_dangers_3 : decode cX0_dangers 3 = .ok (.istore 4, 2) := dk_54 4 (dk_at dksX0_dangers_0 3 rfl rfl)
theorem dX0_dangers_5 : decode cX0_dangers 5 = .ok (.iload 4, 2) := dk_21 4 (dk_at dksX0_dangers_0 5 rfl rfl)
theorem dX0_dangers_7 : decode cX0_dangers 7 = .ok (.aload_n 0, 1) := dk_42 (dk_at dksX0_dangers_0 7 rfl rfl)
theorem dX0_dangers_8 : decode cX0_dangers 8 = .ok (.getfield 115, 3) := dk_180 0 115 (dk_at dksX0_dangers_0 8 rfl rfl)
theorem dX0_dangers_11 : decode cX0_dangers 11 = .ok (.if_icmp .ge 94, 3) := dk_162 0 94 (dk_at dksX0_dangers_0 11 rfl rfl)
theorem dX0_dangers_14 : decode cX0_dangers 14 = .ok (.iconst 0, 1) := dk_3 (dk_at dksX0_dangers_0 14 rfl rfl)
theorem dX0_dangers_15 : decode cX0_dangers 15 = .ok (.istore 5, 2) := dk_54 5 (dk_at dksX0_dangers_0 15 rfl rfl)
theorem dX0_dangers_17 : decode cX0_dangers 17 = .ok (.iload 5, 2) := dk_21 5 (dk_at dksX0_dangers_0 17 rfl rfl)
theorem dX0_dangers_19 : decode cX0_dangers 19 = .ok (.aload_n 0, 1) := dk_42 (dk_at dksX0_dangers_0 19 rfl rfl)
theorem dX0_dangers_20 : decode cX0_dangers 20 = .ok (.getfield 115, 3) := dk_180 0 115 (dk_at dksX0_dangers_0 20 rfl rfl)
theorem dX0_dangers_23 : decode cX0_dangers 23 = .ok (.if_icmp .ge 76, 3) := dk_162 0 76 (dk_at dksX0_dangers_1 0 rfl rfl)
theorem dX0_dangers_26 : decode cX0_dangers 26 = .ok (.iconst (-1), 1) := dk_2 (dk_at dksX0_dangers_1 3 rfl rfl)
theorem dX0_dangers_27 : decode cX0_dangers 27 = .ok (.istore 6, 2) := dk_54 6 (dk_at dksX0_dangers_1 4 rfl rfl)
theorem dX0_dangers_29 : decode cX0_dangers 29 = .ok (.iload 6, 2) := dk_21 6 (dk_at dksX0_dangers_1 6 rfl rfl)
theorem dX0_dangers_31 : decode cX0_dangers 31 = .ok (.aload_n 0, 1) := dk_42 (dk_at dksX0_dangers_1 8 rfl rfl)
theorem dX0_dangers_32 : decode cX0_dangers 32 = .ok (.getfield 64, 3) := dk_180 0 64 (dk_at dksX0_dangers_1 9 rfl rfl)
theorem dX0_dangers_35 : decode cX0_dangers 35 = .ok (.if_icmp .ge 58, 3) := dk_162 0 58 (dk_at dksX0_dangers_1 12 rfl rfl)
theorem dX0_dangers_38 : decode cX0_dangers 38 = .ok (.iload_n 3, 1) := dk_29 (dk_at dksX0_dangers_1 15 rfl rfl)
theorem dX0_dangers_39 : decode cX0_dangers 39 = .ok (.iload 4, 2) := dk_21 4 (dk_at dksX0_dangers_1 16 rfl rfl)
theorem dX0_dangers_41 : decode cX0_dangers 41 = .ok (.iload 5, 2) := dk_21 5 (dk_at dksX0_dangers_1 18 rfl rfl)
theorem dX0_dangers_43 : decode cX0_dangers 43 = .ok (.aload_n 0, 1) := dk_42 (dk_at dksX0_dangers_1 20 rfl rfl)
theorem dX0_dangers_44 : decode cX0_dangers 44 = .ok (.getfield 45, 3) := dk_180 0 45 (dk_at dksX0_dangers_1 21 rfl rfl)
theorem dX0_dangers_47 : decode cX0_dangers 47 = .ok (.getfield 80, 3) := dk_180 0 80 (dk_at dksX0_dangers_2 0 rfl rfl)
theorem dX0_dangers_50 : decode cX0_dangers 50 = .ok (.imul, 1) := dk_104 (dk_at dksX0_dangers_2 3 rfl rfl)
theorem dX0_dangers_51 : decode cX0_dangers 51 = .ok (.iadd, 1) := dk_96 (dk_at dksX0_dangers_2 4 rfl rfl)
theorem dX0_dangers_52 : decode cX0_dangers 52 = .ok (.aload_n 0, 1) := dk_42 (dk_at dksX0_dangers_2 5 rfl rfl)
theorem dX0_dangers_53 : decode cX0_dangers 53 = .ok (.getfield 115, 3) := dk_180 0 115 (dk_at dksX0_dangers_2 6 rfl rfl)
theorem dX0_dangers_56 : decode cX0_dangers 56 = .ok (.irem, 1) := dk_112 (dk_at dksX0_dangers_2 9 rfl rfl)
theorem dX0_dangers_57 : decode cX0_dangers 57 = .ok (.iload_n 2, 1) := dk_28 (dk_at dksX0_dangers_2 10 rfl rfl)
theorem dX0_dangers_58 : decode cX0_dangers 58 = .ok (.if_icmp .ne 26, 3) := dk_160 0 26 (dk_at dksX0_dangers_2 11 rfl rfl)
theorem dX0_dangers_61 : decode cX0_dangers 61 = .ok (.iload 6, 2) := dk_21 6 (dk_at dksX0_dangers_2 14 rfl rfl)
theorem dX0_dangers_63 : decode cX0_dangers 63 = .ok (.iload_n 1, 1) := dk_27 (dk_at dksX0_dangers_2 16 rfl rfl)
theorem dX0_dangers_64 : decode cX0_dangers 64 = .ok (.if_icmp .eq 20, 3) := dk_159 0 20 (dk_at dksX0_dangers_2 17 rfl rfl)
theorem dX0_dangers_67 : decode cX0_dangers 67 = .ok (.aload_n 0, 1) := dk_42 (dk_at dksX0_dangers_2 20 rfl rfl)
theorem dX0_dangers_68 : decode cX0_dangers 68 = .ok (.iload 4, 2) := dk_21 4 (dk_at dksX0_dangers_2 21 rfl rfl)
theorem dX0_dangers_70 : decode cX0_dangers 70 = .ok (.iload 5, 2) := dk_21 5 (dk_at dksX0_dangers_3 0 rfl rfl)
theorem dX0_dangers_72 : decode cX0_dangers 72 = .ok (.iload 6, 2) := dk_21 6 (dk_at dksX0_dangers_3 2 rfl rfl)
theorem dX0_dangers_74 : decode cX0_dangers 74 = .ok (.invokevirtual 312, 3) := dk_182 1 56 (dk_at dksX0_dangers_3 4 rfl rfl)
theorem dX0_dangers_77 : decode cX0_dangers 77 = .ok (.ifCond .eq 7, 3) := dk_153 0 7 (dk_at dksX0_dangers_3 7 rfl rfl)
theorem dX0_dangers_80 : decode cX0_dangers 80 = .ok (.iconst 1, 1) := dk_4 (dk_at dksX0_dangers_3 10 rfl rfl)
theorem dX0_dangers_81 : decode cX0_dangers 81 = .ok (.goto 4, 3) := dk_167 0 4 (dk_at dksX0_dangers_3 11 rfl rfl)
theorem dX0_dangers_84 : decode cX0_dangers 84 = .ok (.iconst 0, 1) := dk_3 (dk_at dksX0_dangers_3 14 rfl rfl)
theorem dX0_dangers_85 : decode cX0_dangers 85 = .ok (.iadd, 1) := dk_96 (dk_at dksX0_dangers_3 15 rfl rfl)
theorem dX0_dangers_86 : decode cX0_dangers 86 = .ok (.istore_n 3, 1) := dk_62 (dk_at dksX0_dangers_3 16 rfl rfl)
theorem dX0_dangers_87 : decode cX0_dangers 87 = .ok (.iinc 6 1, 3) := dk_132 6 1 (dk_at dksX0_dangers_3 17 rfl rfl)
theorem dX0_dangers_90 : decode cX0_dangers 90 = .ok (.goto (-61), 3) := dk_167 255 195 (dk_at dksX0_dangers_3 20 rfl rfl)
theorem dX0_dangers_93 : decode cX0_dangers 93 = .ok (.iinc 5 1, 3) := dk_132 5 1 (dk_at dksX0_dangers_4 0 rfl rfl)
theorem dX0_dangers_96 : decode cX0_dangers 96 = .ok (.goto (-79), 3) := dk_167 255 177 (dk_at dksX0_dangers_4 3 rfl rfl)
theorem dX0_dangers_99 : decode cX0_dangers 99 = .ok (.iinc 4 1, 3) := dk_132 4 1 (dk_at dksX0_dangers_4 6 rfl rfl)
theorem dX0_dangers_102 : decode cX0_dangers 102 = .ok (.goto (-97), 3) := dk_167 255 159 (dk_at dksX0_dangers_4 9 rfl rfl)
theorem dX0_dangers_105 : decode cX0_dangers 105 = .ok (.aload_n 0, 1) := dk_42 (dk_at dksX0_dangers_4 12 rfl rfl)
theorem dX0_dangers_106 : decode cX0_dangers 106 = .ok (.iload_n 1, 1) := dk_27 (dk_at dksX0_dangers_4 13 rfl rfl)
theorem dX0_dangers_107 : decode cX0_dangers 107 = .ok (.invokevirtual 71, 3) := dk_182 0 71 (dk_at dksX0_dangers_4 14 rfl rfl)
theorem dX0_dangers_110 : decode cX0_dangers 110 = .ok (.invokevirtual 135, 3) := dk_182 0 135 (dk_at dksX0_dangers_4 17 rfl rfl)
theorem dX0_dangers_113 : decode cX0_dangers 113 = .ok (.ifCond .eq 7, 3) := dk_153 0 7 (dk_at dksX0_dangers_4 20 rfl rfl)
theorem dX0_dangers_116 : decode cX0_dangers 116 = .ok (.iconst 0, 1) := dk_3 (dk_at dksX0_dangers_4 23 rfl rfl)
theorem dX0_dangers_117 : decode cX0_dangers 117 = .ok (.goto 4, 3) := dk_167 0 4 (dk_at dksX0_dangers_5 0 rfl rfl)
theorem dX0_dangers_120 : decode cX0_dangers 120 = .ok (.iload_n 3, 1) := dk_29 (dk_at dksX0_dangers_5 3 rfl rfl)
theorem dX0_dangers_121 : decode cX0_dangers 121 = .ok (.ireturn, 1) := dk_172 (dk_at dksX0_dangers_5 4 rfl rfl)
abbrev cX0_quests : ByteArray := prog_1_method_54_code
def yX0_quests : MethodName := ⟨RX0, "quests", "(IIIII)J"⟩
def dkwX0_quests_9 : List UInt8 := [22, 8, 22, 6, 22, 8, 184, 0, 153, 109, 173]
abbrev dktX0_quests_9 : List UInt8 := dkwX0_quests_9 ++ []
def dkwX0_quests_8 : List UInt8 := [22, 6, 22, 12, 97, 55, 6, 132, 10, 1, 167, 255, 149, 21, 5, 154, 0, 8, 22, 6, 167, 0, 5]
abbrev dktX0_quests_8 : List UInt8 := dkwX0_quests_8 ++ dktX0_quests_9
def dkwX0_quests_7 : List UInt8 := [153, 0, 9, 21, 4, 133, 167, 0, 9, 16, 10, 21, 4, 100, 133, 105, 55, 12, 132, 14, 1, 167, 255, 220]
abbrev dktX0_quests_7 : List UInt8 := dkwX0_quests_7 ++ dktX0_quests_8
def dkwX0_quests_6 : List UInt8 := [167, 0, 4, 9, 55, 12, 3, 54, 14, 21, 14, 29, 162, 0, 36, 22, 12, 21, 10, 21, 14, 184, 0, 142]
abbrev dktX0_quests_6 : List UInt8 := dkwX0_quests_6 ++ dktX0_quests_7
def dkwX0_quests_5 : List UInt8 := [184, 1, 28, 54, 11, 42, 27, 182, 0, 71, 42, 28, 182, 0, 107, 21, 11, 182, 0, 111, 153, 0, 7, 10]
abbrev dktX0_quests_5 : List UInt8 := dkwX0_quests_5 ++ dktX0_quests_6
def dkwX0_quests_4 : List UInt8 := [29, 120, 162, 0, 105, 16, 9, 42, 180, 0, 45, 180, 0, 68, 27, 46, 21, 10, 184, 0, 254, 96]
abbrev dktX0_quests_4 : List UInt8 := dkwX0_quests_4 ++ dktX0_quests_5
def dkwX0_quests_3 : List UInt8 := [29, 162, 0, 17, 22, 8, 20, 1, 67, 105, 55, 8, 132, 10, 1, 167, 255, 239, 3, 54, 10, 21, 10, 4]
abbrev dktX0_quests_3 : List UInt8 := dkwX0_quests_3 ++ dktX0_quests_4
def dkwX0_quests_2 : List UInt8 := [133, 9, 10, 184, 0, 181, 154, 0, 7, 20, 1, 69, 173, 9, 55, 6, 10, 55, 8, 3, 54, 10, 21, 10]
abbrev dktX0_quests_2 : List UInt8 := dkwX0_quests_2 ++ dktX0_quests_3
def dkwX0_quests_1 : List UInt8 := [20, 1, 65, 184, 0, 181, 153, 0, 27, 21, 4, 133, 9, 20, 1, 67, 184, 0, 181, 153, 0, 14, 21, 5]
abbrev dktX0_quests_1 : List UInt8 := dkwX0_quests_1 ++ dktX0_quests_2
def dkwX0_quests_0 : List UInt8 := [42, 27, 182, 0, 223, 153, 0, 11, 42, 28, 182, 0, 213, 154, 0, 7, 20, 1, 63, 173, 29, 133, 9]
abbrev dktX0_quests_0 : List UInt8 := dkwX0_quests_0 ++ dktX0_quests_1
theorem dksX0_quests_0 : cX0_quests.data.toList.drop 0 = dktX0_quests_0 := by decide +kernel
theorem dksX0_quests_1 : cX0_quests.data.toList.drop 23 = dktX0_quests_1 := dk_seg dksX0_quests_0 23 rfl rfl
theorem dksX0_quests_2 : cX0_quests.data.toList.drop 47 = dktX0_quests_2 := dk_seg dksX0_quests_1 24 rfl rfl
theorem dksX0_quests_3 : cX0_quests.data.toList.drop 71 = dktX0_quests_3 := dk_seg dksX0_quests_2 24 rfl rfl
theorem dksX0_quests_4 : cX0_quests.data.toList.drop 95 = dktX0_quests_4 := dk_seg dksX0_quests_3 24 rfl rfl
theorem dksX0_quests_5 : cX0_quests.data.toList.drop 117 = dktX0_quests_5 := dk_seg dksX0_quests_4 22 rfl rfl
theorem dksX0_quests_6 : cX0_quests.data.toList.drop 141 = dktX0_quests_6 := dk_seg dksX0_quests_5 24 rfl rfl
theorem dksX0_quests_7 : cX0_quests.data.toList.drop 165 = dktX0_quests_7 := dk_seg dksX0_quests_6 24 rfl rfl
theorem dksX0_quests_8 : cX0_quests.data.toList.drop 189 = dktX0_quests_8 := dk_seg dksX0_quests_7 24 rfl rfl
theorem dksX0_quests_9 : cX0_quests.data.toList.drop 212 = dktX0_quests_9 := dk_seg dksX0_quests_8 23 rfl rfl
theorem dX0_quests_0 : decode cX0_quests 0 = .ok (.aload_n 0, 1) := dk_42 (dk_at dksX0_quests_0 0 rfl rfl)
theorem dX0_quests_1 : decode cX0_quests 1 = .ok (.iload_n 1, 1) := dk_27 (dk_at dksX0_quests_0 1 rfl rfl)
theorem dX0_quests_2 : decode cX0_quests 2 = .ok (.invokevirtual 223, 3) := dk_182 0 223 (dk_at dksX0_quests_0 2 rfl rfl)
theorem dX0_quests_5 : decode cX0_quests 5 = .ok (.ifCond .eq 11, 3) := dk_153 0 11 (dk_at dksX0_quests_0 5 rfl rfl)
theorem dX0_quests_8 : decode cX0_quests 8 = .ok (.aload_n 0, 1) := dk_42 (dk_at dksX0_quests_0 8 rfl rfl)
theorem dX0_quests_9 : decode cX0_quests 9 = .ok (.iload_n 2, 1) := dk_28 (dk_at dksX0_quests_0 9 rfl rfl)
theorem dX0_quests_10 : decode cX0_quests 10 = .ok (.invokevirtual 213, 3) := dk_182 0 213 (dk_at dksX0_quests_0 10 rfl rfl)
theorem dX0_quests_13 : decode cX0_quests 13 = .ok (.ifCond .ne 7, 3) := dk_154 0 7 (dk_at dksX0_quests_0 13 rfl rfl)
theorem dX0_quests_16 : decode cX0_quests 16 = .ok (.ldc2_w 319, 3) := dk_20 1 63 (dk_at dksX0_quests_0 16 rfl rfl)
theorem dX0_quests_19 : decode cX0_quests 19 = .ok (.lreturn, 1) := dk_173 (dk_at dksX0_quests_0 19 rfl rfl)
theorem dX0_quests_20 : decode cX0_quests 20 = .ok (.iload_n 3, 1) := dk_29 (dk_at dksX0_quests_0 20 rfl rfl)
theorem dX0_quests_21 : decode cX0_quests 21 = .ok (.i2l, 1) := dk_133 (dk_at dksX0_quests_0 21 rfl rfl)
theorem dX0_quests_22 : decode cX0_quests 22 = .ok (.lconst 0, 1) := dk_9 (dk_at dksX0_quests_0 22 rfl rfl)
theorem dX0_quests_23 : decode cX0_quests 23 = .ok (.ldc2_w 321, 3) := dk_20 1 65 (dk_at dksX0_quests_1 0 rfl rfl)
theorem dX0_quests_26 : decode cX0_quests 26 = .ok (.invokestatic 181, 3) := dk_184 0 181 (dk_at dksX0_quests_1 3 rfl rfl)
theorem dX0_quests_29 : decode cX0_quests 29 = .ok (.ifCond .eq 27, 3) := dk_153 0 27 (dk_at dksX0_quests_1 6 rfl rfl)
theorem dX0_quests_32 : decode cX0_quests 32 = .ok (.iload 4, 2) := dk_21 4 (dk_at dksX0_quests_1 9 rfl rfl)
theorem dX0_quests_34 : decode cX0_quests 34 = .ok (.i2l, 1) := dk_133 (dk_at dksX0_quests_1 11 rfl rfl)
theorem dX0_quests_35 : decode cX0_quests 35 = .ok (.lconst 0, 1) := dk_9 (dk_at dksX0_quests_1 12 rfl rfl)
theorem dX0_quests_36 : decode cX0_quests 36 = .ok (.ldc2_w 323, 3) := dk_20 1 67 (dk_at dksX0_quests_1 13 rfl rfl)
theorem dX0_quests_39 : decode cX0_quests 39 = .ok (.invokestatic 181, 3) := dk_184 0 181 (dk_at dksX0_quests_1 16 rfl rfl)
theorem dX0_quests_42 : decode cX0_quests 42 = .ok (.ifCond .eq 14, 3) := dk_153 0 14 (dk_at dksX0_quests_1 19 rfl rfl)
theorem dX0_quests_45 : decode cX0_quests 45 = .ok (.iload 5, 2) := dk_21 5 (dk_at dksX0_quests_1 22 rfl rfl)
theorem dX0_quests_47 : decode cX0_quests 47 = .ok (.i2l, 1) := dk_133 (dk_at dksX0_quests_2 0 rfl rfl)
theorem dX0_quests_48 : decode cX0_quests 48 = .ok (.lconst 0, 1) := dk_9 (dk_at dksX0_quests_2 1 rfl rfl)
theorem dX0_quests_49 : decode cX0_quests 49 = .ok (.lconst 1, 1) := dk_10 (dk_at dksX0_quests_2 2 rfl rfl)
theorem dX0_quests_50 : decode cX0_quests 50 = .ok (.invokestatic 181, 3) := dk_184 0 181 (dk_at dksX0_quests_2 3 rfl rfl)
theorem dX0_quests_53 : decode cX0_quests 53 = .ok (.ifCond .ne 7, 3) := dk_154 0 7 (dk_at dksX0_quests_2 6 rfl rfl)
theorem dX0_quests_56 : decode cX0_quests 56 = .ok (.ldc2_w 325, 3) := dk_20 1 69 (dk_at dksX0_quests_2 9 rfl rfl)
theorem dX0_quests_59 : decode cX0_quests 59 = .ok (.lreturn, 1) := dk_173 (dk_at dksX0_quests_2 12 rfl rfl)
theorem dX0_quests_60 : decode cX0_quests 60 = .ok (.lconst 0, 1) := dk_9 (dk_at dksX0_quests_2 13 rfl rfl)
theorem dX0_quests_61 : decode cX0_quests 61 = .ok (.lstore 6, 2) := dk_55 6 (dk_at dksX0_quests_2 14 rfl rfl)
theorem dX0_quests_63 : decode cX0_quests 63 = .ok (.lconst 1, 1) := dk_10 (dk_at dksX0_quests_2 16 rfl rfl)
theorem dX0_quests_64 : decode cX0_quests 64 = .ok (.lstore 8, 2) := dk_55 8 (dk_at dksX0_quests_2 17 rfl rfl)
theorem dX0_quests_66 : decode cX0_quests 66 = .ok (.iconst 0, 1) := dk_3 (dk_at dksX0_quests_2 19 rfl rfl)
theorem dX0_quests_67 : decode cX0_quests 67 = .ok (.istore 10, 2) := dk_54 10 (dk_at dksX0_quests_2 20 rfl rfl)
theorem dX0_quests_69 : decode cX0_quests 69 = .ok (.iload 10, 2) := dk_21 10 (dk_at dksX0_quests_2 22 rfl rfl)
theorem dX0_quests_71 : decode cX0_quests 71 = .ok (.iload_n 3, 1) := dk_29 (dk_at dksX0_quests_3 0 rfl rfl)
theorem dX0_quests_72 : decode cX0_quests 72 = .ok (.if_icmp .ge 17, 3) := dk_162 0 17 (dk_at dksX0_quests_3 1 rfl rfl)
theorem dX0_quests_75 : decode cX0_quests 75 = .ok (.lload 8, 2) := dk_22 8 (dk_at dksX0_quests_3 4 rfl rfl)
theorem dX0_quests_77 : decode cX0_quests 77 = .ok (.ldc2_w 323, 3) := dk_20 1 67 (dk_at dksX0_quests_3 6 rfl rfl)
theorem dX0_quests_80 : decode cX0_quests 80 = .ok (.lmul, 1) := dk_105 (dk_at dksX0_quests_3 9 rfl rfl)
theorem dX0_quests_81 : decode cX0_quests 81 = .ok (.lstore 8, 2) := dk_55 8 (dk_at dksX0_quests_3 10 rfl rfl)
theorem dX0_quests_83 : decode cX0_quests 83 = .ok (.iinc 10 1, 3) := dk_132 10 1 (dk_at dksX0_quests_3 12 rfl rfl)
theorem dX0_quests_86 : decode cX0_quests 86 = .ok (.goto (-17), 3) := dk_167 255 239 (dk_at dksX0_quests_3 15 rfl rfl)
theorem dX0_quests_89 : decode cX0_quests 89 = .ok (.iconst 0, 1) := dk_3 (dk_at dksX0_quests_3 18 rfl rfl)
theorem dX0_quests_90 : decode cX0_quests 90 = .ok (.istore 10, 2) := dk_54 10 (dk_at dksX0_quests_3 19 rfl rfl)
theorem dX0_quests_92 : decode cX0_quests 92 = .ok (.iload 10, 2) := dk_21 10 (dk_at dksX0_quests_3 21 rfl rfl)
theorem dX0_quests_94 : decode cX0_quests 94 = .ok (.iconst 1, 1) := dk_4 (dk_at dksX0_quests_3 23 rfl rfl)
theorem dX0_quests_95 : decode cX0_quests 95 = .ok (.iload_n 3, 1) := dk_29 (dk_at dksX0_quests_4 0 rfl rfl)
theorem dX0_quests_96 : decode cX0_quests 96 = .ok (.ishl, 1) := dk_120 (dk_at dksX0_quests_4 1 rfl rfl)
theorem dX0_quests_97 : decode cX0_quests 97 = .ok (.if_icmp .ge 105, 3) := dk_162 0 105 (dk_at dksX0_quests_4 2 rfl rfl)
theorem dX0_quests_100 : decode cX0_quests 100 = .ok (.bipush 9, 2) := dk_16 9 (dk_at dksX0_quests_4 5 rfl rfl)
theorem dX0_quests_102 : decode cX0_quests 102 = .ok (.aload_n 0, 1) := dk_42 (dk_at dksX0_quests_4 7 rfl rfl)
theorem dX0_quests_103 : decode cX0_quests 103 = .ok (.getfield 45, 3) := dk_180 0 45 (dk_at dksX0_quests_4 8 rfl rfl)
theorem dX0_quests_106 : decode cX0_quests 106 = .ok (.getfield 68, 3) := dk_180 0 68 (dk_at dksX0_quests_4 11 rfl rfl)
theorem dX0_quests_109 : decode cX0_quests 109 = .ok (.iload_n 1, 1) := dk_27 (dk_at dksX0_quests_4 14 rfl rfl)
theorem dX0_quests_110 : decode cX0_quests 110 = .ok (.iaload, 1) := dk_46 (dk_at dksX0_quests_4 15 rfl rfl)
theorem dX0_quests_111 : decode cX0_quests 111 = .ok (.iload 10, 2) := dk_21 10 (dk_at dksX0_quests_4 16 rfl rfl)
theorem dX0_quests_113 : decode cX0_quests 113 = .ok (.invokestatic 254, 3) := dk_184 0 254 (dk_at dksX0_quests_4 18 rfl rfl)
theorem dX0_quests_116 : decode cX0_quests 116 = .ok (.iadd, 1) := dk_96 (dk_at dksX0_quests_4 21 rfl rfl)
theorem dX0_quests_117 : decode cX0_quests 117 = .ok (.invokestatic 284, 3) := dk_184 1 28 (dk_at dksX0_quests_5 0 rfl rfl)
theorem dX0_quests_120 : decode cX0_quests 120 = .ok (.istore 11, 2) := dk_54 11 (dk_at dksX0_quests_5 3 rfl rfl)
theorem dX0_quests_122 : decode cX0_quests 122 = .ok (.aload_n 0, 1) := dk_42 (dk_at dksX0_quests_5 5 rfl rfl)
theorem dX0_quests_123 : decode cX0_quests 123 = .ok (.iload_n 1, 1) := dk_27 (dk_at dksX0_quests_5 6 rfl rfl)
theorem dX0_quests_124 : decode cX0_quests 124 = .ok (.invokevirtual 71, 3) := dk_182 0 71 (dk_at dksX0_quests_5 7 rfl rfl)
theorem dX0_quests_127 : decode cX0_quests 127 = .ok (.aload_n 0, 1) := dk_42 (dk_at dksX0_quests_5 10 rfl rfl)
theorem dX0_quests_128 : decode cX0_quests 128 = .ok (.iload_n 2, 1) := dk_28 (dk_at dksX0_quests_5 11 rfl rfl)
theorem dX0_quests_129 : decode cX0_quests 129 = .ok (.invokevirtual 107, 3) := dk_182 0 107 (dk_at dksX0_quests_5 12 rfl rfl)
theorem dX0_quests_132 : decode cX0_quests 132 = .ok (.iload 11, 2) := dk_21 11 (dk_at dksX0_quests_5 15 rfl rfl)
theorem dX0_quests_134 : decode cX0_quests 134 = .ok (.invokevirtual 111, 3) := dk_182 0 111 (dk_at dksX0_quests_5 17 rfl rfl)
theorem dX0_quests_137 : decode cX0_quests 137 = .ok (.ifCond .eq 7, 3) := dk_153 0 7 (dk_at dksX0_quests_5 20 rfl rfl)
theorem dX0_quests_140 : decode cX0_quests 140 = .ok (.lconst 1, 1) := dk_10 (dk_at dksX0_quests_5 23 rfl rfl)
theorem dX0_quests_141 : decode cX0_quests 141 = .ok (.goto 4, 3) := dk_167 0 4 (dk_at dksX0_quests_6 0 rfl rfl)
theorem dX0_quests_144 : decode cX0_quests 144 = .ok (.lconst 0, 1) := dk_9 (dk_at dksX0_quests_6 3 rfl rfl)
theorem dX0_quests_145 : decode cX0_quests 145 = .ok (.lstore 12, 2) := dk_55 12 (dk_at dksX0_quests_6 4 rfl rfl)
theorem dX0_quests_147 : decode cX0_quests 147 = .ok (.iconst 0, 1) := dk_3 (dk_at dksX0_quests_6 6 rfl rfl)
theorem dX0_quests_148 : decode cX0_quests 148 = .ok (.istore 14, 2) := dk_54 14 (dk_at dksX0_quests_6 7 rfl rfl)
theorem dX0_quests_150 : decode cX0_quests 150 = .ok (.iload 14, 2) := dk_21 14 (dk_at dksX0_quests_6 9 rfl rfl)
theorem dX0_quests_152 : decode cX0_quests 152 = .ok (.iload_n 3, 1) := dk_29 (dk_at dksX0_quests_6 11 rfl rfl)
theorem dX0_quests_153 : decode cX0_quests 153 = .ok (.if_icmp .ge 36, 3) := dk_162 0 36 (dk_at dksX0_quests_6 12 rfl rfl)
theorem dX0_quests_156 : decode cX0_quests 156 = .ok (.lload 12, 2) := dk_22 12 (dk_at dksX0_quests_6 15 rfl rfl)
theorem dX0_quests_158 : decode cX0_quests 158 = .ok (.iload 10, 2) := dk_21 10 (dk_at dksX0_quests_6 17 rfl rfl)
theorem dX0_quests_160 : decode cX0_quests 160 = .ok (.iload 14, 2) := dk_21 14 (dk_at dksX0_quests_6 19 rfl rfl)
theorem dX0_quests_162 : decode cX0_quests 162 = .ok (.invokestatic 142, 3) := dk_184 0 142 (dk_at dksX0_quests_6 21 rfl rfl)
theorem dX0_quests_165 : decode cX0_quests 165 = .ok (.ifCond .eq 9, 3) := dk_153 0 9 (dk_at dksX0_quests_7 0 rfl rfl)
theorem dX0_quests_168 : decode cX0_quests 168 = .ok (.iload 4, 2) := dk_21 4 (dk_at dksX0_quests_7 3 rfl rfl)
theorem dX0_quests_170 : decode cX0_quests 170 = .ok (.i2l, 1) := dk_133 (dk_at dksX0_quests_7 5 rfl rfl)
theorem dX0_quests_171 : decode cX0_quests 171 = .ok (.goto 9, 3) := dk_167 0 9 (dk_at dksX0_quests_7 6 rfl rfl)
theorem dX0_quests_174 : decode cX0_quests 174 = .ok (.bipush 10, 2) := dk_16 10 (dk_at dksX0_quests_7 9 rfl rfl)
theorem dX0_quests_176 : decode cX0_quests 176 = .ok (.iload 4, 2) := dk_21 4 (dk_at dksX0_quests_7 11 rfl rfl)
theorem dX0_quests_178 : decode cX0_quests 178 = .ok (.isub, 1) := dk_100 (dk_at dksX0_quests_7 13 rfl rfl)
theorem dX0_quests_179 : decode cX0_quests 179 = .ok (.i2l, 1) := dk_133 (dk_at dksX0_quests_7 14 rfl rfl)
theorem dX0_quests_180 : decode cX0_quests 180 = .ok (.lmul, 1) := dk_105 (dk_at dksX0_quests_7 15 rfl rfl)
theorem dX0_quests_181 : decode cX0_quests 181 = .ok (.lstore 12, 2) := dk_55 12 (dk_at dksX0_quests_7 16 rfl rfl)
theorem dX0_quests_183 : decode cX0_quests 183 = .ok (.iinc 14 1, 3) := dk_132 14 1 (dk_at dksX0_quests_7 18 rfl rfl)
theorem dX0_quests_186 : decode cX0_quests 186 = .ok (.goto (-36), 3) := dk_167 255 220 (dk_at dksX0_quests_7 21 rfl rfl)
theorem dX0_quests_189 : decode cX0_quests 189 = .ok (.lload 6, 2) := dk_22 6 (dk_at dksX0_quests_8 0 rfl rfl)
theorem dX0_quests_191 : decode cX0_quests 191 = .ok (.lload 12, 2) := dk_22 12 (dk_at dksX0_quests_8 2 rfl rfl)
theorem dX0_quests_193 : decode cX0_quests 193 = .ok (.ladd, 1) := dk_97 (dk_at dksX0_quests_8 4 rfl rfl)
theorem dX0_quests_194 : decode cX0_quests 194 = .ok (.lstore 6, 2) := dk_55 6 (dk_at dksX0_quests_8 5 rfl rfl)
theorem dX0_quests_196 : decode cX0_quests 196 = .ok (.iinc 10 1, 3) := dk_132 10 1 (dk_at dksX0_quests_8 7 rfl rfl)
theorem dX0_quests_199 : decode cX0_quests 199 = .ok (.goto (-107), 3) := dk_167 255 149 (dk_at dksX0_quests_8 10 rfl rfl)
theorem dX0_quests_202 : decode cX0_quests 202 = .ok (.iload 5, 2) := dk_21 5 (dk_at dksX0_quests_8 13 rfl rfl)
theorem dX0_quests_204 : decode cX0_quests 204 = .ok (.ifCond .ne 8, 3) := dk_154 0 8 (dk_at dksX0_quests_8 15 rfl rfl)
theorem dX0_quests_207 : decode cX0_quests 207 = .ok (.lload 6, 2) := dk_22 6 (dk_at dksX0_quests_8 18 rfl rfl)
theorem dX0_quests_209 : decode cX0_quests 209 = .ok (.goto 5, 3) := dk_167 0 5 (dk_at dksX0_quests_8 20 rfl rfl)
theorem dX0_quests_212 : decode cX0_quests 212 = .ok (.lload 8, 2) := dk_22 8 (dk_at dksX0_quests_9 0 rfl rfl)
theorem dX0_quests_214 : decode cX0_quests 214 = .ok (.lload 6, 2) := dk_22 6 (dk_at dksX0_quests_9 2 rfl rfl)
theorem dX0_quests_216 : decode cX0_quests 216 = .ok (.lload 8, 2) := dk_22 8 (dk_at dksX0_quests_9 4 rfl rfl)
theorem dX0_quests_218 : decode cX0_quests 218 = .ok (.invokestatic 153, 3) := dk_184 0 153 (dk_at dksX0_quests_9 6 rfl rfl)
theorem dX0_quests_221 : decode cX0_quests 221 = .ok (.ldiv, 1) := dk_109 (dk_at dksX0_quests_9 9 rfl rfl)
theorem dX0_quests_222 : decode cX0_quests 222 = .ok (.lreturn, 1) := dk_173 (dk_at dksX0_quests_9 10 rfl rfl)
abbrev cX0_gcd : ByteArray := prog_1_method_17_code
def yX0_gcd : MethodName := ⟨RX0, "gcd", "(JJ)J"⟩
def dkwX0_gcd_0 : List UInt8 := [32, 9, 148, 154, 0, 7, 30, 167, 0, 10, 32, 30, 32, 113, 184, 0, 153, 173]
abbrev dktX0_gcd_0 : List UInt8 := dkwX0_gcd_0 ++ []
theorem dksX0_gcd_0 : cX0_gcd.data.toList.drop 0 = dktX0_gcd_0 := by decide +kernel
theorem dX0_gcd_0 : decode cX0_gcd 0 = .ok (.lload_n 2, 1) := dk_32 (dk_at dksX0_gcd_0 0 rfl rfl)
theorem dX0_gcd_1 : decode cX0_gcd 1 = .ok (.lconst 0, 1) := dk_9 (dk_at dksX0_gcd_0 1 rfl rfl)
theorem dX0_gcd_2 : decode cX0_gcd 2 = .ok (.lcmp, 1) := dk_148 (dk_at dksX0_gcd_0 2 rfl rfl)
theorem dX0_gcd_3 : decode cX0_gcd 3 = .ok (.ifCond .ne 7, 3) := dk_154 0 7 (dk_at dksX0_gcd_0 3 rfl rfl)
theorem dX0_gcd_6 : decode cX0_gcd 6 = .ok (.lload_n 0, 1) := dk_30 (dk_at dksX0_gcd_0 6 rfl rfl)
theorem dX0_gcd_7 : decode cX0_gcd 7 = .ok (.goto 10, 3) := dk_167 0 10 (dk_at dksX0_gcd_0 7 rfl rfl)
theorem dX0_gcd_10 : decode cX0_gcd 10 = .ok (.lload_n 2, 1) := dk_32 (dk_at dksX0_gcd_0 10 rfl rfl)
theorem dX0_gcd_11 : decode cX0_gcd 11 = .ok (.lload_n 0, 1) := dk_30 (dk_at dksX0_gcd_0 11 rfl rfl)
theorem dX0_gcd_12 : decode cX0_gcd 12 = .ok (.lload_n 2, 1) := dk_32 (dk_at dksX0_gcd_0 12 rfl rfl)
theorem dX0_gcd_13 : decode cX0_gcd 13 = .ok (.lrem, 1) := dk_113 (dk_at dksX0_gcd_0 13 rfl rfl)
theorem dX0_gcd_14 : decode cX0_gcd 14 = .ok (.invokestatic 153, 3) := dk_184 0 153 (dk_at dksX0_gcd_0 14 rfl rfl)
theorem dX0_gcd_17 : decode cX0_gcd 17 = .ok (.lreturn, 1) := dk_173 (dk_at dksX0_gcd_0 17 rfl rfl)
abbrev cX0_lent : ByteArray := prog_1_method_55_code
def yX0_lent : MethodName := ⟨RX0, "lent", "(I)I"⟩
def dkwX0_lent_2 : List UInt8 := [27, 45, 83, 21, 4, 172, 58, 5, 42, 180, 0, 36, 27, 45, 83, 25, 5, 191]
abbrev dktX0_lent_2 : List UInt8 := dkwX0_lent_2 ++ []
def dkwX0_lent_1 : List UInt8 := [42, 180, 0, 36, 27, 3, 3, 184, 0, 145, 83, 42, 3, 182, 1, 51, 28, 100, 54, 4, 42, 180, 0, 36]
abbrev dktX0_lent_1 : List UInt8 := dkwX0_lent_1 ++ dktX0_lent_2
def dkwX0_lent_0 : List UInt8 := [42, 27, 182, 0, 213, 154, 0, 6, 16, 254, 172, 42, 3, 182, 1, 51, 61, 42, 180, 0, 36, 27, 50, 78]
abbrev dktX0_lent_0 : List UInt8 := dkwX0_lent_0 ++ dktX0_lent_1
theorem dksX0_lent_0 : cX0_lent.data.toList.drop 0 = dktX0_lent_0 := by decide +kernel
theorem dksX0_lent_1 : cX0_lent.data.toList.drop 24 = dktX0_lent_1 := dk_seg dksX0_lent_0 24 rfl rfl
theorem dksX0_lent_2 : cX0_lent.data.toList.drop 48 = dktX0_lent_2 := dk_seg dksX0_lent_1 24 rfl rfl
theorem dX0_lent_0 : decode cX0_lent 0 = .ok (.aload_n 0, 1) := dk_42 (dk_at dksX0_lent_0 0 rfl rfl)
theorem dX0_lent_1 : decode cX0_lent 1 = .ok (.iload_n 1, 1) := dk_27 (dk_at dksX0_lent_0 1 rfl rfl)
theorem dX0_lent_2 : decode cX0_lent 2 = .ok (.invokevirtual 213, 3) := dk_182 0 213 (dk_at dksX0_lent_0 2 rfl rfl)
theorem dX0_lent_5 : decode cX0_lent 5 = .ok (.ifCond .ne 6, 3) := dk_154 0 6 (dk_at dksX0_lent_0 5 rfl rfl)
theorem dX0_lent_8 : decode cX0_lent 8 = .ok (.bipush (-2), 2) := dk_16 254 (dk_at dksX0_lent_0 8 rfl rfl)
theorem dX0_lent_10 : decode cX0_lent 10 = .ok (.ireturn, 1) := dk_172 (dk_at dksX0_lent_0 10 rfl rfl)
theorem dX0_lent_11 : decode cX0_lent 11 = .ok (.aload_n 0, 1) := dk_42 (dk_at dksX0_lent_0 11 rfl rfl)
theorem dX0_lent_12 : decode cX0_lent 12 = .ok (.iconst 0, 1) := dk_3 (dk_at dksX0_lent_0 12 rfl rfl)
theorem dX0_lent_13 : decode cX0_lent 13 = .ok (.invokevirtual 307, 3) := dk_182 1 51 (dk_at dksX0_lent_0 13 rfl rfl)
theorem dX0_lent_16 : decode cX0_lent 16 = .ok (.istore_n 2, 1) := dk_61 (dk_at dksX0_lent_0 16 rfl rfl)
theorem dX0_lent_17 : decode cX0_lent 17 = .ok (.aload_n 0, 1) := dk_42 (dk_at dksX0_lent_0 17 rfl rfl)
theorem dX0_lent_18 : decode cX0_lent 18 = .ok (.getfield 36, 3) := dk_180 0 36 (dk_at dksX0_lent_0 18 rfl rfl)
theorem dX0_lent_21 : decode cX0_lent 21 = .ok (.iload_n 1, 1) := dk_27 (dk_at dksX0_lent_0 21 rfl rfl)
theorem dX0_lent_22 : decode cX0_lent 22 = .ok (.aaload, 1) := dk_50 (dk_at dksX0_lent_0 22 rfl rfl)
theorem dX0_lent_23 : decode cX0_lent 23 = .ok (.astore_n 3, 1) := dk_78 (dk_at dksX0_lent_0 23 rfl rfl)
theorem dX0_lent_24 : decode cX0_lent 24 = .ok (.aload_n 0, 1) := dk_42 (dk_at dksX0_lent_1 0 rfl rfl)
theorem dX0_lent_25 : decode cX0_lent 25 = .ok (.getfield 36, 3) := dk_180 0 36 (dk_at dksX0_lent_1 1 rfl rfl)
theorem dX0_lent_28 : decode cX0_lent 28 = .ok (.iload_n 1, 1) := dk_27 (dk_at dksX0_lent_1 4 rfl rfl)
theorem dX0_lent_29 : decode cX0_lent 29 = .ok (.iconst 0, 1) := dk_3 (dk_at dksX0_lent_1 5 rfl rfl)
theorem dX0_lent_30 : decode cX0_lent 30 = .ok (.iconst 0, 1) := dk_3 (dk_at dksX0_lent_1 6 rfl rfl)
theorem dX0_lent_31 : decode cX0_lent 31 = .ok (.invokestatic 145, 3) := dk_184 0 145 (dk_at dksX0_lent_1 7 rfl rfl)
theorem dX0_lent_34 : decode cX0_lent 34 = .ok (.aastore, 1) := dk_83 (dk_at dksX0_lent_1 10 rfl rfl)
theorem dX0_lent_35 : decode cX0_lent 35 = .ok (.aload_n 0, 1) := dk_42 (dk_at dksX0_lent_1 11 rfl rfl)
theorem dX0_lent_36 : decode cX0_lent 36 = .ok (.iconst 0, 1) := dk_3 (dk_at dksX0_lent_1 12 rfl rfl)
theorem dX0_lent_37 : decode cX0_lent 37 = .ok (.invokevirtual 307, 3) := dk_182 1 51 (dk_at dksX0_lent_1 13 rfl rfl)
theorem dX0_lent_40 : decode cX0_lent 40 = .ok (.iload_n 2, 1) := dk_28 (dk_at dksX0_lent_1 16 rfl rfl)
theorem dX0_lent_41 : decode cX0_lent 41 = .ok (.isub, 1) := dk_100 (dk_at dksX0_lent_1 17 rfl rfl)
theorem dX0_lent_42 : decode cX0_lent 42 = .ok (.istore 4, 2) := dk_54 4 (dk_at dksX0_lent_1 18 rfl rfl)
theorem dX0_lent_44 : decode cX0_lent 44 = .ok (.aload_n 0, 1) := dk_42 (dk_at dksX0_lent_1 20 rfl rfl)
theorem dX0_lent_45 : decode cX0_lent 45 = .ok (.getfield 36, 3) := dk_180 0 36 (dk_at dksX0_lent_1 21 rfl rfl)
theorem dX0_lent_48 : decode cX0_lent 48 = .ok (.iload_n 1, 1) := dk_27 (dk_at dksX0_lent_2 0 rfl rfl)
theorem dX0_lent_49 : decode cX0_lent 49 = .ok (.aload_n 3, 1) := dk_45 (dk_at dksX0_lent_2 1 rfl rfl)
theorem dX0_lent_50 : decode cX0_lent 50 = .ok (.aastore, 1) := dk_83 (dk_at dksX0_lent_2 2 rfl rfl)
theorem dX0_lent_51 : decode cX0_lent 51 = .ok (.iload 4, 2) := dk_21 4 (dk_at dksX0_lent_2 3 rfl rfl)
theorem dX0_lent_53 : decode cX0_lent 53 = .ok (.ireturn, 1) := dk_172 (dk_at dksX0_lent_2 5 rfl rfl)
theorem dX0_lent_54 : decode cX0_lent 54 = .ok (.astore 5, 2) := dk_58 5 (dk_at dksX0_lent_2 6 rfl rfl)
theorem dX0_lent_56 : decode cX0_lent 56 = .ok (.aload_n 0, 1) := dk_42 (dk_at dksX0_lent_2 8 rfl rfl)
theorem dX0_lent_57 : decode cX0_lent 57 = .ok (.getfield 36, 3) := dk_180 0 36 (dk_at dksX0_lent_2 9 rfl rfl)
theorem dX0_lent_60 : decode cX0_lent 60 = .ok (.iload_n 1, 1) := dk_27 (dk_at dksX0_lent_2 12 rfl rfl)
theorem dX0_lent_61 : decode cX0_lent 61 = .ok (.aload_n 3, 1) := dk_45 (dk_at dksX0_lent_2 13 rfl rfl)
theorem dX0_lent_62 : decode cX0_lent 62 = .ok (.aastore, 1) := dk_83 (dk_at dksX0_lent_2 14 rfl rfl)
theorem dX0_lent_63 : decode cX0_lent 63 = .ok (.aload 5, 2) := dk_25 5 (dk_at dksX0_lent_2 15 rfl rfl)
theorem dX0_lent_65 : decode cX0_lent 65 = .ok (.athrow, 1) := dk_191 (dk_at dksX0_lent_2 17 rfl rfl)
abbrev cX0_count : ByteArray := prog_1_method_56_code
def yX0_count : MethodName := ⟨RX0, "count", "(I)I"⟩
def dkwX0_count_5 : List UInt8 := [180, 0, 83, 172, 42, 180, 0, 187, 172, 16, 253, 172]
abbrev dktX0_count_5 : List UInt8 := dkwX0_count_5 ++ []
def dkwX0_count_4 : List UInt8 := [180, 0, 45, 180, 0, 77, 172, 42, 182, 0, 248, 172, 42, 180, 0, 86, 172, 28, 5, 108, 172, 42]
abbrev dktX0_count_4 : List UInt8 := dkwX0_count_4 ++ dktX0_count_5
def dkwX0_count_3 : List UInt8 := [42, 180, 0, 115, 172, 42, 180, 0, 64, 172, 42, 180, 0, 45, 180, 0, 80, 172, 42, 182, 0, 128, 172, 42]
abbrev dktX0_count_3 : List UInt8 := dkwX0_count_3 ++ dktX0_count_4
def dkwX0_count_2 : List UInt8 := [170, 0, 0, 0, 108, 0, 0, 0, 0, 0, 0, 0, 9, 0, 0, 0, 53, 0, 0, 0, 58, 0, 0, 0, 63, 0, 0, 0, 71, 0, 0, 0, 76, 0, 0, 0, 84, 0, 0, 0, 89, 0, 0, 0, 94, 0, 0, 0, 98, 0, 0, 0, 103]
abbrev dktX0_count_2 : List UInt8 := dkwX0_count_2 ++ dktX0_count_3
def dkwX0_count_1 : List UInt8 := [132, 3, 1, 167, 255, 233, 27]
abbrev dktX0_count_1 : List UInt8 := dkwX0_count_1 ++ dktX0_count_2
def dkwX0_count_0 : List UInt8 := [3, 61, 3, 62, 29, 42, 180, 0, 64, 162, 0, 21, 28, 42, 180, 0, 139, 29, 46, 184, 0, 254, 96, 61]
abbrev dktX0_count_0 : List UInt8 := dkwX0_count_0 ++ dktX0_count_1
theorem dksX0_count_0 : cX0_count.data.toList.drop 0 = dktX0_count_0 := by decide +kernel
theorem dksX0_count_1 : cX0_count.data.toList.drop 24 = dktX0_count_1 := dk_seg dksX0_count_0 24 rfl rfl
theorem dksX0_count_2 : cX0_count.data.toList.drop 31 = dktX0_count_2 := dk_seg dksX0_count_1 7 rfl rfl
theorem dksX0_count_3 : cX0_count.data.toList.drop 84 = dktX0_count_3 := dk_seg dksX0_count_2 53 rfl rfl
theorem dksX0_count_4 : cX0_count.data.toList.drop 108 = dktX0_count_4 := dk_seg dksX0_count_3 24 rfl rfl
theorem dksX0_count_5 : cX0_count.data.toList.drop 130 = dktX0_count_5 := dk_seg dksX0_count_4 22 rfl rfl
theorem dX0_count_0 : decode cX0_count 0 = .ok (.iconst 0, 1) := dk_3 (dk_at dksX0_count_0 0 rfl rfl)
theorem dX0_count_1 : decode cX0_count 1 = .ok (.istore_n 2, 1) := dk_61 (dk_at dksX0_count_0 1 rfl rfl)
theorem dX0_count_2 : decode cX0_count 2 = .ok (.iconst 0, 1) := dk_3 (dk_at dksX0_count_0 2 rfl rfl)
theorem dX0_count_3 : decode cX0_count 3 = .ok (.istore_n 3, 1) := dk_62 (dk_at dksX0_count_0 3 rfl rfl)
theorem dX0_count_4 : decode cX0_count 4 = .ok (.iload_n 3, 1) := dk_29 (dk_at dksX0_count_0 4 rfl rfl)
theorem dX0_count_5 : decode cX0_count 5 = .ok (.aload_n 0, 1) := dk_42 (dk_at dksX0_count_0 5 rfl rfl)
theorem dX0_count_6 : decode cX0_count 6 = .ok (.getfield 64, 3) := dk_180 0 64 (dk_at dksX0_count_0 6 rfl rfl)
theorem dX0_count_9 : decode cX0_count 9 = .ok (.if_icmp .ge 21, 3) := dk_162 0 21 (dk_at dksX0_count_0 9 rfl rfl)
theorem dX0_count_12 : decode cX0_count 12 = .ok (.iload_n 2, 1) := dk_28 (dk_at dksX0_count_0 12 rfl rfl)
theorem dX0_count_13 : decode cX0_count 13 = .ok (.aload_n 0, 1) := dk_42 (dk_at dksX0_count_0 13 rfl rfl)
theorem dX0_count_14 : decode cX0_count 14 = .ok (.getfield 139, 3) := dk_180 0 139 (dk_at dksX0_count_0 14 rfl rfl)
theorem dX0_count_17 : decode cX0_count 17 = .ok (.iload_n 3, 1) := dk_29 (dk_at dksX0_count_0 17 rfl rfl)
theorem dX0_count_18 : decode cX0_count 18 = .ok (.iaload, 1) := dk_46 (dk_at dksX0_count_0 18 rfl rfl)
theorem dX0_count_19 : decode cX0_count 19 = .ok (.invokestatic 254, 3) := dk_184 0 254 (dk_at dksX0_count_0 19 rfl rfl)
theorem dX0_count_22 : decode cX0_count 22 = .ok (.iadd, 1) := dk_96 (dk_at dksX0_count_0 22 rfl rfl)
theorem dX0_count_23 : decode cX0_count 23 = .ok (.istore_n 2, 1) := dk_61 (dk_at dksX0_count_0 23 rfl rfl)
theorem dX0_count_24 : decode cX0_count 24 = .ok (.iinc 3 1, 3) := dk_132 3 1 (dk_at dksX0_count_1 0 rfl rfl)
theorem dX0_count_27 : decode cX0_count 27 = .ok (.goto (-23), 3) := dk_167 255 233 (dk_at dksX0_count_1 3 rfl rfl)
theorem dX0_count_30 : decode cX0_count 30 = .ok (.iload_n 1, 1) := dk_27 (dk_at dksX0_count_1 6 rfl rfl)
theorem dX0_count_31 : decode cX0_count 31 = .ok (.tableswitch 108 0 9 #[53, 58, 63, 71, 76, 84, 89, 94, 98, 103], 53) := by decide +kernel
theorem dX0_count_84 : decode cX0_count 84 = .ok (.aload_n 0, 1) := dk_42 (dk_at dksX0_count_3 0 rfl rfl)
theorem dX0_count_85 : decode cX0_count 85 = .ok (.getfield 115, 3) := dk_180 0 115 (dk_at dksX0_count_3 1 rfl rfl)
theorem dX0_count_88 : decode cX0_count 88 = .ok (.ireturn, 1) := dk_172 (dk_at dksX0_count_3 4 rfl rfl)
theorem dX0_count_89 : decode cX0_count 89 = .ok (.aload_n 0, 1) := dk_42 (dk_at dksX0_count_3 5 rfl rfl)
theorem dX0_count_90 : decode cX0_count 90 = .ok (.getfield 64, 3) := dk_180 0 64 (dk_at dksX0_count_3 6 rfl rfl)
theorem dX0_count_93 : decode cX0_count 93 = .ok (.ireturn, 1) := dk_172 (dk_at dksX0_count_3 9 rfl rfl)
theorem dX0_count_94 : decode cX0_count 94 = .ok (.aload_n 0, 1) := dk_42 (dk_at dksX0_count_3 10 rfl rfl)
theorem dX0_count_95 : decode cX0_count 95 = .ok (.getfield 45, 3) := dk_180 0 45 (dk_at dksX0_count_3 11 rfl rfl)
theorem dX0_count_98 : decode cX0_count 98 = .ok (.getfield 80, 3) := dk_180 0 80 (dk_at dksX0_count_3 14 rfl rfl)
theorem dX0_count_101 : decode cX0_count 101 = .ok (.ireturn, 1) := dk_172 (dk_at dksX0_count_3 17 rfl rfl)
theorem dX0_count_102 : decode cX0_count 102 = .ok (.aload_n 0, 1) := dk_42 (dk_at dksX0_count_3 18 rfl rfl)
theorem dX0_count_103 : decode cX0_count 103 = .ok (.invokevirtual 128, 3) := dk_182 0 128 (dk_at dksX0_count_3 19 rfl rfl)
theorem dX0_count_106 : decode cX0_count 106 = .ok (.ireturn, 1) := dk_172 (dk_at dksX0_count_3 22 rfl rfl)
theorem dX0_count_107 : decode cX0_count 107 = .ok (.aload_n 0, 1) := dk_42 (dk_at dksX0_count_3 23 rfl rfl)
theorem dX0_count_108 : decode cX0_count 108 = .ok (.getfield 45, 3) := dk_180 0 45 (dk_at dksX0_count_4 0 rfl rfl)
theorem dX0_count_111 : decode cX0_count 111 = .ok (.getfield 77, 3) := dk_180 0 77 (dk_at dksX0_count_4 3 rfl rfl)
theorem dX0_count_114 : decode cX0_count 114 = .ok (.ireturn, 1) := dk_172 (dk_at dksX0_count_4 6 rfl rfl)
theorem dX0_count_115 : decode cX0_count 115 = .ok (.aload_n 0, 1) := dk_42 (dk_at dksX0_count_4 7 rfl rfl)
theorem dX0_count_116 : decode cX0_count 116 = .ok (.invokevirtual 248, 3) := dk_182 0 248 (dk_at dksX0_count_4 8 rfl rfl)
theorem dX0_count_119 : decode cX0_count 119 = .ok (.ireturn, 1) := dk_172 (dk_at dksX0_count_4 11 rfl rfl)
theorem dX0_count_120 : decode cX0_count 120 = .ok (.aload_n 0, 1) := dk_42 (dk_at dksX0_count_4 12 rfl rfl)
theorem dX0_count_121 : decode cX0_count 121 = .ok (.getfield 86, 3) := dk_180 0 86 (dk_at dksX0_count_4 13 rfl rfl)
theorem dX0_count_124 : decode cX0_count 124 = .ok (.ireturn, 1) := dk_172 (dk_at dksX0_count_4 16 rfl rfl)
theorem dX0_count_125 : decode cX0_count 125 = .ok (.iload_n 2, 1) := dk_28 (dk_at dksX0_count_4 17 rfl rfl)
theorem dX0_count_126 : decode cX0_count 126 = .ok (.iconst 2, 1) := dk_5 (dk_at dksX0_count_4 18 rfl rfl)
theorem dX0_count_127 : decode cX0_count 127 = .ok (.idiv, 1) := dk_108 (dk_at dksX0_count_4 19 rfl rfl)
theorem dX0_count_128 : decode cX0_count 128 = .ok (.ireturn, 1) := dk_172 (dk_at dksX0_count_4 20 rfl rfl)
theorem dX0_count_129 : decode cX0_count 129 = .ok (.aload_n 0, 1) := dk_42 (dk_at dksX0_count_4 21 rfl rfl)
theorem dX0_count_130 : decode cX0_count 130 = .ok (.getfield 83, 3) := dk_180 0 83 (dk_at dksX0_count_5 0 rfl rfl)
theorem dX0_count_133 : decode cX0_count 133 = .ok (.ireturn, 1) := dk_172 (dk_at dksX0_count_5 3 rfl rfl)
theorem dX0_count_134 : decode cX0_count 134 = .ok (.aload_n 0, 1) := dk_42 (dk_at dksX0_count_5 4 rfl rfl)
theorem dX0_count_135 : decode cX0_count 135 = .ok (.getfield 187, 3) := dk_180 0 187 (dk_at dksX0_count_5 5 rfl rfl)
theorem dX0_count_138 : decode cX0_count 138 = .ok (.ireturn, 1) := dk_172 (dk_at dksX0_count_5 8 rfl rfl)
theorem dX0_count_139 : decode cX0_count 139 = .ok (.bipush (-3), 2) := dk_16 253 (dk_at dksX0_count_5 9 rfl rfl)
theorem dX0_count_141 : decode cX0_count 141 = .ok (.ireturn, 1) := dk_172 (dk_at dksX0_count_5 11 rfl rfl)
theorem q67 : (Jvm.Cond.initialized "PerilSeat") ∈ lw_all := lw_g (lw_at lw_m1 1 rfl) rfl
theorem q103 : (Jvm.Cond.instantiable "PerilSeat" (23 : Nat)) ∈ lw_all := lw_g (lw_at lw_m1 37 rfl) rfl
theorem q105 : (Jvm.Cond.instanceMethod ({ cls := "PerilSeat", name := "<init>", desc := "()V" } : Jvm.MethodName)) ∈ lw_all := lw_g (lw_at lw_m1 39 rfl) rfl
theorem q106 : (Jvm.Cond.code ({ cls := "PerilSeat", name := "<init>", desc := "()V" } : Jvm.MethodName) prog_1_method_18_code (1 : Nat) (Option.none : Option Jvm.ClassFile.FieldType)) ∈ lw_all := lw_g (lw_at lw_m1 40 rfl) rfl
theorem q107 : (Jvm.Cond.methodLink "PerilSeat" (157 : Nat) ({ cls := "java/lang/Object", name := "<init>", desc := "()V" } : Jvm.MethodName)) ∈ lw_all := lw_g (lw_at lw_m1 41 rfl) rfl
theorem q110 : (Jvm.Cond.classLink "PerilSeat" (158 : Nat) "java/lang/Object") ∈ lw_all := lw_g (lw_at lw_m1 44 rfl) rfl
theorem q112 : (Jvm.Cond.classLink "PerilSeat" (50 : Nat) "PerilSeat$State") ∈ lw_all := lw_g (lw_at lw_m1 46 rfl) rfl
theorem q114 : (Jvm.Cond.methodLinkNest "PerilSeat" (102 : Nat) ({ cls := "PerilSeat$State", name := "<init>", desc := "()V" } : Jvm.MethodName) "PerilSeat") ∈ lw_tbl := lw_at lw_m1 48 rfl
theorem q119 : (Jvm.Cond.fieldLink "PerilSeat" (68 : Nat) "PerilSeat$State" "renown" "[I") ∈ lw_all := lw_g (lw_at lw_m1 53 rfl) rfl
theorem q121 : (Jvm.Cond.fieldLink "PerilSeat" (49 : Nat) "PerilSeat$State" "news" "[I") ∈ lw_all := lw_g (lw_at lw_m1 55 rfl) rfl
theorem q123 : (Jvm.Cond.fieldLink "PerilSeat" (61 : Nat) "PerilSeat$State" "row" "[I") ∈ lw_all := lw_g (lw_at lw_m1 57 rfl) rfl
theorem q125 : (Jvm.Cond.fieldLink "PerilSeat" (77 : Nat) "PerilSeat$State" "there" "I") ∈ lw_all := lw_g (lw_at lw_m1 59 rfl) rfl
theorem q127 : (Jvm.Cond.fieldLink "PerilSeat" (80 : Nat) "PerilSeat$State" "day" "I") ∈ lw_all := lw_g (lw_at lw_m1 61 rfl) rfl
theorem q141 : (Jvm.Cond.classLink "PerilSeat" (160 : Nat) "[I") ∈ lw_all := lw_g (lw_at lw_m1 75 rfl) rfl
theorem q143 : (Jvm.Cond.methodLink "PerilSeat" (178 : Nat) ({ cls := "PerilSeat", name := "begin", desc := "()V" } : Jvm.MethodName)) ∈ lw_all := lw_g (lw_at lw_m1 77 rfl) rfl
theorem q144 : (Jvm.Cond.privateMethod ({ cls := "PerilSeat", name := "begin", desc := "()V" } : Jvm.MethodName)) ∈ lw_tbl := lw_at lw_m1 78 rfl
theorem q145 : (Jvm.Cond.instanceMethod ({ cls := "PerilSeat", name := "begin", desc := "()V" } : Jvm.MethodName)) ∈ lw_all := lw_g (lw_at lw_m1 79 rfl) rfl
theorem q146 : (Jvm.Cond.code ({ cls := "PerilSeat", name := "begin", desc := "()V" } : Jvm.MethodName) prog_1_method_9_code (2 : Nat) (Option.none : Option Jvm.ClassFile.FieldType)) ∈ lw_all := lw_g (lw_at lw_m1 80 rfl) rfl
theorem q147 : (Jvm.Cond.methodLink "PerilSeat" (55 : Nat) ({ cls := "java/util/Arrays", name := "fill", desc := "([II)V" } : Jvm.MethodName)) ∈ lw_all := lw_g (lw_at lw_m1 81 rfl) rfl
theorem q150 : (Jvm.Cond.methodLink "PerilSeat" (71 : Nat) ({ cls := "PerilSeat", name := "one", desc := "(I)LPerilSeat$One;" } : Jvm.MethodName)) ∈ lw_all := lw_g (lw_at lw_m1 84 rfl) rfl
theorem q151 : (Jvm.Cond.privateMethod ({ cls := "PerilSeat", name := "one", desc := "(I)LPerilSeat$One;" } : Jvm.MethodName)) ∈ lw_tbl := lw_at lw_m1 85 rfl
theorem q152 : (Jvm.Cond.instanceMethod ({ cls := "PerilSeat", name := "one", desc := "(I)LPerilSeat$One;" } : Jvm.MethodName)) ∈ lw_all := lw_g (lw_at lw_m1 86 rfl) rfl
theorem q153 : (Jvm.Cond.code ({ cls := "PerilSeat", name := "one", desc := "(I)LPerilSeat$One;" } : Jvm.MethodName) prog_1_method_8_code (2 : Nat) (Option.some (Jvm.ClassFile.FieldType.object "PerilSeat$One"))) ∈ lw_all := lw_g (lw_at lw_m1 87 rfl) rfl
theorem q154 : (Jvm.Cond.classLink "PerilSeat" (34 : Nat) "PerilSeat$One") ∈ lw_all := lw_g (lw_at lw_m1 88 rfl) rfl
theorem q155 : (Jvm.Cond.fieldLink "PerilSeat" (36 : Nat) "PerilSeat" "names" "[Ljava/lang/Object;") ∈ lw_all := lw_g (lw_at lw_m1 89 rfl) rfl
theorem q157 : (Jvm.Cond.fieldLink "PerilSeat" (115 : Nat) "PerilSeat" "size" "I") ∈ lw_all := lw_g (lw_at lw_m1 91 rfl) rfl
theorem q158 : (Jvm.Cond.fieldLink "PerilSeat" (42 : Nat) "PerilSeat" "knights" "[Ljava/lang/Object;") ∈ lw_all := lw_g (lw_at lw_m1 92 rfl) rfl
theorem q160 : (Jvm.Cond.fieldLink "PerilSeat" (64 : Nat) "PerilSeat" "many" "I") ∈ lw_all := lw_g (lw_at lw_m1 94 rfl) rfl
theorem q161 : (Jvm.Cond.fieldLink "PerilSeat" (139 : Nat) "PerilSeat" "enemies" "[I") ∈ lw_all := lw_g (lw_at lw_m1 95 rfl) rfl
theorem q162 : (Jvm.Cond.fieldLink "PerilSeat" (118 : Nat) "PerilSeat" "perilAt" "I") ∈ lw_all := lw_g (lw_at lw_m1 96 rfl) rfl
theorem q163 : (Jvm.Cond.fieldLink "PerilSeat" (121 : Nat) "PerilSeat" "perilStep" "I") ∈ lw_all := lw_g (lw_at lw_m1 97 rfl) rfl
theorem q164 : (Jvm.Cond.fieldLink "PerilSeat" (132 : Nat) "PerilSeat" "meant" "I") ∈ lw_all := lw_g (lw_at lw_m1 98 rfl) rfl
theorem q165 : (Jvm.Cond.fieldLink "PerilSeat" (45 : Nat) "PerilSeat" "now" "LPerilSeat$State;") ∈ lw_all := lw_g (lw_at lw_m1 99 rfl) rfl
theorem q166 : (Jvm.Cond.fieldLink "PerilSeat" (89 : Nat) "PerilSeat" "kept" "[LPerilSeat$State;") ∈ lw_all := lw_g (lw_at lw_m1 100 rfl) rfl
theorem q167 : (Jvm.Cond.fieldLink "PerilSeat" (93 : Nat) "PerilSeat" "backs" "[LPerilSeat$State;") ∈ lw_all := lw_g (lw_at lw_m1 101 rfl) rfl
theorem q168 : (Jvm.Cond.fieldLink "PerilSeat" (83 : Nat) "PerilSeat" "backMany" "I") ∈ lw_all := lw_g (lw_at lw_m1 102 rfl) rfl
theorem q169 : (Jvm.Cond.fieldLink "PerilSeat" (161 : Nat) "PerilSeat" "sights" "[[I") ∈ lw_all := lw_g (lw_at lw_m1 103 rfl) rfl
theorem q170 : (Jvm.Cond.fieldLink "PerilSeat" (86 : Nat) "PerilSeat" "sightMany" "I") ∈ lw_all := lw_g (lw_at lw_m1 104 rfl) rfl
theorem q172 : (Jvm.Cond.fieldLink "PerilSeat" (165 : Nat) "PerilSeat" "text" "[B") ∈ lw_all := lw_g (lw_at lw_m1 106 rfl) rfl
theorem q174 : (Jvm.Cond.fieldLink "PerilSeat" (187 : Nat) "PerilSeat" "letters" "I") ∈ lw_all := lw_g (lw_at lw_m1 108 rfl) rfl
theorem q175 : (Jvm.Cond.fieldLink "PerilSeat" (169 : Nat) "PerilSeat" "seated" "[I") ∈ lw_all := lw_g (lw_at lw_m1 109 rfl) rfl
theorem q176 : (Jvm.Cond.fieldLink "PerilSeat" (172 : Nat) "PerilSeat" "place" "[I") ∈ lw_all := lw_g (lw_at lw_m1 110 rfl) rfl
theorem q177 : (Jvm.Cond.fieldLink "PerilSeat" (175 : Nat) "PerilSeat" "firstPlace" "[I") ∈ lw_all := lw_g (lw_at lw_m1 111 rfl) rfl
theorem q178 : (Jvm.Cond.fieldLink "PerilSeat" (289 : Nat) "PerilSeat" "found" "I") ∈ lw_all := lw_g (lw_at lw_m1 112 rfl) rfl
theorem q179 : (Jvm.Cond.fieldLink "PerilSeat" (292 : Nat) "PerilSeat" "fewest" "I") ∈ lw_all := lw_g (lw_at lw_m1 113 rfl) rfl
theorem q180 : (Jvm.Cond.fieldLink "PerilSeat" (295 : Nat) "PerilSeat" "mostKnow" "I") ∈ lw_all := lw_g (lw_at lw_m1 114 rfl) rfl
theorem q181 : (Jvm.Cond.fieldLink "PerilSeat" (304 : Nat) "PerilSeat" "asked" "I") ∈ lw_all := lw_g (lw_at lw_m1 115 rfl) rfl
theorem q182 : (Jvm.Cond.laysFinal "PerilSeat" "PerilSeat" "names" "[Ljava/lang/Object;") ∈ lw_all := lw_g (lw_at lw_m1 116 rfl) rfl
theorem q183 : (Jvm.Cond.soleField "PerilSeat" "names") ∈ lw_all := lw_g (lw_at lw_m1 117 rfl) rfl
theorem q184 : (Jvm.Cond.lays "PerilSeat" "PerilSeat" "size" "I") ∈ lw_all := lw_g (lw_at lw_m1 118 rfl) rfl
theorem q185 : (Jvm.Cond.soleField "PerilSeat" "size") ∈ lw_all := lw_g (lw_at lw_m1 119 rfl) rfl
theorem q186 : (Jvm.Cond.laysFinal "PerilSeat" "PerilSeat" "knights" "[Ljava/lang/Object;") ∈ lw_all := lw_g (lw_at lw_m1 120 rfl) rfl
theorem q187 : (Jvm.Cond.soleField "PerilSeat" "knights") ∈ lw_all := lw_g (lw_at lw_m1 121 rfl) rfl
theorem q188 : (Jvm.Cond.lays "PerilSeat" "PerilSeat" "many" "I") ∈ lw_all := lw_g (lw_at lw_m1 122 rfl) rfl
theorem q189 : (Jvm.Cond.soleField "PerilSeat" "many") ∈ lw_all := lw_g (lw_at lw_m1 123 rfl) rfl
theorem q190 : (Jvm.Cond.laysFinal "PerilSeat" "PerilSeat" "enemies" "[I") ∈ lw_all := lw_g (lw_at lw_m1 124 rfl) rfl
theorem q191 : (Jvm.Cond.soleField "PerilSeat" "enemies") ∈ lw_all := lw_g (lw_at lw_m1 125 rfl) rfl
theorem q192 : (Jvm.Cond.lays "PerilSeat" "PerilSeat" "perilAt" "I") ∈ lw_all := lw_g (lw_at lw_m1 126 rfl) rfl
theorem q193 : (Jvm.Cond.soleField "PerilSeat" "perilAt") ∈ lw_all := lw_g (lw_at lw_m1 127 rfl) rfl
theorem q194 : (Jvm.Cond.lays "PerilSeat" "PerilSeat" "perilStep" "I") ∈ lw_all := lw_g (lw_at lw_m1 128 rfl) rfl
theorem q195 : (Jvm.Cond.soleField "PerilSeat" "perilStep") ∈ lw_all := lw_g (lw_at lw_m1 129 rfl) rfl
theorem q196 : (Jvm.Cond.lays "PerilSeat" "PerilSeat" "meant" "I") ∈ lw_all := lw_g (lw_at lw_m1 130 rfl) rfl
theorem q197 : (Jvm.Cond.soleField "PerilSeat" "meant") ∈ lw_all := lw_g (lw_at lw_m1 131 rfl) rfl
theorem q198 : (Jvm.Cond.laysFinal "PerilSeat" "PerilSeat" "now" "LPerilSeat$State;") ∈ lw_all := lw_g (lw_at lw_m1 132 rfl) rfl
theorem q199 : (Jvm.Cond.soleField "PerilSeat" "now") ∈ lw_all := lw_g (lw_at lw_m1 133 rfl) rfl
theorem q200 : (Jvm.Cond.laysFinal "PerilSeat" "PerilSeat" "kept" "[LPerilSeat$State;") ∈ lw_all := lw_g (lw_at lw_m1 134 rfl) rfl
theorem q201 : (Jvm.Cond.soleField "PerilSeat" "kept") ∈ lw_all := lw_g (lw_at lw_m1 135 rfl) rfl
theorem q202 : (Jvm.Cond.laysFinal "PerilSeat" "PerilSeat" "backs" "[LPerilSeat$State;") ∈ lw_all := lw_g (lw_at lw_m1 136 rfl) rfl
theorem q203 : (Jvm.Cond.soleField "PerilSeat" "backs") ∈ lw_all := lw_g (lw_at lw_m1 137 rfl) rfl
theorem q204 : (Jvm.Cond.lays "PerilSeat" "PerilSeat" "backMany" "I") ∈ lw_all := lw_g (lw_at lw_m1 138 rfl) rfl
theorem q205 : (Jvm.Cond.soleField "PerilSeat" "backMany") ∈ lw_all := lw_g (lw_at lw_m1 139 rfl) rfl
theorem q206 : (Jvm.Cond.laysFinal "PerilSeat" "PerilSeat" "sights" "[[I") ∈ lw_all := lw_g (lw_at lw_m1 140 rfl) rfl
theorem q207 : (Jvm.Cond.soleField "PerilSeat" "sights") ∈ lw_all := lw_g (lw_at lw_m1 141 rfl) rfl
theorem q208 : (Jvm.Cond.lays "PerilSeat" "PerilSeat" "sightMany" "I") ∈ lw_all := lw_g (lw_at lw_m1 142 rfl) rfl
theorem q209 : (Jvm.Cond.soleField "PerilSeat" "sightMany") ∈ lw_all := lw_g (lw_at lw_m1 143 rfl) rfl
theorem q210 : (Jvm.Cond.laysFinal "PerilSeat" "PerilSeat" "text" "[B") ∈ lw_all := lw_g (lw_at lw_m1 144 rfl) rfl
theorem q211 : (Jvm.Cond.soleField "PerilSeat" "text") ∈ lw_all := lw_g (lw_at lw_m1 145 rfl) rfl
theorem q212 : (Jvm.Cond.lays "PerilSeat" "PerilSeat" "letters" "I") ∈ lw_all := lw_g (lw_at lw_m1 146 rfl) rfl
theorem q213 : (Jvm.Cond.soleField "PerilSeat" "letters") ∈ lw_all := lw_g (lw_at lw_m1 147 rfl) rfl
theorem q214 : (Jvm.Cond.laysFinal "PerilSeat" "PerilSeat" "seated" "[I") ∈ lw_all := lw_g (lw_at lw_m1 148 rfl) rfl
theorem q215 : (Jvm.Cond.soleField "PerilSeat" "seated") ∈ lw_all := lw_g (lw_at lw_m1 149 rfl) rfl
theorem q216 : (Jvm.Cond.laysFinal "PerilSeat" "PerilSeat" "place" "[I") ∈ lw_all := lw_g (lw_at lw_m1 150 rfl) rfl
theorem q217 : (Jvm.Cond.soleField "PerilSeat" "place") ∈ lw_all := lw_g (lw_at lw_m1 151 rfl) rfl
theorem q218 : (Jvm.Cond.laysFinal "PerilSeat" "PerilSeat" "firstPlace" "[I") ∈ lw_all := lw_g (lw_at lw_m1 152 rfl) rfl
theorem q219 : (Jvm.Cond.soleField "PerilSeat" "firstPlace") ∈ lw_all := lw_g (lw_at lw_m1 153 rfl) rfl
theorem q220 : (Jvm.Cond.lays "PerilSeat" "PerilSeat" "found" "I") ∈ lw_all := lw_g (lw_at lw_m1 154 rfl) rfl
theorem q221 : (Jvm.Cond.soleField "PerilSeat" "found") ∈ lw_all := lw_g (lw_at lw_m1 155 rfl) rfl
theorem q222 : (Jvm.Cond.lays "PerilSeat" "PerilSeat" "fewest" "I") ∈ lw_all := lw_g (lw_at lw_m1 156 rfl) rfl
theorem q223 : (Jvm.Cond.soleField "PerilSeat" "fewest") ∈ lw_all := lw_g (lw_at lw_m1 157 rfl) rfl
theorem q224 : (Jvm.Cond.lays "PerilSeat" "PerilSeat" "mostKnow" "I") ∈ lw_all := lw_g (lw_at lw_m1 158 rfl) rfl
theorem q225 : (Jvm.Cond.soleField "PerilSeat" "mostKnow") ∈ lw_all := lw_g (lw_at lw_m1 159 rfl) rfl
theorem q226 : (Jvm.Cond.lays "PerilSeat" "PerilSeat" "asked" "I") ∈ lw_all := lw_g (lw_at lw_m1 160 rfl) rfl
theorem q227 : (Jvm.Cond.soleField "PerilSeat" "asked") ∈ lw_all := lw_g (lw_at lw_m1 161 rfl) rfl
theorem q228 : (Jvm.Cond.superclass "PerilSeat" "java/lang/Object") ∈ lw_all := lw_g (lw_at lw_m1 162 rfl) rfl
theorem q231 : (Jvm.Cond.instanceMethod ({ cls := "PerilSeat", name := "write", desc := "(I)I" } : Jvm.MethodName)) ∈ lw_all := lw_g (lw_at lw_m1 165 rfl) rfl
theorem q232 : (Jvm.Cond.selects "PerilSeat" ({ cls := "PerilSeat", name := "write", desc := "(I)I" } : Jvm.MethodName) ({ cls := "PerilSeat", name := "write", desc := "(I)I" } : Jvm.MethodName)) ∈ lw_all := lw_g (lw_at lw_m1 166 rfl) rfl
theorem q233 : (Jvm.Cond.code ({ cls := "PerilSeat", name := "write", desc := "(I)I" } : Jvm.MethodName) prog_1_method_21_code (2 : Nat) (Option.some Jvm.ClassFile.FieldType.int)) ∈ lw_all := lw_g (lw_at lw_m1 167 rfl) rfl
theorem q234 : (Jvm.Cond.constantLong "PerilSeat" (185 : Nat) (255 : Int64)) ∈ lw_all := lw_g (lw_at lw_m1 168 rfl) rfl
theorem q235 : (Jvm.Cond.methodLink "PerilSeat" (181 : Nat) ({ cls := "PerilSeat", name := "in", desc := "(JJJ)Z" } : Jvm.MethodName)) ∈ lw_all := lw_g (lw_at lw_m1 169 rfl) rfl
theorem q236 : (Jvm.Cond.static ({ cls := "PerilSeat", name := "in", desc := "(JJJ)Z" } : Jvm.MethodName)) ∈ lw_all := lw_g (lw_at lw_m1 170 rfl) rfl
theorem q237 : (Jvm.Cond.code ({ cls := "PerilSeat", name := "in", desc := "(JJJ)Z" } : Jvm.MethodName) prog_1_method_1_code (6 : Nat) (Option.some Jvm.ClassFile.FieldType.boolean)) ∈ lw_all := lw_g (lw_at lw_m1 171 rfl) rfl
theorem q239 : (Jvm.Cond.instanceMethod ({ cls := "PerilSeat", name := "erase", desc := "()I" } : Jvm.MethodName)) ∈ lw_all := lw_g (lw_at lw_m1 173 rfl) rfl
theorem q240 : (Jvm.Cond.selects "PerilSeat" ({ cls := "PerilSeat", name := "erase", desc := "()I" } : Jvm.MethodName) ({ cls := "PerilSeat", name := "erase", desc := "()I" } : Jvm.MethodName)) ∈ lw_all := lw_g (lw_at lw_m1 174 rfl) rfl
theorem q241 : (Jvm.Cond.code ({ cls := "PerilSeat", name := "erase", desc := "()I" } : Jvm.MethodName) prog_1_method_22_code (2 : Nat) (Option.some Jvm.ClassFile.FieldType.int)) ∈ lw_all := lw_g (lw_at lw_m1 175 rfl) rfl
theorem q243 : (Jvm.Cond.instanceMethod ({ cls := "PerilSeat", name := "fault", desc := "()I" } : Jvm.MethodName)) ∈ lw_all := lw_g (lw_at lw_m1 177 rfl) rfl
theorem q244 : (Jvm.Cond.selects "PerilSeat" ({ cls := "PerilSeat", name := "fault", desc := "()I" } : Jvm.MethodName) ({ cls := "PerilSeat", name := "fault", desc := "()I" } : Jvm.MethodName)) ∈ lw_all := lw_g (lw_at lw_m1 178 rfl) rfl
theorem q245 : (Jvm.Cond.codeWith ({ cls := "PerilSeat", name := "fault", desc := "()I" } : Jvm.MethodName) prog_1_method_23_code (2 : Nat) (Option.some Jvm.ClassFile.FieldType.int) [((0 : Nat), (13 : Nat), (14 : Nat), (199 : Nat))]) ∈ lw_all := lw_g (lw_at lw_m1 179 rfl) rfl
theorem q246 : (Jvm.Cond.classLink "PerilSeat" (199 : Nat) "PerilSeat$Fault") ∈ lw_all := lw_g (lw_at lw_m1 180 rfl) rfl
theorem q247 : (Jvm.Cond.classLink "PerilSeat" (190 : Nat) "PerilSeat$Reader") ∈ lw_all := lw_g (lw_at lw_m1 181 rfl) rfl
theorem q249 : (Jvm.Cond.methodLinkNest "PerilSeat" (192 : Nat) ({ cls := "PerilSeat$Reader", name := "<init>", desc := "(LPerilSeat;)V" } : Jvm.MethodName) "PerilSeat") ∈ lw_tbl := lw_at lw_m1 183 rfl
theorem q261 : (Jvm.Cond.fieldLink "PerilSeat" (206 : Nat) "PerilSeat$Reader" "clauses" "[[I") ∈ lw_all := lw_g (lw_at lw_m1 195 rfl) rfl
theorem q263 : (Jvm.Cond.fieldLink "PerilSeat" (204 : Nat) "PerilSeat$Reader" "read" "I") ∈ lw_all := lw_g (lw_at lw_m1 197 rfl) rfl
theorem q282 : (Jvm.Cond.methodLink "PerilSeat" (195 : Nat) ({ cls := "PerilSeat$Reader", name := "read", desc := "()LPerilSeat$Reader;" } : Jvm.MethodName)) ∈ lw_all := lw_g (lw_at lw_m1 216 rfl) rfl
theorem q491 : (Jvm.Cond.laysStatic "PerilSeat" "HEADS" "[Ljava/lang/String;") ∈ lw_tbl := lw_at lw_m2 185 rfl
theorem q566 : (Jvm.Cond.fieldLink "PerilSeat" (201 : Nat) "PerilSeat$Fault" "at" "I") ∈ lw_all := lw_g (lw_at lw_m3 20 rfl) rfl
theorem q652 : (Jvm.Cond.instanceMethod ({ cls := "PerilSeat", name := "table", desc := "()I" } : Jvm.MethodName)) ∈ lw_all := lw_g (lw_at lw_m3 106 rfl) rfl
theorem q653 : (Jvm.Cond.selects "PerilSeat" ({ cls := "PerilSeat", name := "table", desc := "()I" } : Jvm.MethodName) ({ cls := "PerilSeat", name := "table", desc := "()I" } : Jvm.MethodName)) ∈ lw_all := lw_g (lw_at lw_m3 107 rfl) rfl
theorem q654 : (Jvm.Cond.codeWith ({ cls := "PerilSeat", name := "table", desc := "()I" } : Jvm.MethodName) prog_1_method_24_code (3 : Nat) (Option.some Jvm.ClassFile.FieldType.int) [((9 : Nat), (14 : Nat), (17 : Nat), (199 : Nat))]) ∈ lw_all := lw_g (lw_at lw_m3 108 rfl) rfl
theorem q655 : (Jvm.Cond.methodLink "PerilSeat" (209 : Nat) ({ cls := "PerilSeat", name := "tell", desc := "([I)V" } : Jvm.MethodName)) ∈ lw_all := lw_g (lw_at lw_m3 109 rfl) rfl
theorem q656 : (Jvm.Cond.privateMethod ({ cls := "PerilSeat", name := "tell", desc := "([I)V" } : Jvm.MethodName)) ∈ lw_tbl := lw_at lw_m3 110 rfl
theorem q657 : (Jvm.Cond.instanceMethod ({ cls := "PerilSeat", name := "tell", desc := "([I)V" } : Jvm.MethodName)) ∈ lw_all := lw_g (lw_at lw_m3 111 rfl) rfl
theorem q658 : (Jvm.Cond.code ({ cls := "PerilSeat", name := "tell", desc := "([I)V" } : Jvm.MethodName) prog_1_method_16_code (4 : Nat) (Option.none : Option Jvm.ClassFile.FieldType)) ∈ lw_all := lw_g (lw_at lw_m3 112 rfl) rfl
theorem q659 : (Jvm.Cond.methodLink "PerilSeat" (145 : Nat) ({ cls := "PerilSeat", name := "named", desc := "(II)LPerilSeat$Name;" } : Jvm.MethodName)) ∈ lw_all := lw_g (lw_at lw_m3 113 rfl) rfl
theorem q660 : (Jvm.Cond.static ({ cls := "PerilSeat", name := "named", desc := "(II)LPerilSeat$Name;" } : Jvm.MethodName)) ∈ lw_all := lw_g (lw_at lw_m3 114 rfl) rfl
theorem q661 : (Jvm.Cond.code ({ cls := "PerilSeat", name := "named", desc := "(II)LPerilSeat$Name;" } : Jvm.MethodName) prog_1_method_3_code (2 : Nat) (Option.some (Jvm.ClassFile.FieldType.object "PerilSeat$Name"))) ∈ lw_all := lw_g (lw_at lw_m3 115 rfl) rfl
theorem q662 : (Jvm.Cond.classLink "PerilSeat" (1 : Nat) "PerilSeat$Open") ∈ lw_all := lw_g (lw_at lw_m3 116 rfl) rfl
theorem q664 : (Jvm.Cond.methodLink "PerilSeat" (3 : Nat) ({ cls := "PerilSeat$Open", name := "<init>", desc := "(I)V" } : Jvm.MethodName)) ∈ lw_all := lw_g (lw_at lw_m3 118 rfl) rfl
theorem q678 : (Jvm.Cond.fieldLink "PerilSeat" (220 : Nat) "PerilSeat$Name" "number" "I") ∈ lw_all := lw_g (lw_at lw_m3 132 rfl) rfl
theorem q682 : (Jvm.Cond.classLink "PerilSeat" (7 : Nat) "PerilSeat$Gold") ∈ lw_all := lw_g (lw_at lw_m3 136 rfl) rfl
theorem q684 : (Jvm.Cond.methodLink "PerilSeat" (9 : Nat) ({ cls := "PerilSeat$Gold", name := "<init>", desc := "(I)V" } : Jvm.MethodName)) ∈ lw_all := lw_g (lw_at lw_m3 138 rfl) rfl
theorem q690 : (Jvm.Cond.classLink "PerilSeat" (10 : Nat) "PerilSeat$Meek") ∈ lw_all := lw_g (lw_at lw_m3 144 rfl) rfl
theorem q692 : (Jvm.Cond.methodLink "PerilSeat" (12 : Nat) ({ cls := "PerilSeat$Meek", name := "<init>", desc := "(I)V" } : Jvm.MethodName)) ∈ lw_all := lw_g (lw_at lw_m3 146 rfl) rfl
theorem q698 : (Jvm.Cond.classLink "PerilSeat" (13 : Nat) "PerilSeat$Kin") ∈ lw_all := lw_g (lw_at lw_m3 152 rfl) rfl
theorem q700 : (Jvm.Cond.methodLink "PerilSeat" (15 : Nat) ({ cls := "PerilSeat$Kin", name := "<init>", desc := "(I)V" } : Jvm.MethodName)) ∈ lw_all := lw_g (lw_at lw_m3 154 rfl) rfl
theorem q706 : (Jvm.Cond.classLink "PerilSeat" (16 : Nat) "PerilSeat$Mourning") ∈ lw_all := lw_g (lw_at lw_m3 160 rfl) rfl
theorem q708 : (Jvm.Cond.methodLink "PerilSeat" (18 : Nat) ({ cls := "PerilSeat$Mourning", name := "<init>", desc := "()V" } : Jvm.MethodName)) ∈ lw_all := lw_g (lw_at lw_m3 162 rfl) rfl
theorem q714 : (Jvm.Cond.methodLink "PerilSeat" (149 : Nat) ({ cls := "PerilSeat", name := "dubbed", desc := "(III)LPerilSeat$One;" } : Jvm.MethodName)) ∈ lw_all := lw_g (lw_at lw_m3 168 rfl) rfl
theorem q715 : (Jvm.Cond.static ({ cls := "PerilSeat", name := "dubbed", desc := "(III)LPerilSeat$One;" } : Jvm.MethodName)) ∈ lw_all := lw_g (lw_at lw_m3 169 rfl) rfl
theorem q716 : (Jvm.Cond.code ({ cls := "PerilSeat", name := "dubbed", desc := "(III)LPerilSeat$One;" } : Jvm.MethodName) prog_1_method_5_code (3 : Nat) (Option.some (Jvm.ClassFile.FieldType.object "PerilSeat$One"))) ∈ lw_all := lw_g (lw_at lw_m3 170 rfl) rfl
theorem q717 : (Jvm.Cond.classLink "PerilSeat" (23 : Nat) "PerilSeat$Knight") ∈ lw_all := lw_g (lw_at lw_m3 171 rfl) rfl
theorem q719 : (Jvm.Cond.methodLink "PerilSeat" (25 : Nat) ({ cls := "PerilSeat$Knight", name := "<init>", desc := "(II)V" } : Jvm.MethodName)) ∈ lw_all := lw_g (lw_at lw_m3 173 rfl) rfl
theorem q727 : (Jvm.Cond.fieldLink "PerilSeat" (75 : Nat) "PerilSeat$One" "renown" "I") ∈ lw_all := lw_g (lw_at lw_m3 181 rfl) rfl
theorem q729 : (Jvm.Cond.fieldLink "PerilSeat" (227 : Nat) "PerilSeat$One" "house" "I") ∈ lw_all := lw_g (lw_at lw_m3 183 rfl) rfl
theorem q735 : (Jvm.Cond.classLink "PerilSeat" (28 : Nat) "PerilSeat$Squire") ∈ lw_all := lw_g (lw_at lw_m3 189 rfl) rfl
theorem q737 : (Jvm.Cond.methodLink "PerilSeat" (30 : Nat) ({ cls := "PerilSeat$Squire", name := "<init>", desc := "(II)V" } : Jvm.MethodName)) ∈ lw_all := lw_g (lw_at lw_m3 191 rfl) rfl
theorem q744 : (Jvm.Cond.classLink "PerilSeat" (31 : Nat) "PerilSeat$King") ∈ lw_all := lw_g (lw_at lw_m3 198 rfl) rfl
theorem q746 : (Jvm.Cond.methodLink "PerilSeat" (33 : Nat) ({ cls := "PerilSeat$King", name := "<init>", desc := "(II)V" } : Jvm.MethodName)) ∈ lw_all := lw_g (lw_at lw_m3 200 rfl) rfl
theorem q754 : (Jvm.Cond.instanceMethod ({ cls := "PerilSeat", name := "seat", desc := "(II)I" } : Jvm.MethodName)) ∈ lw_all := lw_g (lw_at lw_m3 208 rfl) rfl
theorem q755 : (Jvm.Cond.selects "PerilSeat" ({ cls := "PerilSeat", name := "seat", desc := "(II)I" } : Jvm.MethodName) ({ cls := "PerilSeat", name := "seat", desc := "(II)I" } : Jvm.MethodName)) ∈ lw_all := lw_g (lw_at lw_m3 209 rfl) rfl
theorem q756 : (Jvm.Cond.code ({ cls := "PerilSeat", name := "seat", desc := "(II)I" } : Jvm.MethodName) prog_1_method_25_code (3 : Nat) (Option.some Jvm.ClassFile.FieldType.int)) ∈ lw_all := lw_g (lw_at lw_m3 210 rfl) rfl
theorem q757 : (Jvm.Cond.methodLink "PerilSeat" (213 : Nat) ({ cls := "PerilSeat", name := "isSeat", desc := "(I)Z" } : Jvm.MethodName)) ∈ lw_all := lw_g (lw_at lw_m3 211 rfl) rfl
theorem q758 : (Jvm.Cond.privateMethod ({ cls := "PerilSeat", name := "isSeat", desc := "(I)Z" } : Jvm.MethodName)) ∈ lw_tbl := lw_at lw_m3 212 rfl
theorem q759 : (Jvm.Cond.instanceMethod ({ cls := "PerilSeat", name := "isSeat", desc := "(I)Z" } : Jvm.MethodName)) ∈ lw_all := lw_g (lw_at lw_m3 213 rfl) rfl
theorem q760 : (Jvm.Cond.code ({ cls := "PerilSeat", name := "isSeat", desc := "(I)Z" } : Jvm.MethodName) prog_1_method_19_code (2 : Nat) (Option.some Jvm.ClassFile.FieldType.boolean)) ∈ lw_all := lw_g (lw_at lw_m3 214 rfl) rfl
theorem q761 : (Jvm.Cond.methodLink "PerilSeat" (107 : Nat) ({ cls := "PerilSeat", name := "name", desc := "(I)LPerilSeat$Name;" } : Jvm.MethodName)) ∈ lw_all := lw_g (lw_at lw_m3 215 rfl) rfl
theorem q762 : (Jvm.Cond.privateMethod ({ cls := "PerilSeat", name := "name", desc := "(I)LPerilSeat$Name;" } : Jvm.MethodName)) ∈ lw_tbl := lw_at lw_m3 216 rfl
theorem q763 : (Jvm.Cond.instanceMethod ({ cls := "PerilSeat", name := "name", desc := "(I)LPerilSeat$Name;" } : Jvm.MethodName)) ∈ lw_all := lw_g (lw_at lw_m3 217 rfl) rfl
theorem q764 : (Jvm.Cond.code ({ cls := "PerilSeat", name := "name", desc := "(I)LPerilSeat$Name;" } : Jvm.MethodName) prog_1_method_7_code (2 : Nat) (Option.some (Jvm.ClassFile.FieldType.object "PerilSeat$Name"))) ∈ lw_all := lw_g (lw_at lw_m3 218 rfl) rfl
theorem q765 : (Jvm.Cond.classLink "PerilSeat" (21 : Nat) "PerilSeat$Name") ∈ lw_all := lw_g (lw_at lw_m3 219 rfl) rfl
theorem q766 : (Jvm.Cond.methodLink "PerilSeat" (217 : Nat) ({ cls := "PerilSeat$Name", name := "kind", desc := "()I" } : Jvm.MethodName)) ∈ lw_all := lw_g (lw_at lw_m3 220 rfl) rfl
theorem q786 : (Jvm.Cond.methodLink "PerilSeat" (128 : Nat) ({ cls := "PerilSeat", name := "perilNow", desc := "()I" } : Jvm.MethodName)) ∈ lw_all := lw_g (lw_at lw_m4 0 rfl) rfl
theorem q787 : (Jvm.Cond.privateMethod ({ cls := "PerilSeat", name := "perilNow", desc := "()I" } : Jvm.MethodName)) ∈ lw_tbl := lw_at lw_m4 1 rfl
theorem q788 : (Jvm.Cond.instanceMethod ({ cls := "PerilSeat", name := "perilNow", desc := "()I" } : Jvm.MethodName)) ∈ lw_all := lw_g (lw_at lw_m4 2 rfl) rfl
theorem q789 : (Jvm.Cond.code ({ cls := "PerilSeat", name := "perilNow", desc := "()I" } : Jvm.MethodName) prog_1_method_12_code (1 : Nat) (Option.some Jvm.ClassFile.FieldType.int)) ∈ lw_all := lw_g (lw_at lw_m4 3 rfl) rfl
theorem q791 : (Jvm.Cond.instanceMethod ({ cls := "PerilSeat", name := "knight", desc := "(II)I" } : Jvm.MethodName)) ∈ lw_all := lw_g (lw_at lw_m4 5 rfl) rfl
theorem q792 : (Jvm.Cond.selects "PerilSeat" ({ cls := "PerilSeat", name := "knight", desc := "(II)I" } : Jvm.MethodName) ({ cls := "PerilSeat", name := "knight", desc := "(II)I" } : Jvm.MethodName)) ∈ lw_all := lw_g (lw_at lw_m4 6 rfl) rfl
theorem q793 : (Jvm.Cond.code ({ cls := "PerilSeat", name := "knight", desc := "(II)I" } : Jvm.MethodName) prog_1_method_27_code (3 : Nat) (Option.some Jvm.ClassFile.FieldType.int)) ∈ lw_all := lw_g (lw_at lw_m4 7 rfl) rfl
theorem q794 : (Jvm.Cond.methodLink "PerilSeat" (223 : Nat) ({ cls := "PerilSeat", name := "isKnight", desc := "(I)Z" } : Jvm.MethodName)) ∈ lw_all := lw_g (lw_at lw_m4 8 rfl) rfl
theorem q795 : (Jvm.Cond.privateMethod ({ cls := "PerilSeat", name := "isKnight", desc := "(I)Z" } : Jvm.MethodName)) ∈ lw_tbl := lw_at lw_m4 9 rfl
theorem q796 : (Jvm.Cond.instanceMethod ({ cls := "PerilSeat", name := "isKnight", desc := "(I)Z" } : Jvm.MethodName)) ∈ lw_all := lw_g (lw_at lw_m4 10 rfl) rfl
theorem q797 : (Jvm.Cond.code ({ cls := "PerilSeat", name := "isKnight", desc := "(I)Z" } : Jvm.MethodName) prog_1_method_20_code (2 : Nat) (Option.some Jvm.ClassFile.FieldType.boolean)) ∈ lw_all := lw_g (lw_at lw_m4 11 rfl) rfl
theorem q798 : (Jvm.Cond.methodLink "PerilSeat" (226 : Nat) ({ cls := "PerilSeat$One", name := "kind", desc := "()I" } : Jvm.MethodName)) ∈ lw_all := lw_g (lw_at lw_m4 12 rfl) rfl
theorem q811 : (Jvm.Cond.methodLink "PerilSeat" (230 : Nat) ({ cls := "PerilSeat", name := "seatNow", desc := "(I)I" } : Jvm.MethodName)) ∈ lw_all := lw_g (lw_at lw_m4 25 rfl) rfl
theorem q812 : (Jvm.Cond.privateMethod ({ cls := "PerilSeat", name := "seatNow", desc := "(I)I" } : Jvm.MethodName)) ∈ lw_tbl := lw_at lw_m4 26 rfl
theorem q813 : (Jvm.Cond.instanceMethod ({ cls := "PerilSeat", name := "seatNow", desc := "(I)I" } : Jvm.MethodName)) ∈ lw_all := lw_g (lw_at lw_m4 27 rfl) rfl
theorem q814 : (Jvm.Cond.code ({ cls := "PerilSeat", name := "seatNow", desc := "(I)I" } : Jvm.MethodName) prog_1_method_26_code (3 : Nat) (Option.some Jvm.ClassFile.FieldType.int)) ∈ lw_all := lw_g (lw_at lw_m4 28 rfl) rfl
theorem q816 : (Jvm.Cond.instanceMethod ({ cls := "PerilSeat", name := "as", desc := "(II)I" } : Jvm.MethodName)) ∈ lw_all := lw_g (lw_at lw_m4 30 rfl) rfl
theorem q817 : (Jvm.Cond.selects "PerilSeat" ({ cls := "PerilSeat", name := "as", desc := "(II)I" } : Jvm.MethodName) ({ cls := "PerilSeat", name := "as", desc := "(II)I" } : Jvm.MethodName)) ∈ lw_all := lw_g (lw_at lw_m4 31 rfl) rfl
theorem q818 : (Jvm.Cond.codeWith ({ cls := "PerilSeat", name := "as", desc := "(II)I" } : Jvm.MethodName) prog_1_method_28_code (6 : Nat) (Option.some Jvm.ClassFile.FieldType.int) [((26 : Nat), (95 : Nat), (96 : Nat), (240 : Nat))]) ∈ lw_all := lw_g (lw_at lw_m4 32 rfl) rfl
theorem q819 : (Jvm.Cond.classLink "PerilSeat" (240 : Nat) "java/lang/ClassCastException") ∈ lw_all := lw_g (lw_at lw_m4 33 rfl) rfl
theorem q843 : (Jvm.Cond.constantLong "PerilSeat" (234 : Nat) (3 : Int64)) ∈ lw_all := lw_g (lw_at lw_m4 57 rfl) rfl
theorem q844 : (Jvm.Cond.methodLink "PerilSeat" (236 : Nat) ({ cls := "PerilSeat", name := "castToOne", desc := "(Ljava/lang/Object;I)LPerilSeat$One;" } : Jvm.MethodName)) ∈ lw_all := lw_g (lw_at lw_m4 58 rfl) rfl
theorem q845 : (Jvm.Cond.static ({ cls := "PerilSeat", name := "castToOne", desc := "(Ljava/lang/Object;I)LPerilSeat$One;" } : Jvm.MethodName)) ∈ lw_all := lw_g (lw_at lw_m4 59 rfl) rfl
theorem q846 : (Jvm.Cond.code ({ cls := "PerilSeat", name := "castToOne", desc := "(Ljava/lang/Object;I)LPerilSeat$One;" } : Jvm.MethodName) prog_1_method_6_code (2 : Nat) (Option.some (Jvm.ClassFile.FieldType.object "PerilSeat$One"))) ∈ lw_all := lw_g (lw_at lw_m4 60 rfl) rfl
theorem q847 : (Jvm.Cond.methodLink "PerilSeat" (111 : Nat) ({ cls := "PerilSeat$One", name := "fitsOn", desc := "(LPerilSeat$Name;I)Z" } : Jvm.MethodName)) ∈ lw_all := lw_g (lw_at lw_m4 61 rfl) rfl
theorem q892 : (Jvm.Cond.instanceMethod ({ cls := "PerilSeat", name := "seatAs", desc := "(II)I" } : Jvm.MethodName)) ∈ lw_all := lw_g (lw_at lw_m4 106 rfl) rfl
theorem q893 : (Jvm.Cond.selects "PerilSeat" ({ cls := "PerilSeat", name := "seatAs", desc := "(II)I" } : Jvm.MethodName) ({ cls := "PerilSeat", name := "seatAs", desc := "(II)I" } : Jvm.MethodName)) ∈ lw_all := lw_g (lw_at lw_m4 107 rfl) rfl
theorem q894 : (Jvm.Cond.codeWith ({ cls := "PerilSeat", name := "seatAs", desc := "(II)I" } : Jvm.MethodName) prog_1_method_29_code (6 : Nat) (Option.some Jvm.ClassFile.FieldType.int) [((26 : Nat), (111 : Nat), (112 : Nat), (240 : Nat))]) ∈ lw_all := lw_g (lw_at lw_m4 108 rfl) rfl
theorem q895 : (Jvm.Cond.constantLong "PerilSeat" (242 : Nat) (5 : Int64)) ∈ lw_all := lw_g (lw_at lw_m4 109 rfl) rfl
theorem q896 : (Jvm.Cond.methodLink "PerilSeat" (244 : Nat) ({ cls := "PerilSeat", name := "castToName", desc := "(Ljava/lang/Object;I)LPerilSeat$Name;" } : Jvm.MethodName)) ∈ lw_all := lw_g (lw_at lw_m4 110 rfl) rfl
theorem q897 : (Jvm.Cond.static ({ cls := "PerilSeat", name := "castToName", desc := "(Ljava/lang/Object;I)LPerilSeat$Name;" } : Jvm.MethodName)) ∈ lw_all := lw_g (lw_at lw_m4 111 rfl) rfl
theorem q898 : (Jvm.Cond.code ({ cls := "PerilSeat", name := "castToName", desc := "(Ljava/lang/Object;I)LPerilSeat$Name;" } : Jvm.MethodName) prog_1_method_4_code (2 : Nat) (Option.some (Jvm.ClassFile.FieldType.object "PerilSeat$Name"))) ∈ lw_all := lw_g (lw_at lw_m4 112 rfl) rfl
theorem q899 : (Jvm.Cond.methodLink "PerilSeat" (142 : Nat) ({ cls := "PerilSeat", name := "has", desc := "(II)Z" } : Jvm.MethodName)) ∈ lw_all := lw_g (lw_at lw_m4 113 rfl) rfl
theorem q900 : (Jvm.Cond.static ({ cls := "PerilSeat", name := "has", desc := "(II)Z" } : Jvm.MethodName)) ∈ lw_all := lw_g (lw_at lw_m4 114 rfl) rfl
theorem q901 : (Jvm.Cond.code ({ cls := "PerilSeat", name := "has", desc := "(II)Z" } : Jvm.MethodName) prog_1_method_2_code (2 : Nat) (Option.some Jvm.ClassFile.FieldType.boolean)) ∈ lw_all := lw_g (lw_at lw_m4 115 rfl) rfl
theorem q903 : (Jvm.Cond.instanceMethod ({ cls := "PerilSeat", name := "sit", desc := "(II)I" } : Jvm.MethodName)) ∈ lw_all := lw_g (lw_at lw_m4 117 rfl) rfl
theorem q904 : (Jvm.Cond.selects "PerilSeat" ({ cls := "PerilSeat", name := "sit", desc := "(II)I" } : Jvm.MethodName) ({ cls := "PerilSeat", name := "sit", desc := "(II)I" } : Jvm.MethodName)) ∈ lw_all := lw_g (lw_at lw_m4 118 rfl) rfl
theorem q905 : (Jvm.Cond.code ({ cls := "PerilSeat", name := "sit", desc := "(II)I" } : Jvm.MethodName) prog_1_method_31_code (3 : Nat) (Option.some Jvm.ClassFile.FieldType.int)) ∈ lw_all := lw_g (lw_at lw_m4 119 rfl) rfl
theorem q906 : (Jvm.Cond.methodLink "PerilSeat" (248 : Nat) ({ cls := "PerilSeat", name := "sitting", desc := "()I" } : Jvm.MethodName)) ∈ lw_all := lw_g (lw_at lw_m4 120 rfl) rfl
theorem q907 : (Jvm.Cond.privateMethod ({ cls := "PerilSeat", name := "sitting", desc := "()I" } : Jvm.MethodName)) ∈ lw_tbl := lw_at lw_m4 121 rfl
theorem q908 : (Jvm.Cond.instanceMethod ({ cls := "PerilSeat", name := "sitting", desc := "()I" } : Jvm.MethodName)) ∈ lw_all := lw_g (lw_at lw_m4 122 rfl) rfl
theorem q909 : (Jvm.Cond.code ({ cls := "PerilSeat", name := "sitting", desc := "()I" } : Jvm.MethodName) prog_1_method_30_code (3 : Nat) (Option.some Jvm.ClassFile.FieldType.int)) ∈ lw_all := lw_g (lw_at lw_m4 123 rfl) rfl
theorem q910 : (Jvm.Cond.methodLink "PerilSeat" (251 : Nat) ({ cls := "PerilSeat", name := "note", desc := "()V" } : Jvm.MethodName)) ∈ lw_all := lw_g (lw_at lw_m4 124 rfl) rfl
theorem q911 : (Jvm.Cond.privateMethod ({ cls := "PerilSeat", name := "note", desc := "()V" } : Jvm.MethodName)) ∈ lw_tbl := lw_at lw_m4 125 rfl
theorem q912 : (Jvm.Cond.instanceMethod ({ cls := "PerilSeat", name := "note", desc := "()V" } : Jvm.MethodName)) ∈ lw_all := lw_g (lw_at lw_m4 126 rfl) rfl
theorem q913 : (Jvm.Cond.code ({ cls := "PerilSeat", name := "note", desc := "()V" } : Jvm.MethodName) prog_1_method_10_code (2 : Nat) (Option.none : Option Jvm.ClassFile.FieldType)) ∈ lw_all := lw_g (lw_at lw_m4 127 rfl) rfl
theorem q914 : (Jvm.Cond.methodLink "PerilSeat" (96 : Nat) ({ cls := "java/lang/System", name := "arraycopy", desc := "(Ljava/lang/Object;ILjava/lang/Object;II)V" } : Jvm.MethodName)) ∈ lw_all := lw_g (lw_at lw_m4 128 rfl) rfl
theorem q915 : (Jvm.Cond.methodLink "PerilSeat" (103 : Nat) ({ cls := "PerilSeat$State", name := "set", desc := "(LPerilSeat$State;)LPerilSeat$State;" } : Jvm.MethodName)) ∈ lw_all := lw_g (lw_at lw_m4 129 rfl) rfl
theorem q920 : (Jvm.Cond.methodLink "PerilSeat" (254 : Nat) ({ cls := "java/lang/Integer", name := "bitCount", desc := "(I)I" } : Jvm.MethodName)) ∈ lw_all := lw_g (lw_at lw_m4 134 rfl) rfl
theorem q927 : (Jvm.Cond.instanceMethod ({ cls := "PerilSeat", name := "rise", desc := "()I" } : Jvm.MethodName)) ∈ lw_all := lw_g (lw_at lw_m4 141 rfl) rfl
theorem q928 : (Jvm.Cond.selects "PerilSeat" ({ cls := "PerilSeat", name := "rise", desc := "()I" } : Jvm.MethodName) ({ cls := "PerilSeat", name := "rise", desc := "()I" } : Jvm.MethodName)) ∈ lw_all := lw_g (lw_at lw_m4 142 rfl) rfl
theorem q929 : (Jvm.Cond.code ({ cls := "PerilSeat", name := "rise", desc := "()I" } : Jvm.MethodName) prog_1_method_32_code (2 : Nat) (Option.some Jvm.ClassFile.FieldType.int)) ∈ lw_all := lw_g (lw_at lw_m4 143 rfl) rfl
theorem q931 : (Jvm.Cond.instanceMethod ({ cls := "PerilSeat", name := "tell", desc := "(II)I" } : Jvm.MethodName)) ∈ lw_all := lw_g (lw_at lw_m4 145 rfl) rfl
theorem q932 : (Jvm.Cond.selects "PerilSeat" ({ cls := "PerilSeat", name := "tell", desc := "(II)I" } : Jvm.MethodName) ({ cls := "PerilSeat", name := "tell", desc := "(II)I" } : Jvm.MethodName)) ∈ lw_all := lw_g (lw_at lw_m4 146 rfl) rfl
theorem q933 : (Jvm.Cond.code ({ cls := "PerilSeat", name := "tell", desc := "(II)I" } : Jvm.MethodName) prog_1_method_33_code (3 : Nat) (Option.some Jvm.ClassFile.FieldType.int)) ∈ lw_all := lw_g (lw_at lw_m4 147 rfl) rfl
theorem q935 : (Jvm.Cond.instanceMethod ({ cls := "PerilSeat", name := "feast", desc := "()I" } : Jvm.MethodName)) ∈ lw_all := lw_g (lw_at lw_m4 149 rfl) rfl
theorem q936 : (Jvm.Cond.selects "PerilSeat" ({ cls := "PerilSeat", name := "feast", desc := "()I" } : Jvm.MethodName) ({ cls := "PerilSeat", name := "feast", desc := "()I" } : Jvm.MethodName)) ∈ lw_all := lw_g (lw_at lw_m4 150 rfl) rfl
theorem q937 : (Jvm.Cond.code ({ cls := "PerilSeat", name := "feast", desc := "()I" } : Jvm.MethodName) prog_1_method_36_code (6 : Nat) (Option.some Jvm.ClassFile.FieldType.int)) ∈ lw_all := lw_g (lw_at lw_m4 151 rfl) rfl
theorem q938 : (Jvm.Cond.methodLink "PerilSeat" (268 : Nat) ({ cls := "PerilSeat", name := "wrongNow", desc := "()I" } : Jvm.MethodName)) ∈ lw_all := lw_g (lw_at lw_m4 152 rfl) rfl
theorem q939 : (Jvm.Cond.privateMethod ({ cls := "PerilSeat", name := "wrongNow", desc := "()I" } : Jvm.MethodName)) ∈ lw_tbl := lw_at lw_m4 153 rfl
theorem q940 : (Jvm.Cond.instanceMethod ({ cls := "PerilSeat", name := "wrongNow", desc := "()I" } : Jvm.MethodName)) ∈ lw_all := lw_g (lw_at lw_m4 154 rfl) rfl
theorem q941 : (Jvm.Cond.code ({ cls := "PerilSeat", name := "wrongNow", desc := "()I" } : Jvm.MethodName) prog_1_method_34_code (3 : Nat) (Option.some Jvm.ClassFile.FieldType.int)) ∈ lw_all := lw_g (lw_at lw_m4 155 rfl) rfl
theorem q942 : (Jvm.Cond.methodLink "PerilSeat" (259 : Nat) ({ cls := "PerilSeat", name := "isWrong", desc := "(II)Z" } : Jvm.MethodName)) ∈ lw_all := lw_g (lw_at lw_m4 156 rfl) rfl
theorem q943 : (Jvm.Cond.privateMethod ({ cls := "PerilSeat", name := "isWrong", desc := "(II)Z" } : Jvm.MethodName)) ∈ lw_tbl := lw_at lw_m4 157 rfl
theorem q944 : (Jvm.Cond.instanceMethod ({ cls := "PerilSeat", name := "isWrong", desc := "(II)Z" } : Jvm.MethodName)) ∈ lw_all := lw_g (lw_at lw_m4 158 rfl) rfl
theorem q945 : (Jvm.Cond.code ({ cls := "PerilSeat", name := "isWrong", desc := "(II)Z" } : Jvm.MethodName) prog_1_method_13_code (3 : Nat) (Option.some Jvm.ClassFile.FieldType.boolean)) ∈ lw_all := lw_g (lw_at lw_m4 159 rfl) rfl
theorem q946 : (Jvm.Cond.methodLink "PerilSeat" (124 : Nat) ({ cls := "PerilSeat", name := "fits", desc := "(II)Z" } : Jvm.MethodName)) ∈ lw_all := lw_g (lw_at lw_m4 160 rfl) rfl
theorem q947 : (Jvm.Cond.privateMethod ({ cls := "PerilSeat", name := "fits", desc := "(II)Z" } : Jvm.MethodName)) ∈ lw_tbl := lw_at lw_m4 161 rfl
theorem q948 : (Jvm.Cond.instanceMethod ({ cls := "PerilSeat", name := "fits", desc := "(II)Z" } : Jvm.MethodName)) ∈ lw_all := lw_g (lw_at lw_m4 162 rfl) rfl
theorem q949 : (Jvm.Cond.code ({ cls := "PerilSeat", name := "fits", desc := "(II)Z" } : Jvm.MethodName) prog_1_method_11_code (3 : Nat) (Option.some Jvm.ClassFile.FieldType.boolean)) ∈ lw_all := lw_g (lw_at lw_m4 163 rfl) rfl
theorem q950 : (Jvm.Cond.methodLink "PerilSeat" (135 : Nat) ({ cls := "PerilSeat$One", name := "isSpared", desc := "()Z" } : Jvm.MethodName)) ∈ lw_all := lw_g (lw_at lw_m4 164 rfl) rfl
theorem q960 : (Jvm.Cond.methodLink "PerilSeat" (271 : Nat) ({ cls := "java/util/Arrays", name := "copyOf", desc := "([II)[I" } : Jvm.MethodName)) ∈ lw_all := lw_g (lw_at lw_m4 174 rfl) rfl
theorem q968 : (Jvm.Cond.methodLink "PerilSeat" (262 : Nat) ({ cls := "PerilSeat", name := "behind", desc := "(I)I" } : Jvm.MethodName)) ∈ lw_all := lw_g (lw_at lw_m4 182 rfl) rfl
theorem q969 : (Jvm.Cond.privateMethod ({ cls := "PerilSeat", name := "behind", desc := "(I)I" } : Jvm.MethodName)) ∈ lw_tbl := lw_at lw_m4 183 rfl
theorem q970 : (Jvm.Cond.instanceMethod ({ cls := "PerilSeat", name := "behind", desc := "(I)I" } : Jvm.MethodName)) ∈ lw_all := lw_g (lw_at lw_m4 184 rfl) rfl
theorem q971 : (Jvm.Cond.code ({ cls := "PerilSeat", name := "behind", desc := "(I)I" } : Jvm.MethodName) prog_1_method_14_code (2 : Nat) (Option.some Jvm.ClassFile.FieldType.int)) ∈ lw_all := lw_g (lw_at lw_m4 185 rfl) rfl
theorem q972 : (Jvm.Cond.methodLink "PerilSeat" (275 : Nat) ({ cls := "PerilSeat", name := "isBeset", desc := "(I)Z" } : Jvm.MethodName)) ∈ lw_all := lw_g (lw_at lw_m4 186 rfl) rfl
theorem q973 : (Jvm.Cond.privateMethod ({ cls := "PerilSeat", name := "isBeset", desc := "(I)Z" } : Jvm.MethodName)) ∈ lw_tbl := lw_at lw_m4 187 rfl
theorem q974 : (Jvm.Cond.instanceMethod ({ cls := "PerilSeat", name := "isBeset", desc := "(I)Z" } : Jvm.MethodName)) ∈ lw_all := lw_g (lw_at lw_m4 188 rfl) rfl
theorem q975 : (Jvm.Cond.code ({ cls := "PerilSeat", name := "isBeset", desc := "(I)Z" } : Jvm.MethodName) prog_1_method_35_code (3 : Nat) (Option.some Jvm.ClassFile.FieldType.boolean)) ∈ lw_all := lw_g (lw_at lw_m4 189 rfl) rfl
theorem q976 : (Jvm.Cond.methodLink "PerilSeat" (265 : Nat) ({ cls := "PerilSeat", name := "areEnemies", desc := "(II)Z" } : Jvm.MethodName)) ∈ lw_all := lw_g (lw_at lw_m4 190 rfl) rfl
theorem q977 : (Jvm.Cond.privateMethod ({ cls := "PerilSeat", name := "areEnemies", desc := "(II)Z" } : Jvm.MethodName)) ∈ lw_tbl := lw_at lw_m4 191 rfl
theorem q978 : (Jvm.Cond.instanceMethod ({ cls := "PerilSeat", name := "areEnemies", desc := "(II)Z" } : Jvm.MethodName)) ∈ lw_all := lw_g (lw_at lw_m4 192 rfl) rfl
theorem q979 : (Jvm.Cond.code ({ cls := "PerilSeat", name := "areEnemies", desc := "(II)Z" } : Jvm.MethodName) prog_1_method_15_code (3 : Nat) (Option.some Jvm.ClassFile.FieldType.boolean)) ∈ lw_all := lw_g (lw_at lw_m4 193 rfl) rfl
theorem q980 : (Jvm.Cond.methodLink "PerilSeat" (278 : Nat) ({ cls := "java/lang/Math", name := "max", desc := "(II)I" } : Jvm.MethodName)) ∈ lw_all := lw_g (lw_at lw_m4 194 rfl) rfl
theorem q981 : (Jvm.Cond.methodLink "PerilSeat" (284 : Nat) ({ cls := "java/lang/Math", name := "min", desc := "(II)I" } : Jvm.MethodName)) ∈ lw_all := lw_g (lw_at lw_m4 195 rfl) rfl
theorem q983 : (Jvm.Cond.instanceMethod ({ cls := "PerilSeat", name := "undo", desc := "()I" } : Jvm.MethodName)) ∈ lw_all := lw_g (lw_at lw_m4 197 rfl) rfl
theorem q984 : (Jvm.Cond.selects "PerilSeat" ({ cls := "PerilSeat", name := "undo", desc := "()I" } : Jvm.MethodName) ({ cls := "PerilSeat", name := "undo", desc := "()I" } : Jvm.MethodName)) ∈ lw_all := lw_g (lw_at lw_m4 198 rfl) rfl
theorem q985 : (Jvm.Cond.code ({ cls := "PerilSeat", name := "undo", desc := "()I" } : Jvm.MethodName) prog_1_method_37_code (1 : Nat) (Option.some Jvm.ClassFile.FieldType.int)) ∈ lw_all := lw_g (lw_at lw_m4 199 rfl) rfl
theorem q987 : (Jvm.Cond.instanceMethod ({ cls := "PerilSeat", name := "keep", desc := "(I)I" } : Jvm.MethodName)) ∈ lw_all := lw_g (lw_at lw_m4 201 rfl) rfl
theorem q988 : (Jvm.Cond.selects "PerilSeat" ({ cls := "PerilSeat", name := "keep", desc := "(I)I" } : Jvm.MethodName) ({ cls := "PerilSeat", name := "keep", desc := "(I)I" } : Jvm.MethodName)) ∈ lw_all := lw_g (lw_at lw_m4 202 rfl) rfl
theorem q989 : (Jvm.Cond.code ({ cls := "PerilSeat", name := "keep", desc := "(I)I" } : Jvm.MethodName) prog_1_method_38_code (2 : Nat) (Option.some Jvm.ClassFile.FieldType.int)) ∈ lw_all := lw_g (lw_at lw_m4 203 rfl) rfl
theorem q991 : (Jvm.Cond.instanceMethod ({ cls := "PerilSeat", name := "back", desc := "(I)I" } : Jvm.MethodName)) ∈ lw_all := lw_g (lw_at lw_m4 205 rfl) rfl
theorem q992 : (Jvm.Cond.selects "PerilSeat" ({ cls := "PerilSeat", name := "back", desc := "(I)I" } : Jvm.MethodName) ({ cls := "PerilSeat", name := "back", desc := "(I)I" } : Jvm.MethodName)) ∈ lw_all := lw_g (lw_at lw_m4 206 rfl) rfl
theorem q993 : (Jvm.Cond.codeWith ({ cls := "PerilSeat", name := "back", desc := "(I)I" } : Jvm.MethodName) prog_1_method_39_code (3 : Nat) (Option.some Jvm.ClassFile.FieldType.int) [((13 : Nat), (27 : Nat), (30 : Nat), (287 : Nat))]) ∈ lw_all := lw_g (lw_at lw_m4 207 rfl) rfl
theorem q994 : (Jvm.Cond.classLink "PerilSeat" (287 : Nat) "java/lang/NullPointerException") ∈ lw_all := lw_g (lw_at lw_m4 208 rfl) rfl
theorem q1020 : (Jvm.Cond.instanceMethod ({ cls := "PerilSeat", name := "seatings", desc := "()I" } : Jvm.MethodName)) ∈ lw_all := lw_g (lw_at lw_m4 234 rfl) rfl
theorem q1021 : (Jvm.Cond.selects "PerilSeat" ({ cls := "PerilSeat", name := "seatings", desc := "()I" } : Jvm.MethodName) ({ cls := "PerilSeat", name := "seatings", desc := "()I" } : Jvm.MethodName)) ∈ lw_all := lw_g (lw_at lw_m4 235 rfl) rfl
theorem q1022 : (Jvm.Cond.code ({ cls := "PerilSeat", name := "seatings", desc := "()I" } : Jvm.MethodName) prog_1_method_43_code (1 : Nat) (Option.some Jvm.ClassFile.FieldType.int)) ∈ lw_all := lw_g (lw_at lw_m4 236 rfl) rfl
theorem q1023 : (Jvm.Cond.methodLink "PerilSeat" (307 : Nat) ({ cls := "PerilSeat", name := "search", desc := "(I)I" } : Jvm.MethodName)) ∈ lw_all := lw_g (lw_at lw_m4 237 rfl) rfl
theorem q1024 : (Jvm.Cond.privateMethod ({ cls := "PerilSeat", name := "search", desc := "(I)I" } : Jvm.MethodName)) ∈ lw_tbl := lw_at lw_m4 238 rfl
theorem q1025 : (Jvm.Cond.instanceMethod ({ cls := "PerilSeat", name := "search", desc := "(I)I" } : Jvm.MethodName)) ∈ lw_all := lw_g (lw_at lw_m4 239 rfl) rfl
theorem q1026 : (Jvm.Cond.code ({ cls := "PerilSeat", name := "search", desc := "(I)I" } : Jvm.MethodName) prog_1_method_42_code (2 : Nat) (Option.some Jvm.ClassFile.FieldType.int)) ∈ lw_all := lw_g (lw_at lw_m5 0 rfl) rfl
theorem q1027 : (Jvm.Cond.methodLink "PerilSeat" (301 : Nat) ({ cls := "PerilSeat", name := "seatAll", desc := "(I)V" } : Jvm.MethodName)) ∈ lw_all := lw_g (lw_at lw_m5 1 rfl) rfl
theorem q1028 : (Jvm.Cond.privateMethod ({ cls := "PerilSeat", name := "seatAll", desc := "(I)V" } : Jvm.MethodName)) ∈ lw_tbl := lw_at lw_m5 2 rfl
theorem q1029 : (Jvm.Cond.instanceMethod ({ cls := "PerilSeat", name := "seatAll", desc := "(I)V" } : Jvm.MethodName)) ∈ lw_all := lw_g (lw_at lw_m5 3 rfl) rfl
theorem q1030 : (Jvm.Cond.code ({ cls := "PerilSeat", name := "seatAll", desc := "(I)V" } : Jvm.MethodName) prog_1_method_40_code (4 : Nat) (Option.none : Option Jvm.ClassFile.FieldType)) ∈ lw_all := lw_g (lw_at lw_m5 4 rfl) rfl
theorem q1031 : (Jvm.Cond.methodLink "PerilSeat" (298 : Nat) ({ cls := "PerilSeat", name := "knowers", desc := "()I" } : Jvm.MethodName)) ∈ lw_all := lw_g (lw_at lw_m5 5 rfl) rfl
theorem q1032 : (Jvm.Cond.privateMethod ({ cls := "PerilSeat", name := "knowers", desc := "()I" } : Jvm.MethodName)) ∈ lw_tbl := lw_at lw_m5 6 rfl
theorem q1033 : (Jvm.Cond.instanceMethod ({ cls := "PerilSeat", name := "knowers", desc := "()I" } : Jvm.MethodName)) ∈ lw_all := lw_g (lw_at lw_m5 7 rfl) rfl
theorem q1034 : (Jvm.Cond.code ({ cls := "PerilSeat", name := "knowers", desc := "()I" } : Jvm.MethodName) prog_1_method_41_code (4 : Nat) (Option.some Jvm.ClassFile.FieldType.int)) ∈ lw_all := lw_g (lw_at lw_m5 8 rfl) rfl
theorem q1036 : (Jvm.Cond.instanceMethod ({ cls := "PerilSeat", name := "seatOf", desc := "(I)I" } : Jvm.MethodName)) ∈ lw_all := lw_g (lw_at lw_m5 10 rfl) rfl
theorem q1037 : (Jvm.Cond.selects "PerilSeat" ({ cls := "PerilSeat", name := "seatOf", desc := "(I)I" } : Jvm.MethodName) ({ cls := "PerilSeat", name := "seatOf", desc := "(I)I" } : Jvm.MethodName)) ∈ lw_all := lw_g (lw_at lw_m5 11 rfl) rfl
theorem q1038 : (Jvm.Cond.code ({ cls := "PerilSeat", name := "seatOf", desc := "(I)I" } : Jvm.MethodName) prog_1_method_44_code (2 : Nat) (Option.some Jvm.ClassFile.FieldType.int)) ∈ lw_all := lw_g (lw_at lw_m5 12 rfl) rfl
theorem q1040 : (Jvm.Cond.instanceMethod ({ cls := "PerilSeat", name := "moved", desc := "()I" } : Jvm.MethodName)) ∈ lw_all := lw_g (lw_at lw_m5 14 rfl) rfl
theorem q1041 : (Jvm.Cond.selects "PerilSeat" ({ cls := "PerilSeat", name := "moved", desc := "()I" } : Jvm.MethodName) ({ cls := "PerilSeat", name := "moved", desc := "()I" } : Jvm.MethodName)) ∈ lw_all := lw_g (lw_at lw_m5 15 rfl) rfl
theorem q1042 : (Jvm.Cond.code ({ cls := "PerilSeat", name := "moved", desc := "()I" } : Jvm.MethodName) prog_1_method_45_code (1 : Nat) (Option.some Jvm.ClassFile.FieldType.int)) ∈ lw_all := lw_g (lw_at lw_m5 16 rfl) rfl
theorem q1044 : (Jvm.Cond.instanceMethod ({ cls := "PerilSeat", name := "knows", desc := "(I)I" } : Jvm.MethodName)) ∈ lw_all := lw_g (lw_at lw_m5 18 rfl) rfl
theorem q1045 : (Jvm.Cond.selects "PerilSeat" ({ cls := "PerilSeat", name := "knows", desc := "(I)I" } : Jvm.MethodName) ({ cls := "PerilSeat", name := "knows", desc := "(I)I" } : Jvm.MethodName)) ∈ lw_all := lw_g (lw_at lw_m5 19 rfl) rfl
theorem q1046 : (Jvm.Cond.code ({ cls := "PerilSeat", name := "knows", desc := "(I)I" } : Jvm.MethodName) prog_1_method_46_code (2 : Nat) (Option.some Jvm.ClassFile.FieldType.int)) ∈ lw_all := lw_g (lw_at lw_m5 20 rfl) rfl
theorem q1048 : (Jvm.Cond.instanceMethod ({ cls := "PerilSeat", name := "judge", desc := "(I)I" } : Jvm.MethodName)) ∈ lw_all := lw_g (lw_at lw_m5 22 rfl) rfl
theorem q1049 : (Jvm.Cond.selects "PerilSeat" ({ cls := "PerilSeat", name := "judge", desc := "(I)I" } : Jvm.MethodName) ({ cls := "PerilSeat", name := "judge", desc := "(I)I" } : Jvm.MethodName)) ∈ lw_all := lw_g (lw_at lw_m5 23 rfl) rfl
theorem q1050 : (Jvm.Cond.code ({ cls := "PerilSeat", name := "judge", desc := "(I)I" } : Jvm.MethodName) prog_1_method_47_code (4 : Nat) (Option.some Jvm.ClassFile.FieldType.int)) ∈ lw_all := lw_g (lw_at lw_m5 24 rfl) rfl
theorem q1052 : (Jvm.Cond.instanceMethod ({ cls := "PerilSeat", name := "seen", desc := "(IIII)I" } : Jvm.MethodName)) ∈ lw_all := lw_g (lw_at lw_m5 26 rfl) rfl
theorem q1053 : (Jvm.Cond.selects "PerilSeat" ({ cls := "PerilSeat", name := "seen", desc := "(IIII)I" } : Jvm.MethodName) ({ cls := "PerilSeat", name := "seen", desc := "(IIII)I" } : Jvm.MethodName)) ∈ lw_all := lw_g (lw_at lw_m5 27 rfl) rfl
theorem q1054 : (Jvm.Cond.code ({ cls := "PerilSeat", name := "seen", desc := "(IIII)I" } : Jvm.MethodName) prog_1_method_48_code (5 : Nat) (Option.some Jvm.ClassFile.FieldType.int)) ∈ lw_all := lw_g (lw_at lw_m5 28 rfl) rfl
theorem q1056 : (Jvm.Cond.instanceMethod ({ cls := "PerilSeat", name := "forget", desc := "()I" } : Jvm.MethodName)) ∈ lw_all := lw_g (lw_at lw_m5 30 rfl) rfl
theorem q1057 : (Jvm.Cond.selects "PerilSeat" ({ cls := "PerilSeat", name := "forget", desc := "()I" } : Jvm.MethodName) ({ cls := "PerilSeat", name := "forget", desc := "()I" } : Jvm.MethodName)) ∈ lw_all := lw_g (lw_at lw_m5 31 rfl) rfl
theorem q1058 : (Jvm.Cond.code ({ cls := "PerilSeat", name := "forget", desc := "()I" } : Jvm.MethodName) prog_1_method_49_code (2 : Nat) (Option.some Jvm.ClassFile.FieldType.int)) ∈ lw_all := lw_g (lw_at lw_m5 32 rfl) rfl
theorem q1060 : (Jvm.Cond.instanceMethod ({ cls := "PerilSeat", name := "worlds", desc := "(I)I" } : Jvm.MethodName)) ∈ lw_all := lw_g (lw_at lw_m5 34 rfl) rfl
theorem q1061 : (Jvm.Cond.selects "PerilSeat" ({ cls := "PerilSeat", name := "worlds", desc := "(I)I" } : Jvm.MethodName) ({ cls := "PerilSeat", name := "worlds", desc := "(I)I" } : Jvm.MethodName)) ∈ lw_all := lw_g (lw_at lw_m5 35 rfl) rfl
theorem q1062 : (Jvm.Cond.code ({ cls := "PerilSeat", name := "worlds", desc := "(I)I" } : Jvm.MethodName) prog_1_method_51_code (8 : Nat) (Option.some Jvm.ClassFile.FieldType.int)) ∈ lw_all := lw_g (lw_at lw_m5 36 rfl) rfl
theorem q1063 : (Jvm.Cond.constantLong "PerilSeat" (310 : Nat) (2 : Int64)) ∈ lw_all := lw_g (lw_at lw_m5 37 rfl) rfl
theorem q1064 : (Jvm.Cond.methodLink "PerilSeat" (312 : Nat) ({ cls := "PerilSeat", name := "isWorld", desc := "(III)Z" } : Jvm.MethodName)) ∈ lw_all := lw_g (lw_at lw_m5 38 rfl) rfl
theorem q1065 : (Jvm.Cond.privateMethod ({ cls := "PerilSeat", name := "isWorld", desc := "(III)Z" } : Jvm.MethodName)) ∈ lw_tbl := lw_at lw_m5 39 rfl
theorem q1066 : (Jvm.Cond.instanceMethod ({ cls := "PerilSeat", name := "isWorld", desc := "(III)Z" } : Jvm.MethodName)) ∈ lw_all := lw_g (lw_at lw_m5 40 rfl) rfl
theorem q1067 : (Jvm.Cond.code ({ cls := "PerilSeat", name := "isWorld", desc := "(III)Z" } : Jvm.MethodName) prog_1_method_50_code (7 : Nat) (Option.some Jvm.ClassFile.FieldType.boolean)) ∈ lw_all := lw_g (lw_at lw_m5 41 rfl) rfl
theorem q1069 : (Jvm.Cond.instanceMethod ({ cls := "PerilSeat", name := "safest", desc := "(II)I" } : Jvm.MethodName)) ∈ lw_all := lw_g (lw_at lw_m5 43 rfl) rfl
theorem q1070 : (Jvm.Cond.selects "PerilSeat" ({ cls := "PerilSeat", name := "safest", desc := "(II)I" } : Jvm.MethodName) ({ cls := "PerilSeat", name := "safest", desc := "(II)I" } : Jvm.MethodName)) ∈ lw_all := lw_g (lw_at lw_m5 44 rfl) rfl
theorem q1071 : (Jvm.Cond.code ({ cls := "PerilSeat", name := "safest", desc := "(II)I" } : Jvm.MethodName) prog_1_method_53_code (7 : Nat) (Option.some Jvm.ClassFile.FieldType.int)) ∈ lw_all := lw_g (lw_at lw_m5 45 rfl) rfl
theorem q1072 : (Jvm.Cond.methodLink "PerilSeat" (316 : Nat) ({ cls := "PerilSeat", name := "dangers", desc := "(II)I" } : Jvm.MethodName)) ∈ lw_all := lw_g (lw_at lw_m5 46 rfl) rfl
theorem q1073 : (Jvm.Cond.privateMethod ({ cls := "PerilSeat", name := "dangers", desc := "(II)I" } : Jvm.MethodName)) ∈ lw_tbl := lw_at lw_m5 47 rfl
theorem q1074 : (Jvm.Cond.instanceMethod ({ cls := "PerilSeat", name := "dangers", desc := "(II)I" } : Jvm.MethodName)) ∈ lw_all := lw_g (lw_at lw_m5 48 rfl) rfl
theorem q1075 : (Jvm.Cond.code ({ cls := "PerilSeat", name := "dangers", desc := "(II)I" } : Jvm.MethodName) prog_1_method_52_code (7 : Nat) (Option.some Jvm.ClassFile.FieldType.int)) ∈ lw_all := lw_g (lw_at lw_m5 49 rfl) rfl
theorem q1077 : (Jvm.Cond.instanceMethod ({ cls := "PerilSeat", name := "quests", desc := "(IIIII)J" } : Jvm.MethodName)) ∈ lw_all := lw_g (lw_at lw_m5 51 rfl) rfl
theorem q1078 : (Jvm.Cond.selects "PerilSeat" ({ cls := "PerilSeat", name := "quests", desc := "(IIIII)J" } : Jvm.MethodName) ({ cls := "PerilSeat", name := "quests", desc := "(IIIII)J" } : Jvm.MethodName)) ∈ lw_all := lw_g (lw_at lw_m5 52 rfl) rfl
theorem q1079 : (Jvm.Cond.code ({ cls := "PerilSeat", name := "quests", desc := "(IIIII)J" } : Jvm.MethodName) prog_1_method_54_code (15 : Nat) (Option.some Jvm.ClassFile.FieldType.long)) ∈ lw_all := lw_g (lw_at lw_m5 53 rfl) rfl
theorem q1080 : (Jvm.Cond.constantLong "PerilSeat" (319 : Nat) (-2 : Int64)) ∈ lw_all := lw_g (lw_at lw_m5 54 rfl) rfl
theorem q1081 : (Jvm.Cond.constantLong "PerilSeat" (321 : Nat) (8 : Int64)) ∈ lw_all := lw_g (lw_at lw_m5 55 rfl) rfl
theorem q1082 : (Jvm.Cond.constantLong "PerilSeat" (323 : Nat) (10 : Int64)) ∈ lw_all := lw_g (lw_at lw_m5 56 rfl) rfl
theorem q1083 : (Jvm.Cond.constantLong "PerilSeat" (325 : Nat) (-3 : Int64)) ∈ lw_all := lw_g (lw_at lw_m5 57 rfl) rfl
theorem q1084 : (Jvm.Cond.methodLink "PerilSeat" (153 : Nat) ({ cls := "PerilSeat", name := "gcd", desc := "(JJ)J" } : Jvm.MethodName)) ∈ lw_all := lw_g (lw_at lw_m5 58 rfl) rfl
theorem q1085 : (Jvm.Cond.static ({ cls := "PerilSeat", name := "gcd", desc := "(JJ)J" } : Jvm.MethodName)) ∈ lw_all := lw_g (lw_at lw_m5 59 rfl) rfl
theorem q1086 : (Jvm.Cond.code ({ cls := "PerilSeat", name := "gcd", desc := "(JJ)J" } : Jvm.MethodName) prog_1_method_17_code (4 : Nat) (Option.some Jvm.ClassFile.FieldType.long)) ∈ lw_all := lw_g (lw_at lw_m5 60 rfl) rfl
theorem q1088 : (Jvm.Cond.instanceMethod ({ cls := "PerilSeat", name := "lent", desc := "(I)I" } : Jvm.MethodName)) ∈ lw_all := lw_g (lw_at lw_m5 62 rfl) rfl
theorem q1089 : (Jvm.Cond.selects "PerilSeat" ({ cls := "PerilSeat", name := "lent", desc := "(I)I" } : Jvm.MethodName) ({ cls := "PerilSeat", name := "lent", desc := "(I)I" } : Jvm.MethodName)) ∈ lw_all := lw_g (lw_at lw_m5 63 rfl) rfl
theorem q1090 : (Jvm.Cond.codeWith ({ cls := "PerilSeat", name := "lent", desc := "(I)I" } : Jvm.MethodName) prog_1_method_55_code (6 : Nat) (Option.some Jvm.ClassFile.FieldType.int) [((24 : Nat), (44 : Nat), (54 : Nat), (0 : Nat)), ((54 : Nat), (56 : Nat), (54 : Nat), (0 : Nat))]) ∈ lw_all := lw_g (lw_at lw_m5 64 rfl) rfl
theorem q1092 : (Jvm.Cond.instanceMethod ({ cls := "PerilSeat", name := "count", desc := "(I)I" } : Jvm.MethodName)) ∈ lw_all := lw_g (lw_at lw_m5 66 rfl) rfl
theorem q1093 : (Jvm.Cond.selects "PerilSeat" ({ cls := "PerilSeat", name := "count", desc := "(I)I" } : Jvm.MethodName) ({ cls := "PerilSeat", name := "count", desc := "(I)I" } : Jvm.MethodName)) ∈ lw_all := lw_g (lw_at lw_m5 67 rfl) rfl
theorem q1094 : (Jvm.Cond.code ({ cls := "PerilSeat", name := "count", desc := "(I)I" } : Jvm.MethodName) prog_1_method_56_code (4 : Nat) (Option.some Jvm.ClassFile.FieldType.int)) ∈ lw_all := lw_g (lw_at lw_m5 68 rfl) rfl
theorem q1508 : (Jvm.Cond.castable "PerilSeat" "java/lang/Object") ∈ lw_tbl := lw_at lw_m7 2 rfl
theorem q1534 : (Jvm.Cond.stringRef "PerilSeat" (329 : Nat) "table") ∈ lw_tbl := lw_at lw_m7 28 rfl
theorem q1535 : (Jvm.Cond.stringRef "PerilSeat" (331 : Nat) "gold") ∈ lw_tbl := lw_at lw_m7 29 rfl
theorem q1536 : (Jvm.Cond.stringRef "PerilSeat" (333 : Nat) "meek") ∈ lw_tbl := lw_at lw_m7 30 rfl
theorem q1537 : (Jvm.Cond.stringRef "PerilSeat" (335 : Nat) "kin") ∈ lw_tbl := lw_at lw_m7 31 rfl
theorem q1538 : (Jvm.Cond.stringRef "PerilSeat" (337 : Nat) "mourning") ∈ lw_tbl := lw_at lw_m7 32 rfl
theorem q1539 : (Jvm.Cond.stringRef "PerilSeat" (339 : Nat) "knight") ∈ lw_tbl := lw_at lw_m7 33 rfl
theorem q1540 : (Jvm.Cond.stringRef "PerilSeat" (341 : Nat) "squire") ∈ lw_tbl := lw_at lw_m7 34 rfl
theorem q1541 : (Jvm.Cond.stringRef "PerilSeat" (343 : Nat) "king") ∈ lw_tbl := lw_at lw_m7 35 rfl
theorem q1542 : (Jvm.Cond.stringRef "PerilSeat" (345 : Nat) "enemies") ∈ lw_tbl := lw_at lw_m7 36 rfl
theorem q1543 : (Jvm.Cond.stringRef "PerilSeat" (346 : Nat) "peril") ∈ lw_tbl := lw_at lw_m7 37 rfl
theorem q1544 : (Jvm.Cond.stringRef "PerilSeat" (348 : Nat) "meant") ∈ lw_tbl := lw_at lw_m7 38 rfl
theorem q1545 : (Jvm.Cond.stringRef "PerilSeat" (349 : Nat) "peace") ∈ lw_tbl := lw_at lw_m7 39 rfl
theorem in_X0 : ∀ w ∈ wsX00, w ∈ lw_all := lw_in wsX00 [182, 184, 186, 188, 190, 192, 194, 196, 198, 200, 202, 204, 206, 208, 210, 212, 214, 216, 218, 220, 222, 224, 226] (by decide +kernel) (by decide +kernel)

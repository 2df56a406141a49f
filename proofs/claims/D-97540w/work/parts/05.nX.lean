/-! PerilSeat$State -/
set_option maxRecDepth 100000
def RX1 : String := "PerilSeat$State"
def TX1 : u_T := fun k => match k with
  | 0 => ("PerilSeat$State", "renown", "[I", true)
  | 1 => ("PerilSeat$State", "news", "[I", true)
  | 2 => ("PerilSeat$State", "row", "[I", true)
  | 3 => ("PerilSeat$State", "there", "I", false)
  | _ => ("PerilSeat$State", "day", "I", false)
def tyX1 : Nat → FieldType := fun k => match k with
  | 0 => .array .int
  | 1 => .array .int
  | 2 => .array .int
  | 3 => .int
  | _ => .int
abbrev wsX10 : List Cond := u_ws RX1 TX1 5
theorem nmX1 : ∀ a, a < 5 → ∀ b, b < 5 → a ≠ b → (TX1 a).2.1 ≠ (TX1 b).2.1 := by decide +kernel
theorem tyX1_ok : ∀ k, k < 5 → parseFieldDescriptor (TX1 k).2.2.1 = some (tyX1 k) := by decide +kernel
abbrev cX1_init : ByteArray := prog_15_method_1_code
def yX1_init : MethodName := ⟨RX1, "<init>", "()V"⟩
def dkwX1_init_1 : List UInt8 := [188, 10, 181, 0, 18, 177]
abbrev dktX1_init_1 : List UInt8 := dkwX1_init_1 ++ []
def dkwX1_init_0 : List UInt8 := [42, 183, 0, 3, 42, 16, 6, 188, 10, 181, 0, 9, 42, 16, 6, 188, 10, 181, 0, 15, 42, 16, 8]
abbrev dktX1_init_0 : List UInt8 := dkwX1_init_0 ++ dktX1_init_1
theorem dksX1_init_0 : cX1_init.data.toList.drop 0 = dktX1_init_0 := by decide +kernel
theorem dksX1_init_1 : cX1_init.data.toList.drop 23 = dktX1_init_1 := dk_seg dksX1_init_0 23 rfl rfl
theorem dX1_init_0 : decode cX1_init 0 = .ok (.aload_n 0, 1) := dk_42 (dk_at dksX1_init_0 0 rfl rfl)
theorem dX1_init_1 : decode cX1_init 1 = .ok (.invokespecial 3, 3) := dk_183 0 3 (dk_at dksX1_init_0 1 rfl rfl)
theorem dX1_init_4 : decode cX1_init 4 = .ok (.aload_n 0, 1) := dk_42 (dk_at dksX1_init_0 4 rfl rfl)
theorem dX1_init_5 : decode cX1_init 5 = .ok (.bipush 6, 2) := dk_16 6 (dk_at dksX1_init_0 5 rfl rfl)
theorem dX1_init_7 : decode cX1_init 7 = .ok (.newarray .int, 2) := dk_188_10 (dk_at dksX1_init_0 7 rfl rfl)
theorem dX1_init_9 : decode cX1_init 9 = .ok (.putfield 9, 3) := dk_181 0 9 (dk_at dksX1_init_0 9 rfl rfl)
theorem dX1_init_12 : decode cX1_init 12 = .ok (.aload_n 0, 1) := dk_42 (dk_at dksX1_init_0 12 rfl rfl)
theorem dX1_init_13 : decode cX1_init 13 = .ok (.bipush 6, 2) := dk_16 6 (dk_at dksX1_init_0 13 rfl rfl)
theorem dX1_init_15 : decode cX1_init 15 = .ok (.newarray .int, 2) := dk_188_10 (dk_at dksX1_init_0 15 rfl rfl)
theorem dX1_init_17 : decode cX1_init 17 = .ok (.putfield 15, 3) := dk_181 0 15 (dk_at dksX1_init_0 17 rfl rfl)
theorem dX1_init_20 : decode cX1_init 20 = .ok (.aload_n 0, 1) := dk_42 (dk_at dksX1_init_0 20 rfl rfl)
theorem dX1_init_21 : decode cX1_init 21 = .ok (.bipush 8, 2) := dk_16 8 (dk_at dksX1_init_0 21 rfl rfl)
theorem dX1_init_23 : decode cX1_init 23 = .ok (.newarray .int, 2) := dk_188_10 (dk_at dksX1_init_1 0 rfl rfl)
theorem dX1_init_25 : decode cX1_init 25 = .ok (.putfield 18, 3) := dk_181 0 18 (dk_at dksX1_init_1 2 rfl rfl)
theorem dX1_init_28 : decode cX1_init 28 = .ok (.return_, 1) := dk_177 (dk_at dksX1_init_1 5 rfl rfl)
abbrev cX1_set : ByteArray := prog_15_method_2_code
def yX1_set : MethodName := ⟨RX1, "set", "(LPerilSeat$State;)LPerilSeat$State;"⟩
def dkwX1_set_2 : List UInt8 := [180, 0, 27, 181, 0, 27, 42, 43, 180, 0, 31, 181, 0, 31, 42, 176]
abbrev dktX1_set_2 : List UInt8 := dkwX1_set_2 ++ []
def dkwX1_set_1 : List UInt8 := [3, 16, 6, 184, 0, 21, 43, 180, 0, 18, 3, 42, 180, 0, 18, 3, 16, 8, 184, 0, 21, 42, 43]
abbrev dktX1_set_1 : List UInt8 := dkwX1_set_1 ++ dktX1_set_2
def dkwX1_set_0 : List UInt8 := [43, 180, 0, 9, 3, 42, 180, 0, 9, 3, 16, 6, 184, 0, 21, 43, 180, 0, 15, 3, 42, 180, 0, 15]
abbrev dktX1_set_0 : List UInt8 := dkwX1_set_0 ++ dktX1_set_1
theorem dksX1_set_0 : cX1_set.data.toList.drop 0 = dktX1_set_0 := by decide +kernel
theorem dksX1_set_1 : cX1_set.data.toList.drop 24 = dktX1_set_1 := dk_seg dksX1_set_0 24 rfl rfl
theorem dksX1_set_2 : cX1_set.data.toList.drop 47 = dktX1_set_2 := dk_seg dksX1_set_1 23 rfl rfl
theorem dX1_set_0 : decode cX1_set 0 = .ok (.aload_n 1, 1) := dk_43 (dk_at dksX1_set_0 0 rfl rfl)
theorem dX1_set_1 : decode cX1_set 1 = .ok (.getfield 9, 3) := dk_180 0 9 (dk_at dksX1_set_0 1 rfl rfl)
theorem dX1_set_4 : decode cX1_set 4 = .ok (.iconst 0, 1) := dk_3 (dk_at dksX1_set_0 4 rfl rfl)
theorem dX1_set_5 : decode cX1_set 5 = .ok (.aload_n 0, 1) := dk_42 (dk_at dksX1_set_0 5 rfl rfl)
theorem dX1_set_6 : decode cX1_set 6 = .ok (.getfield 9, 3) := dk_180 0 9 (dk_at dksX1_set_0 6 rfl rfl)
theorem dX1_set_9 : decode cX1_set 9 = .ok (.iconst 0, 1) := dk_3 (dk_at dksX1_set_0 9 rfl rfl)
theorem dX1_set_10 : decode cX1_set 10 = .ok (.bipush 6, 2) := dk_16 6 (dk_at dksX1_set_0 10 rfl rfl)
theorem dX1_set_12 : decode cX1_set 12 = .ok (.invokestatic 21, 3) := dk_184 0 21 (dk_at dksX1_set_0 12 rfl rfl)
theorem dX1_set_15 : decode cX1_set 15 = .ok (.aload_n 1, 1) := dk_43 (dk_at dksX1_set_0 15 rfl rfl)
theorem dX1_set_16 : decode cX1_set 16 = .ok (.getfield 15, 3) := dk_180 0 15 (dk_at dksX1_set_0 16 rfl rfl)
theorem dX1_set_19 : decode cX1_set 19 = .ok (.iconst 0, 1) := dk_3 (dk_at dksX1_set_0 19 rfl rfl)
theorem dX1_set_20 : decode cX1_set 20 = .ok (.aload_n 0, 1) := dk_42 (dk_at dksX1_set_0 20 rfl rfl)
theorem dX1_set_21 : decode cX1_set 21 = .ok (.getfield 15, 3) := dk_180 0 15 (dk_at dksX1_set_0 21 rfl rfl)
theorem dX1_set_24 : decode cX1_set 24 = .ok (.iconst 0, 1) := dk_3 (dk_at dksX1_set_1 0 rfl rfl)
theorem dX1_set_25 : decode cX1_set 25 = .ok (.bipush 6, 2) := dk_16 6 (dk_at dksX1_set_1 1 rfl rfl)
theorem dX1_set_27 : decode cX1_set 27 = .ok (.invokestatic 21, 3) := dk_184 0 21 (dk_at dksX1_set_1 3 rfl rfl)
theorem dX1_set_30 : decode cX1_set 30 = .ok (.aload_n 1, 1) := dk_43 (dk_at dksX1_set_1 6 rfl rfl)
theorem dX1_set_31 : decode cX1_set 31 = .ok (.getfield 18, 3) := dk_180 0 18 (dk_at dksX1_set_1 7 rfl rfl)
theorem dX1_set_34 : decode cX1_set 34 = .ok (.iconst 0, 1) := dk_3 (dk_at dksX1_set_1 10 rfl rfl)
theorem dX1_set_35 : decode cX1_set 35 = .ok (.aload_n 0, 1) := dk_42 (dk_at dksX1_set_1 11 rfl rfl)
theorem dX1_set_36 : decode cX1_set 36 = .ok (.getfield 18, 3) := dk_180 0 18 (dk_at dksX1_set_1 12 rfl rfl)
theorem dX1_set_39 : decode cX1_set 39 = .ok (.iconst 0, 1) := dk_3 (dk_at dksX1_set_1 15 rfl rfl)
theorem dX1_set_40 : decode cX1_set 40 = .ok (.bipush 8, 2) := dk_16 8 (dk_at dksX1_set_1 16 rfl rfl)
theorem dX1_set_42 : decode cX1_set 42 = .ok (.invokestatic 21, 3) := dk_184 0 21 (dk_at dksX1_set_1 18 rfl rfl)
theorem dX1_set_45 : decode cX1_set 45 = .ok (.aload_n 0, 1) := dk_42 (dk_at dksX1_set_1 21 rfl rfl)
theorem dX1_set_46 : decode cX1_set 46 = .ok (.aload_n 1, 1) := dk_43 (dk_at dksX1_set_1 22 rfl rfl)
theorem dX1_set_47 : decode cX1_set 47 = .ok (.getfield 27, 3) := dk_180 0 27 (dk_at dksX1_set_2 0 rfl rfl)
theorem dX1_set_50 : decode cX1_set 50 = .ok (.putfield 27, 3) := dk_181 0 27 (dk_at dksX1_set_2 3 rfl rfl)
theorem dX1_set_53 : decode cX1_set 53 = .ok (.aload_n 0, 1) := dk_42 (dk_at dksX1_set_2 6 rfl rfl)
theorem dX1_set_54 : decode cX1_set 54 = .ok (.aload_n 1, 1) := dk_43 (dk_at dksX1_set_2 7 rfl rfl)
theorem dX1_set_55 : decode cX1_set 55 = .ok (.getfield 31, 3) := dk_180 0 31 (dk_at dksX1_set_2 8 rfl rfl)
theorem dX1_set_58 : decode cX1_set 58 = .ok (.putfield 31, 3) := dk_181 0 31 (dk_at dksX1_set_2 11 rfl rfl)
theorem dX1_set_61 : decode cX1_set 61 = .ok (.aload_n 0, 1) := dk_42 (dk_at dksX1_set_2 14 rfl rfl)
theorem dX1_set_62 : decode cX1_set 62 = .ok (.areturn, 1) := dk_176 (dk_at dksX1_set_2 15 rfl rfl)
theorem q68 : (Jvm.Cond.initialized "PerilSeat$State") ∈ lw_all := lw_g (lw_at lw_m1 2 rfl) rfl
theorem q113 : (Jvm.Cond.instantiable "PerilSeat$State" (5 : Nat)) ∈ lw_all := lw_g (lw_at lw_m1 47 rfl) rfl
theorem q115 : (Jvm.Cond.instanceMethod ({ cls := "PerilSeat$State", name := "<init>", desc := "()V" } : Jvm.MethodName)) ∈ lw_all := lw_g (lw_at lw_m1 49 rfl) rfl
theorem q116 : (Jvm.Cond.code ({ cls := "PerilSeat$State", name := "<init>", desc := "()V" } : Jvm.MethodName) prog_15_method_1_code (1 : Nat) (Option.none : Option Jvm.ClassFile.FieldType)) ∈ lw_all := lw_g (lw_at lw_m1 50 rfl) rfl
theorem q117 : (Jvm.Cond.methodLink "PerilSeat$State" (3 : Nat) ({ cls := "java/lang/Object", name := "<init>", desc := "()V" } : Jvm.MethodName)) ∈ lw_all := lw_g (lw_at lw_m1 51 rfl) rfl
theorem q118 : (Jvm.Cond.fieldLink "PerilSeat$State" (9 : Nat) "PerilSeat$State" "renown" "[I") ∈ lw_all := lw_g (lw_at lw_m1 52 rfl) rfl
theorem q120 : (Jvm.Cond.fieldLink "PerilSeat$State" (15 : Nat) "PerilSeat$State" "news" "[I") ∈ lw_all := lw_g (lw_at lw_m1 54 rfl) rfl
theorem q122 : (Jvm.Cond.fieldLink "PerilSeat$State" (18 : Nat) "PerilSeat$State" "row" "[I") ∈ lw_all := lw_g (lw_at lw_m1 56 rfl) rfl
theorem q124 : (Jvm.Cond.fieldLink "PerilSeat$State" (27 : Nat) "PerilSeat$State" "there" "I") ∈ lw_all := lw_g (lw_at lw_m1 58 rfl) rfl
theorem q126 : (Jvm.Cond.fieldLink "PerilSeat$State" (31 : Nat) "PerilSeat$State" "day" "I") ∈ lw_all := lw_g (lw_at lw_m1 60 rfl) rfl
theorem q128 : (Jvm.Cond.laysFinal "PerilSeat$State" "PerilSeat$State" "renown" "[I") ∈ lw_all := lw_g (lw_at lw_m1 62 rfl) rfl
theorem q129 : (Jvm.Cond.soleField "PerilSeat$State" "renown") ∈ lw_all := lw_g (lw_at lw_m1 63 rfl) rfl
theorem q130 : (Jvm.Cond.laysFinal "PerilSeat$State" "PerilSeat$State" "news" "[I") ∈ lw_all := lw_g (lw_at lw_m1 64 rfl) rfl
theorem q131 : (Jvm.Cond.soleField "PerilSeat$State" "news") ∈ lw_all := lw_g (lw_at lw_m1 65 rfl) rfl
theorem q132 : (Jvm.Cond.laysFinal "PerilSeat$State" "PerilSeat$State" "row" "[I") ∈ lw_all := lw_g (lw_at lw_m1 66 rfl) rfl
theorem q133 : (Jvm.Cond.soleField "PerilSeat$State" "row") ∈ lw_all := lw_g (lw_at lw_m1 67 rfl) rfl
theorem q134 : (Jvm.Cond.lays "PerilSeat$State" "PerilSeat$State" "there" "I") ∈ lw_all := lw_g (lw_at lw_m1 68 rfl) rfl
theorem q135 : (Jvm.Cond.soleField "PerilSeat$State" "there") ∈ lw_all := lw_g (lw_at lw_m1 69 rfl) rfl
theorem q136 : (Jvm.Cond.lays "PerilSeat$State" "PerilSeat$State" "day" "I") ∈ lw_all := lw_g (lw_at lw_m1 70 rfl) rfl
theorem q137 : (Jvm.Cond.soleField "PerilSeat$State" "day") ∈ lw_all := lw_g (lw_at lw_m1 71 rfl) rfl
theorem q138 : (Jvm.Cond.superclass "PerilSeat$State" "java/lang/Object") ∈ lw_all := lw_g (lw_at lw_m1 72 rfl) rfl
theorem q916 : (Jvm.Cond.instanceMethod ({ cls := "PerilSeat$State", name := "set", desc := "(LPerilSeat$State;)LPerilSeat$State;" } : Jvm.MethodName)) ∈ lw_all := lw_g (lw_at lw_m4 130 rfl) rfl
theorem q917 : (Jvm.Cond.selects "PerilSeat$State" ({ cls := "PerilSeat$State", name := "set", desc := "(LPerilSeat$State;)LPerilSeat$State;" } : Jvm.MethodName) ({ cls := "PerilSeat$State", name := "set", desc := "(LPerilSeat$State;)LPerilSeat$State;" } : Jvm.MethodName)) ∈ lw_all := lw_g (lw_at lw_m4 131 rfl) rfl
theorem q918 : (Jvm.Cond.code ({ cls := "PerilSeat$State", name := "set", desc := "(LPerilSeat$State;)LPerilSeat$State;" } : Jvm.MethodName) prog_15_method_2_code (2 : Nat) (Option.some (Jvm.ClassFile.FieldType.object "PerilSeat$State"))) ∈ lw_all := lw_g (lw_at lw_m4 132 rfl) rfl
theorem q919 : (Jvm.Cond.methodLink "PerilSeat$State" (21 : Nat) ({ cls := "java/lang/System", name := "arraycopy", desc := "(Ljava/lang/Object;ILjava/lang/Object;II)V" } : Jvm.MethodName)) ∈ lw_all := lw_g (lw_at lw_m4 133 rfl) rfl
theorem q1509 : (Jvm.Cond.castable "PerilSeat$State" "java/lang/Object") ∈ lw_tbl := lw_at lw_m7 3 rfl
theorem in_X1 : ∀ w ∈ wsX10, w ∈ lw_all := lw_in wsX10 [128, 130, 132, 134, 136] (by decide +kernel) (by decide +kernel)

/-! PerilSeat$Mourning -/
set_option maxRecDepth 100000
def RX10 : String := "PerilSeat$Mourning"
def TX10 : u_T := fun k => match k with
  | _ => ("PerilSeat$Name", "number", "I", true)
def tyX10 : Nat → FieldType := fun k => match k with
  | _ => .int
abbrev wsX100 : List Cond := u_ws RX10 TX10 1
theorem nmX10 : ∀ a, a < 1 → ∀ b, b < 1 → a ≠ b → (TX10 a).2.1 ≠ (TX10 b).2.1 := by decide +kernel
theorem tyX10_ok : ∀ k, k < 1 → parseFieldDescriptor (TX10 k).2.2.1 = some (tyX10 k) := by decide +kernel
abbrev cX10_init : ByteArray := prog_9_method_1_code
def yX10_init : MethodName := ⟨RX10, "<init>", "()V"⟩
def dkwX10_init_0 : List UInt8 := [42, 3, 183, 0, 1, 177]
abbrev dktX10_init_0 : List UInt8 := dkwX10_init_0 ++ []
theorem dksX10_init_0 : cX10_init.data.toList.drop 0 = dktX10_init_0 := by decide +kernel
theorem dX10_init_0 : decode cX10_init 0 = .ok (.aload_n 0, 1) := dk_42 (dk_at dksX10_init_0 0 rfl rfl)
theorem dX10_init_1 : decode cX10_init 1 = .ok (.iconst 0, 1) := dk_3 (dk_at dksX10_init_0 1 rfl rfl)
theorem dX10_init_2 : decode cX10_init 2 = .ok (.invokespecial 1, 3) := dk_183 0 1 (dk_at dksX10_init_0 2 rfl rfl)
theorem dX10_init_5 : decode cX10_init 5 = .ok (.return_, 1) := dk_177 (dk_at dksX10_init_0 5 rfl rfl)
abbrev cX10_kind : ByteArray := prog_9_method_2_code
def yX10_kind : MethodName := ⟨RX10, "kind", "()I"⟩
theorem dX10_kind_0 : decode cX10_kind 0 = .ok (.iconst 4, 1) := by decide +kernel
theorem dX10_kind_1 : decode cX10_kind 1 = .ok (.ireturn, 1) := by decide +kernel
abbrev cX10_fits : ByteArray := prog_9_method_3_code
def yX10_fits : MethodName := ⟨RX10, "fits", "(II)Z"⟩
def dkwX10_fits_0 : List UInt8 := [42, 182, 0, 7, 154, 0, 7, 4, 167, 0, 4, 3, 172]
abbrev dktX10_fits_0 : List UInt8 := dkwX10_fits_0 ++ []
theorem dksX10_fits_0 : cX10_fits.data.toList.drop 0 = dktX10_fits_0 := by decide +kernel
theorem dX10_fits_0 : decode cX10_fits 0 = .ok (.aload_n 0, 1) := dk_42 (dk_at dksX10_fits_0 0 rfl rfl)
theorem dX10_fits_1 : decode cX10_fits 1 = .ok (.invokevirtual 7, 3) := dk_182 0 7 (dk_at dksX10_fits_0 1 rfl rfl)
theorem dX10_fits_4 : decode cX10_fits 4 = .ok (.ifCond .ne 7, 3) := dk_154 0 7 (dk_at dksX10_fits_0 4 rfl rfl)
theorem dX10_fits_7 : decode cX10_fits 7 = .ok (.iconst 1, 1) := dk_4 (dk_at dksX10_fits_0 7 rfl rfl)
theorem dX10_fits_8 : decode cX10_fits 8 = .ok (.goto 4, 3) := dk_167 0 4 (dk_at dksX10_fits_0 8 rfl rfl)
theorem dX10_fits_11 : decode cX10_fits 11 = .ok (.iconst 0, 1) := dk_3 (dk_at dksX10_fits_0 11 rfl rfl)
theorem dX10_fits_12 : decode cX10_fits 12 = .ok (.ireturn, 1) := dk_172 (dk_at dksX10_fits_0 12 rfl rfl)
abbrev cX10_isShut : ByteArray := prog_9_method_4_code
def yX10_isShut : MethodName := ⟨RX10, "isShut", "()Z"⟩
def dkwX10_isShut_0 : List UInt8 := [42, 183, 0, 13, 154, 0, 7, 4, 167, 0, 4, 3, 172]
abbrev dktX10_isShut_0 : List UInt8 := dkwX10_isShut_0 ++ []
theorem dksX10_isShut_0 : cX10_isShut.data.toList.drop 0 = dktX10_isShut_0 := by decide +kernel
theorem dX10_isShut_0 : decode cX10_isShut 0 = .ok (.aload_n 0, 1) := dk_42 (dk_at dksX10_isShut_0 0 rfl rfl)
theorem dX10_isShut_1 : decode cX10_isShut 1 = .ok (.invokespecial 13, 3) := dk_183 0 13 (dk_at dksX10_isShut_0 1 rfl rfl)
theorem dX10_isShut_4 : decode cX10_isShut 4 = .ok (.ifCond .ne 7, 3) := dk_154 0 7 (dk_at dksX10_isShut_0 4 rfl rfl)
theorem dX10_isShut_7 : decode cX10_isShut 7 = .ok (.iconst 1, 1) := dk_4 (dk_at dksX10_isShut_0 7 rfl rfl)
theorem dX10_isShut_8 : decode cX10_isShut 8 = .ok (.goto 4, 3) := dk_167 0 4 (dk_at dksX10_isShut_0 8 rfl rfl)
theorem dX10_isShut_11 : decode cX10_isShut 11 = .ok (.iconst 0, 1) := dk_3 (dk_at dksX10_isShut_0 11 rfl rfl)
theorem dX10_isShut_12 : decode cX10_isShut 12 = .ok (.ireturn, 1) := dk_172 (dk_at dksX10_isShut_0 12 rfl rfl)
theorem q94 : (Jvm.Cond.initialized "PerilSeat$Mourning") ∈ lw_all := lw_g (lw_at lw_m1 28 rfl) rfl
theorem q707 : (Jvm.Cond.instantiable "PerilSeat$Mourning" (1 : Nat)) ∈ lw_all := lw_g (lw_at lw_m3 161 rfl) rfl
theorem q709 : (Jvm.Cond.instanceMethod ({ cls := "PerilSeat$Mourning", name := "<init>", desc := "()V" } : Jvm.MethodName)) ∈ lw_all := lw_g (lw_at lw_m3 163 rfl) rfl
theorem q710 : (Jvm.Cond.code ({ cls := "PerilSeat$Mourning", name := "<init>", desc := "()V" } : Jvm.MethodName) prog_9_method_1_code (1 : Nat) (Option.none : Option Jvm.ClassFile.FieldType)) ∈ lw_all := lw_g (lw_at lw_m3 164 rfl) rfl
theorem q711 : (Jvm.Cond.methodLink "PerilSeat$Mourning" (1 : Nat) ({ cls := "PerilSeat$Name", name := "<init>", desc := "(I)V" } : Jvm.MethodName)) ∈ lw_all := lw_g (lw_at lw_m3 165 rfl) rfl
theorem q712 : (Jvm.Cond.laysFinal "PerilSeat$Mourning" "PerilSeat$Name" "number" "I") ∈ lw_all := lw_g (lw_at lw_m3 166 rfl) rfl
theorem q713 : (Jvm.Cond.superclass "PerilSeat$Mourning" "PerilSeat$Name") ∈ lw_all := lw_g (lw_at lw_m3 167 rfl) rfl
theorem q782 : (Jvm.Cond.selects "PerilSeat$Mourning" ({ cls := "PerilSeat$Name", name := "kind", desc := "()I" } : Jvm.MethodName) ({ cls := "PerilSeat$Mourning", name := "kind", desc := "()I" } : Jvm.MethodName)) ∈ lw_all := lw_g (lw_at lw_m3 236 rfl) rfl
theorem q783 : (Jvm.Cond.instanceMethod ({ cls := "PerilSeat$Mourning", name := "kind", desc := "()I" } : Jvm.MethodName)) ∈ lw_all := lw_g (lw_at lw_m3 237 rfl) rfl
theorem q784 : (Jvm.Cond.code ({ cls := "PerilSeat$Mourning", name := "kind", desc := "()I" } : Jvm.MethodName) prog_9_method_2_code (1 : Nat) (Option.some Jvm.ClassFile.FieldType.int)) ∈ lw_all := lw_g (lw_at lw_m3 238 rfl) rfl
theorem q872 : (Jvm.Cond.selects "PerilSeat$Mourning" ({ cls := "PerilSeat$Fits", name := "fits", desc := "(II)Z" } : Jvm.MethodName) ({ cls := "PerilSeat$Mourning", name := "fits", desc := "(II)Z" } : Jvm.MethodName)) ∈ lw_all := lw_g (lw_at lw_m4 86 rfl) rfl
theorem q873 : (Jvm.Cond.instanceMethod ({ cls := "PerilSeat$Mourning", name := "fits", desc := "(II)Z" } : Jvm.MethodName)) ∈ lw_all := lw_g (lw_at lw_m4 87 rfl) rfl
theorem q874 : (Jvm.Cond.code ({ cls := "PerilSeat$Mourning", name := "fits", desc := "(II)Z" } : Jvm.MethodName) prog_9_method_3_code (3 : Nat) (Option.some Jvm.ClassFile.FieldType.boolean)) ∈ lw_all := lw_g (lw_at lw_m4 88 rfl) rfl
theorem q875 : (Jvm.Cond.methodLink "PerilSeat$Mourning" (7 : Nat) ({ cls := "PerilSeat$Mourning", name := "isShut", desc := "()Z" } : Jvm.MethodName)) ∈ lw_all := lw_g (lw_at lw_m4 89 rfl) rfl
theorem q876 : (Jvm.Cond.instanceMethod ({ cls := "PerilSeat$Mourning", name := "isShut", desc := "()Z" } : Jvm.MethodName)) ∈ lw_all := lw_g (lw_at lw_m4 90 rfl) rfl
theorem q877 : (Jvm.Cond.selects "PerilSeat$Mourning" ({ cls := "PerilSeat$Mourning", name := "isShut", desc := "()Z" } : Jvm.MethodName) ({ cls := "PerilSeat$Mourning", name := "isShut", desc := "()Z" } : Jvm.MethodName)) ∈ lw_all := lw_g (lw_at lw_m4 91 rfl) rfl
theorem q878 : (Jvm.Cond.code ({ cls := "PerilSeat$Mourning", name := "isShut", desc := "()Z" } : Jvm.MethodName) prog_9_method_4_code (1 : Nat) (Option.some Jvm.ClassFile.FieldType.boolean)) ∈ lw_all := lw_g (lw_at lw_m4 92 rfl) rfl
theorem q886 : (Jvm.Cond.selects "PerilSeat$Mourning" ({ cls := "PerilSeat$Fits", name := "isShut", desc := "()Z" } : Jvm.MethodName) ({ cls := "PerilSeat$Mourning", name := "isShut", desc := "()Z" } : Jvm.MethodName)) ∈ lw_all := lw_g (lw_at lw_m4 100 rfl) rfl
theorem q1503 : (Jvm.Cond.castable "PerilSeat$Mourning" "PerilSeat$Name") ∈ lw_tbl := lw_at lw_m6 237 rfl
theorem q1520 : (Jvm.Cond.castable "PerilSeat$Mourning" "java/lang/Object") ∈ lw_tbl := lw_at lw_m7 14 rfl
theorem in_X10 : ∀ w ∈ wsX100, w ∈ lw_all := lw_in wsX100 [712] (by decide +kernel) (by decide +kernel)

/-! PerilSeat$One -/
set_option maxRecDepth 100000
def RX11 : String := "PerilSeat$One"
abbrev cX11_init : ByteArray := prog_11_method_1_code
def yX11_init : MethodName := ⟨RX11, "<init>", "(II)V"⟩
def dkwX11_init_0 : List UInt8 := [42, 183, 0, 1, 42, 27, 181, 0, 7, 42, 28, 181, 0, 13, 177]
abbrev dktX11_init_0 : List UInt8 := dkwX11_init_0 ++ []
theorem dksX11_init_0 : cX11_init.data.toList.drop 0 = dktX11_init_0 := by decide +kernel
theorem dX11_init_0 : decode cX11_init 0 = .ok (.aload_n 0, 1) := dk_42 (dk_at dksX11_init_0 0 rfl rfl)
theorem dX11_init_1 : decode cX11_init 1 = .ok (.invokespecial 1, 3) := dk_183 0 1 (dk_at dksX11_init_0 1 rfl rfl)
theorem dX11_init_4 : decode cX11_init 4 = .ok (.aload_n 0, 1) := dk_42 (dk_at dksX11_init_0 4 rfl rfl)
theorem dX11_init_5 : decode cX11_init 5 = .ok (.iload_n 1, 1) := dk_27 (dk_at dksX11_init_0 5 rfl rfl)
theorem dX11_init_6 : decode cX11_init 6 = .ok (.putfield 7, 3) := dk_181 0 7 (dk_at dksX11_init_0 6 rfl rfl)
theorem dX11_init_9 : decode cX11_init 9 = .ok (.aload_n 0, 1) := dk_42 (dk_at dksX11_init_0 9 rfl rfl)
theorem dX11_init_10 : decode cX11_init 10 = .ok (.iload_n 2, 1) := dk_28 (dk_at dksX11_init_0 10 rfl rfl)
theorem dX11_init_11 : decode cX11_init 11 = .ok (.putfield 13, 3) := dk_181 0 13 (dk_at dksX11_init_0 11 rfl rfl)
theorem dX11_init_14 : decode cX11_init 14 = .ok (.return_, 1) := dk_177 (dk_at dksX11_init_0 14 rfl rfl)
abbrev cX11_fitsOn : ByteArray := prog_11_method_3_code
def yX11_fitsOn : MethodName := ⟨RX11, "fitsOn", "(LPerilSeat$Name;I)Z"⟩
def dkwX11_fitsOn_0 : List UInt8 := [43, 28, 42, 180, 0, 13, 182, 0, 16, 172]
abbrev dktX11_fitsOn_0 : List UInt8 := dkwX11_fitsOn_0 ++ []
theorem dksX11_fitsOn_0 : cX11_fitsOn.data.toList.drop 0 = dktX11_fitsOn_0 := by decide +kernel
theorem dX11_fitsOn_0 : decode cX11_fitsOn 0 = .ok (.aload_n 1, 1) := dk_43 (dk_at dksX11_fitsOn_0 0 rfl rfl)
theorem dX11_fitsOn_1 : decode cX11_fitsOn 1 = .ok (.iload_n 2, 1) := dk_28 (dk_at dksX11_fitsOn_0 1 rfl rfl)
theorem dX11_fitsOn_2 : decode cX11_fitsOn 2 = .ok (.aload_n 0, 1) := dk_42 (dk_at dksX11_fitsOn_0 2 rfl rfl)
theorem dX11_fitsOn_3 : decode cX11_fitsOn 3 = .ok (.getfield 13, 3) := dk_180 0 13 (dk_at dksX11_fitsOn_0 3 rfl rfl)
theorem dX11_fitsOn_6 : decode cX11_fitsOn 6 = .ok (.invokevirtual 16, 3) := dk_182 0 16 (dk_at dksX11_fitsOn_0 6 rfl rfl)
theorem dX11_fitsOn_9 : decode cX11_fitsOn 9 = .ok (.ireturn, 1) := dk_172 (dk_at dksX11_fitsOn_0 9 rfl rfl)
abbrev cX11_isSpared : ByteArray := prog_11_method_4_code
def yX11_isSpared : MethodName := ⟨RX11, "isSpared", "()Z"⟩
theorem dX11_isSpared_0 : decode cX11_isSpared 0 = .ok (.iconst 0, 1) := by decide +kernel
theorem dX11_isSpared_1 : decode cX11_isSpared 1 = .ok (.ireturn, 1) := by decide +kernel
theorem q95 : (Jvm.Cond.initialized "PerilSeat$One") ∈ lw_all := lw_g (lw_at lw_m1 29 rfl) rfl
theorem q723 : (Jvm.Cond.instanceMethod ({ cls := "PerilSeat$One", name := "<init>", desc := "(II)V" } : Jvm.MethodName)) ∈ lw_all := lw_g (lw_at lw_m3 177 rfl) rfl
theorem q724 : (Jvm.Cond.code ({ cls := "PerilSeat$One", name := "<init>", desc := "(II)V" } : Jvm.MethodName) prog_11_method_1_code (3 : Nat) (Option.none : Option Jvm.ClassFile.FieldType)) ∈ lw_all := lw_g (lw_at lw_m3 178 rfl) rfl
theorem q725 : (Jvm.Cond.methodLink "PerilSeat$One" (1 : Nat) ({ cls := "java/lang/Object", name := "<init>", desc := "()V" } : Jvm.MethodName)) ∈ lw_all := lw_g (lw_at lw_m3 179 rfl) rfl
theorem q726 : (Jvm.Cond.fieldLink "PerilSeat$One" (7 : Nat) "PerilSeat$One" "renown" "I") ∈ lw_all := lw_g (lw_at lw_m3 180 rfl) rfl
theorem q728 : (Jvm.Cond.fieldLink "PerilSeat$One" (13 : Nat) "PerilSeat$One" "house" "I") ∈ lw_all := lw_g (lw_at lw_m3 182 rfl) rfl
theorem q731 : (Jvm.Cond.soleField "PerilSeat$One" "renown") ∈ lw_all := lw_g (lw_at lw_m3 185 rfl) rfl
theorem q733 : (Jvm.Cond.soleField "PerilSeat$One" "house") ∈ lw_all := lw_g (lw_at lw_m3 187 rfl) rfl
theorem q799 : (Jvm.Cond.declares ({ cls := "PerilSeat$One", name := "kind", desc := "()I" } : Jvm.MethodName)) ∈ lw_tbl := lw_at lw_m4 13 rfl
theorem q800 : (Jvm.Cond.sameMethod "PerilSeat$One" "PerilSeat$One" "kind" "()I") ∈ lw_all := lw_g (lw_at lw_m4 14 rfl) rfl
theorem q848 : (Jvm.Cond.instanceMethod ({ cls := "PerilSeat$One", name := "fitsOn", desc := "(LPerilSeat$Name;I)Z" } : Jvm.MethodName)) ∈ lw_all := lw_g (lw_at lw_m4 62 rfl) rfl
theorem q849 : (Jvm.Cond.sameMethod "PerilSeat$One" "PerilSeat$One" "fitsOn" "(LPerilSeat$Name;I)Z") ∈ lw_all := lw_g (lw_at lw_m4 63 rfl) rfl
theorem q855 : (Jvm.Cond.declares ({ cls := "PerilSeat$One", name := "fitsOn", desc := "(LPerilSeat$Name;I)Z" } : Jvm.MethodName)) ∈ lw_tbl := lw_at lw_m4 69 rfl
theorem q856 : (Jvm.Cond.code ({ cls := "PerilSeat$One", name := "fitsOn", desc := "(LPerilSeat$Name;I)Z" } : Jvm.MethodName) prog_11_method_3_code (3 : Nat) (Option.some Jvm.ClassFile.FieldType.boolean)) ∈ lw_all := lw_g (lw_at lw_m4 70 rfl) rfl
theorem q951 : (Jvm.Cond.instanceMethod ({ cls := "PerilSeat$One", name := "isSpared", desc := "()Z" } : Jvm.MethodName)) ∈ lw_all := lw_g (lw_at lw_m4 165 rfl) rfl
theorem q952 : (Jvm.Cond.sameMethod "PerilSeat$One" "PerilSeat$One" "isSpared" "()Z") ∈ lw_all := lw_g (lw_at lw_m4 166 rfl) rfl
theorem q959 : (Jvm.Cond.code ({ cls := "PerilSeat$One", name := "isSpared", desc := "()Z" } : Jvm.MethodName) prog_11_method_4_code (1 : Nat) (Option.some Jvm.ClassFile.FieldType.boolean)) ∈ lw_all := lw_g (lw_at lw_m4 173 rfl) rfl

/-! PerilSeat$Knight -/
set_option maxRecDepth 100000
def RX12 : String := "PerilSeat$Knight"
def TX12 : u_T := fun k => match k with
  | 0 => ("PerilSeat$One", "renown", "I", true)
  | _ => ("PerilSeat$One", "house", "I", true)
def tyX12 : Nat → FieldType := fun k => match k with
  | 0 => .int
  | _ => .int
abbrev wsX120 : List Cond := u_ws RX12 TX12 2
theorem nmX12 : ∀ a, a < 2 → ∀ b, b < 2 → a ≠ b → (TX12 a).2.1 ≠ (TX12 b).2.1 := by decide +kernel
theorem tyX12_ok : ∀ k, k < 2 → parseFieldDescriptor (TX12 k).2.2.1 = some (tyX12 k) := by decide +kernel
abbrev cX12_init : ByteArray := prog_7_method_1_code
def yX12_init : MethodName := ⟨RX12, "<init>", "(II)V"⟩
def dkwX12_init_0 : List UInt8 := [42, 27, 28, 183, 0, 1, 177]
abbrev dktX12_init_0 : List UInt8 := dkwX12_init_0 ++ []
theorem dksX12_init_0 : cX12_init.data.toList.drop 0 = dktX12_init_0 := by decide +kernel
theorem dX12_init_0 : decode cX12_init 0 = .ok (.aload_n 0, 1) := dk_42 (dk_at dksX12_init_0 0 rfl rfl)
theorem dX12_init_1 : decode cX12_init 1 = .ok (.iload_n 1, 1) := dk_27 (dk_at dksX12_init_0 1 rfl rfl)
theorem dX12_init_2 : decode cX12_init 2 = .ok (.iload_n 2, 1) := dk_28 (dk_at dksX12_init_0 2 rfl rfl)
theorem dX12_init_3 : decode cX12_init 3 = .ok (.invokespecial 1, 3) := dk_183 0 1 (dk_at dksX12_init_0 3 rfl rfl)
theorem dX12_init_6 : decode cX12_init 6 = .ok (.return_, 1) := dk_177 (dk_at dksX12_init_0 6 rfl rfl)
abbrev cX12_kind : ByteArray := prog_7_method_2_code
def yX12_kind : MethodName := ⟨RX12, "kind", "()I"⟩
theorem dX12_kind_0 : decode cX12_kind 0 = .ok (.iconst 0, 1) := by decide +kernel
theorem dX12_kind_1 : decode cX12_kind 1 = .ok (.ireturn, 1) := by decide +kernel
theorem q96 : (Jvm.Cond.initialized "PerilSeat$Knight") ∈ lw_all := lw_g (lw_at lw_m1 30 rfl) rfl
theorem q718 : (Jvm.Cond.instantiable "PerilSeat$Knight" (2 : Nat)) ∈ lw_all := lw_g (lw_at lw_m3 172 rfl) rfl
theorem q720 : (Jvm.Cond.instanceMethod ({ cls := "PerilSeat$Knight", name := "<init>", desc := "(II)V" } : Jvm.MethodName)) ∈ lw_all := lw_g (lw_at lw_m3 174 rfl) rfl
theorem q721 : (Jvm.Cond.code ({ cls := "PerilSeat$Knight", name := "<init>", desc := "(II)V" } : Jvm.MethodName) prog_7_method_1_code (3 : Nat) (Option.none : Option Jvm.ClassFile.FieldType)) ∈ lw_all := lw_g (lw_at lw_m3 175 rfl) rfl
theorem q722 : (Jvm.Cond.methodLink "PerilSeat$Knight" (1 : Nat) ({ cls := "PerilSeat$One", name := "<init>", desc := "(II)V" } : Jvm.MethodName)) ∈ lw_all := lw_g (lw_at lw_m3 176 rfl) rfl
theorem q730 : (Jvm.Cond.laysFinal "PerilSeat$Knight" "PerilSeat$One" "renown" "I") ∈ lw_all := lw_g (lw_at lw_m3 184 rfl) rfl
theorem q732 : (Jvm.Cond.laysFinal "PerilSeat$Knight" "PerilSeat$One" "house" "I") ∈ lw_all := lw_g (lw_at lw_m3 186 rfl) rfl
theorem q734 : (Jvm.Cond.superclass "PerilSeat$Knight" "PerilSeat$One") ∈ lw_all := lw_g (lw_at lw_m3 188 rfl) rfl
theorem q805 : (Jvm.Cond.instanceMethod ({ cls := "PerilSeat$Knight", name := "kind", desc := "()I" } : Jvm.MethodName)) ∈ lw_all := lw_g (lw_at lw_m4 19 rfl) rfl
theorem q806 : (Jvm.Cond.code ({ cls := "PerilSeat$Knight", name := "kind", desc := "()I" } : Jvm.MethodName) prog_7_method_2_code (1 : Nat) (Option.some Jvm.ClassFile.FieldType.int)) ∈ lw_all := lw_g (lw_at lw_m4 20 rfl) rfl
theorem q807 : (Jvm.Cond.selects "PerilSeat$Knight" ({ cls := "PerilSeat$One", name := "kind", desc := "()I" } : Jvm.MethodName) ({ cls := "PerilSeat$Knight", name := "kind", desc := "()I" } : Jvm.MethodName)) ∈ lw_all := lw_g (lw_at lw_m4 21 rfl) rfl
theorem q854 : (Jvm.Cond.sameMethod "PerilSeat$Knight" "PerilSeat$One" "fitsOn" "(LPerilSeat$Name;I)Z") ∈ lw_all := lw_g (lw_at lw_m4 68 rfl) rfl
theorem q889 : (Jvm.Cond.selects "PerilSeat$Knight" ({ cls := "PerilSeat$One", name := "fitsOn", desc := "(LPerilSeat$Name;I)Z" } : Jvm.MethodName) ({ cls := "PerilSeat$One", name := "fitsOn", desc := "(LPerilSeat$Name;I)Z" } : Jvm.MethodName)) ∈ lw_all := lw_g (lw_at lw_m4 103 rfl) rfl
theorem q954 : (Jvm.Cond.selects "PerilSeat$Knight" ({ cls := "PerilSeat$One", name := "isSpared", desc := "()Z" } : Jvm.MethodName) ({ cls := "PerilSeat$One", name := "isSpared", desc := "()Z" } : Jvm.MethodName)) ∈ lw_all := lw_g (lw_at lw_m4 168 rfl) rfl
theorem q1493 : (Jvm.Cond.sameMethod "PerilSeat$Knight" "PerilSeat$Knight" "kind" "()I") ∈ lw_all := lw_g (lw_at lw_m6 227 rfl) rfl
theorem q1498 : (Jvm.Cond.castable "PerilSeat$Knight" "PerilSeat$One") ∈ lw_tbl := lw_at lw_m6 232 rfl
theorem q1521 : (Jvm.Cond.castable "PerilSeat$Knight" "java/lang/Object") ∈ lw_tbl := lw_at lw_m7 15 rfl
theorem in_X12 : ∀ w ∈ wsX120, w ∈ lw_all := lw_in wsX120 [730, 732] (by decide +kernel) (by decide +kernel)

/-! PerilSeat$Squire -/
set_option maxRecDepth 100000
def RX13 : String := "PerilSeat$Squire"
def TX13 : u_T := fun k => match k with
  | 0 => ("PerilSeat$One", "renown", "I", true)
  | _ => ("PerilSeat$One", "house", "I", true)
def tyX13 : Nat → FieldType := fun k => match k with
  | 0 => .int
  | _ => .int
abbrev wsX130 : List Cond := u_ws RX13 TX13 2
theorem nmX13 : ∀ a, a < 2 → ∀ b, b < 2 → a ≠ b → (TX13 a).2.1 ≠ (TX13 b).2.1 := by decide +kernel
theorem tyX13_ok : ∀ k, k < 2 → parseFieldDescriptor (TX13 k).2.2.1 = some (tyX13 k) := by decide +kernel
abbrev cX13_init : ByteArray := prog_14_method_1_code
def yX13_init : MethodName := ⟨RX13, "<init>", "(II)V"⟩
def dkwX13_init_0 : List UInt8 := [42, 27, 28, 183, 0, 1, 177]
abbrev dktX13_init_0 : List UInt8 := dkwX13_init_0 ++ []
theorem dksX13_init_0 : cX13_init.data.toList.drop 0 = dktX13_init_0 := by decide +kernel
theorem dX13_init_0 : decode cX13_init 0 = .ok (.aload_n 0, 1) := dk_42 (dk_at dksX13_init_0 0 rfl rfl)
theorem dX13_init_1 : decode cX13_init 1 = .ok (.iload_n 1, 1) := dk_27 (dk_at dksX13_init_0 1 rfl rfl)
theorem dX13_init_2 : decode cX13_init 2 = .ok (.iload_n 2, 1) := dk_28 (dk_at dksX13_init_0 2 rfl rfl)
theorem dX13_init_3 : decode cX13_init 3 = .ok (.invokespecial 1, 3) := dk_183 0 1 (dk_at dksX13_init_0 3 rfl rfl)
theorem dX13_init_6 : decode cX13_init 6 = .ok (.return_, 1) := dk_177 (dk_at dksX13_init_0 6 rfl rfl)
abbrev cX13_kind : ByteArray := prog_14_method_2_code
def yX13_kind : MethodName := ⟨RX13, "kind", "()I"⟩
theorem dX13_kind_0 : decode cX13_kind 0 = .ok (.iconst 1, 1) := by decide +kernel
theorem dX13_kind_1 : decode cX13_kind 1 = .ok (.ireturn, 1) := by decide +kernel
abbrev cX13_isSpared : ByteArray := prog_14_method_3_code
def yX13_isSpared : MethodName := ⟨RX13, "isSpared", "()Z"⟩
def dkwX13_isSpared_0 : List UInt8 := [42, 183, 0, 7, 154, 0, 7, 4, 167, 0, 4, 3, 172]
abbrev dktX13_isSpared_0 : List UInt8 := dkwX13_isSpared_0 ++ []
theorem dksX13_isSpared_0 : cX13_isSpared.data.toList.drop 0 = dktX13_isSpared_0 := by decide +kernel
theorem dX13_isSpared_0 : decode cX13_isSpared 0 = .ok (.aload_n 0, 1) := dk_42 (dk_at dksX13_isSpared_0 0 rfl rfl)
theorem dX13_isSpared_1 : decode cX13_isSpared 1 = .ok (.invokespecial 7, 3) := dk_183 0 7 (dk_at dksX13_isSpared_0 1 rfl rfl)
theorem dX13_isSpared_4 : decode cX13_isSpared 4 = .ok (.ifCond .ne 7, 3) := dk_154 0 7 (dk_at dksX13_isSpared_0 4 rfl rfl)
theorem dX13_isSpared_7 : decode cX13_isSpared 7 = .ok (.iconst 1, 1) := dk_4 (dk_at dksX13_isSpared_0 7 rfl rfl)
theorem dX13_isSpared_8 : decode cX13_isSpared 8 = .ok (.goto 4, 3) := dk_167 0 4 (dk_at dksX13_isSpared_0 8 rfl rfl)
theorem dX13_isSpared_11 : decode cX13_isSpared 11 = .ok (.iconst 0, 1) := dk_3 (dk_at dksX13_isSpared_0 11 rfl rfl)
theorem dX13_isSpared_12 : decode cX13_isSpared 12 = .ok (.ireturn, 1) := dk_172 (dk_at dksX13_isSpared_0 12 rfl rfl)
theorem q97 : (Jvm.Cond.initialized "PerilSeat$Squire") ∈ lw_all := lw_g (lw_at lw_m1 31 rfl) rfl
theorem q736 : (Jvm.Cond.instantiable "PerilSeat$Squire" (2 : Nat)) ∈ lw_all := lw_g (lw_at lw_m3 190 rfl) rfl
theorem q738 : (Jvm.Cond.instanceMethod ({ cls := "PerilSeat$Squire", name := "<init>", desc := "(II)V" } : Jvm.MethodName)) ∈ lw_all := lw_g (lw_at lw_m3 192 rfl) rfl
theorem q739 : (Jvm.Cond.code ({ cls := "PerilSeat$Squire", name := "<init>", desc := "(II)V" } : Jvm.MethodName) prog_14_method_1_code (3 : Nat) (Option.none : Option Jvm.ClassFile.FieldType)) ∈ lw_all := lw_g (lw_at lw_m3 193 rfl) rfl
theorem q740 : (Jvm.Cond.methodLink "PerilSeat$Squire" (1 : Nat) ({ cls := "PerilSeat$One", name := "<init>", desc := "(II)V" } : Jvm.MethodName)) ∈ lw_all := lw_g (lw_at lw_m3 194 rfl) rfl
theorem q741 : (Jvm.Cond.laysFinal "PerilSeat$Squire" "PerilSeat$One" "renown" "I") ∈ lw_all := lw_g (lw_at lw_m3 195 rfl) rfl
theorem q742 : (Jvm.Cond.laysFinal "PerilSeat$Squire" "PerilSeat$One" "house" "I") ∈ lw_all := lw_g (lw_at lw_m3 196 rfl) rfl
theorem q743 : (Jvm.Cond.superclass "PerilSeat$Squire" "PerilSeat$One") ∈ lw_all := lw_g (lw_at lw_m3 197 rfl) rfl
theorem q808 : (Jvm.Cond.selects "PerilSeat$Squire" ({ cls := "PerilSeat$One", name := "kind", desc := "()I" } : Jvm.MethodName) ({ cls := "PerilSeat$Squire", name := "kind", desc := "()I" } : Jvm.MethodName)) ∈ lw_all := lw_g (lw_at lw_m4 22 rfl) rfl
theorem q809 : (Jvm.Cond.instanceMethod ({ cls := "PerilSeat$Squire", name := "kind", desc := "()I" } : Jvm.MethodName)) ∈ lw_all := lw_g (lw_at lw_m4 23 rfl) rfl
theorem q810 : (Jvm.Cond.code ({ cls := "PerilSeat$Squire", name := "kind", desc := "()I" } : Jvm.MethodName) prog_14_method_2_code (1 : Nat) (Option.some Jvm.ClassFile.FieldType.int)) ∈ lw_all := lw_g (lw_at lw_m4 24 rfl) rfl
theorem q890 : (Jvm.Cond.selects "PerilSeat$Squire" ({ cls := "PerilSeat$One", name := "fitsOn", desc := "(LPerilSeat$Name;I)Z" } : Jvm.MethodName) ({ cls := "PerilSeat$One", name := "fitsOn", desc := "(LPerilSeat$Name;I)Z" } : Jvm.MethodName)) ∈ lw_all := lw_g (lw_at lw_m4 104 rfl) rfl
theorem q955 : (Jvm.Cond.selects "PerilSeat$Squire" ({ cls := "PerilSeat$One", name := "isSpared", desc := "()Z" } : Jvm.MethodName) ({ cls := "PerilSeat$Squire", name := "isSpared", desc := "()Z" } : Jvm.MethodName)) ∈ lw_all := lw_g (lw_at lw_m4 169 rfl) rfl
theorem q956 : (Jvm.Cond.instanceMethod ({ cls := "PerilSeat$Squire", name := "isSpared", desc := "()Z" } : Jvm.MethodName)) ∈ lw_all := lw_g (lw_at lw_m4 170 rfl) rfl
theorem q957 : (Jvm.Cond.code ({ cls := "PerilSeat$Squire", name := "isSpared", desc := "()Z" } : Jvm.MethodName) prog_14_method_3_code (1 : Nat) (Option.some Jvm.ClassFile.FieldType.boolean)) ∈ lw_all := lw_g (lw_at lw_m4 171 rfl) rfl
theorem q958 : (Jvm.Cond.methodLink "PerilSeat$Squire" (7 : Nat) ({ cls := "PerilSeat$One", name := "isSpared", desc := "()Z" } : Jvm.MethodName)) ∈ lw_all := lw_g (lw_at lw_m4 172 rfl) rfl
theorem q1499 : (Jvm.Cond.castable "PerilSeat$Squire" "PerilSeat$One") ∈ lw_tbl := lw_at lw_m6 233 rfl
theorem q1522 : (Jvm.Cond.castable "PerilSeat$Squire" "java/lang/Object") ∈ lw_tbl := lw_at lw_m7 16 rfl
theorem in_X13 : ∀ w ∈ wsX130, w ∈ lw_all := lw_in wsX130 [741, 742] (by decide +kernel) (by decide +kernel)

/-! PerilSeat$King -/
set_option maxRecDepth 100000
def RX14 : String := "PerilSeat$King"
def TX14 : u_T := fun k => match k with
  | 0 => ("PerilSeat$One", "renown", "I", true)
  | _ => ("PerilSeat$One", "house", "I", true)
def tyX14 : Nat → FieldType := fun k => match k with
  | 0 => .int
  | _ => .int
abbrev wsX140 : List Cond := u_ws RX14 TX14 2
theorem nmX14 : ∀ a, a < 2 → ∀ b, b < 2 → a ≠ b → (TX14 a).2.1 ≠ (TX14 b).2.1 := by decide +kernel
theorem tyX14_ok : ∀ k, k < 2 → parseFieldDescriptor (TX14 k).2.2.1 = some (tyX14 k) := by decide +kernel
abbrev cX14_init : ByteArray := prog_6_method_1_code
def yX14_init : MethodName := ⟨RX14, "<init>", "(II)V"⟩
def dkwX14_init_0 : List UInt8 := [42, 27, 28, 183, 0, 1, 177]
abbrev dktX14_init_0 : List UInt8 := dkwX14_init_0 ++ []
theorem dksX14_init_0 : cX14_init.data.toList.drop 0 = dktX14_init_0 := by decide +kernel
theorem dX14_init_0 : decode cX14_init 0 = .ok (.aload_n 0, 1) := dk_42 (dk_at dksX14_init_0 0 rfl rfl)
theorem dX14_init_1 : decode cX14_init 1 = .ok (.iload_n 1, 1) := dk_27 (dk_at dksX14_init_0 1 rfl rfl)
theorem dX14_init_2 : decode cX14_init 2 = .ok (.iload_n 2, 1) := dk_28 (dk_at dksX14_init_0 2 rfl rfl)
theorem dX14_init_3 : decode cX14_init 3 = .ok (.invokespecial 1, 3) := dk_183 0 1 (dk_at dksX14_init_0 3 rfl rfl)
theorem dX14_init_6 : decode cX14_init 6 = .ok (.return_, 1) := dk_177 (dk_at dksX14_init_0 6 rfl rfl)
abbrev cX14_kind : ByteArray := prog_6_method_2_code
def yX14_kind : MethodName := ⟨RX14, "kind", "()I"⟩
def dkwX14_kind_0 : List UInt8 := [5, 42, 183, 0, 7, 96, 172]
abbrev dktX14_kind_0 : List UInt8 := dkwX14_kind_0 ++ []
theorem dksX14_kind_0 : cX14_kind.data.toList.drop 0 = dktX14_kind_0 := by decide +kernel
theorem dX14_kind_0 : decode cX14_kind 0 = .ok (.iconst 2, 1) := dk_5 (dk_at dksX14_kind_0 0 rfl rfl)
theorem dX14_kind_1 : decode cX14_kind 1 = .ok (.aload_n 0, 1) := dk_42 (dk_at dksX14_kind_0 1 rfl rfl)
theorem dX14_kind_2 : decode cX14_kind 2 = .ok (.invokespecial 7, 3) := dk_183 0 7 (dk_at dksX14_kind_0 2 rfl rfl)
theorem dX14_kind_5 : decode cX14_kind 5 = .ok (.iadd, 1) := dk_96 (dk_at dksX14_kind_0 5 rfl rfl)
theorem dX14_kind_6 : decode cX14_kind 6 = .ok (.ireturn, 1) := dk_172 (dk_at dksX14_kind_0 6 rfl rfl)
abbrev cX14_fitsOn : ByteArray := prog_6_method_3_code
def yX14_fitsOn : MethodName := ⟨RX14, "fitsOn", "(LPerilSeat$Name;I)Z"⟩
def dkwX14_fitsOn_0 : List UInt8 := [42, 43, 28, 183, 0, 11, 154, 0, 10, 43, 182, 0, 15, 154, 0, 7, 4, 167, 0, 4, 3, 172]
abbrev dktX14_fitsOn_0 : List UInt8 := dkwX14_fitsOn_0 ++ []
theorem dksX14_fitsOn_0 : cX14_fitsOn.data.toList.drop 0 = dktX14_fitsOn_0 := by decide +kernel
theorem dX14_fitsOn_0 : decode cX14_fitsOn 0 = .ok (.aload_n 0, 1) := dk_42 (dk_at dksX14_fitsOn_0 0 rfl rfl)
theorem dX14_fitsOn_1 : decode cX14_fitsOn 1 = .ok (.aload_n 1, 1) := dk_43 (dk_at dksX14_fitsOn_0 1 rfl rfl)
theorem dX14_fitsOn_2 : decode cX14_fitsOn 2 = .ok (.iload_n 2, 1) := dk_28 (dk_at dksX14_fitsOn_0 2 rfl rfl)
theorem dX14_fitsOn_3 : decode cX14_fitsOn 3 = .ok (.invokespecial 11, 3) := dk_183 0 11 (dk_at dksX14_fitsOn_0 3 rfl rfl)
theorem dX14_fitsOn_6 : decode cX14_fitsOn 6 = .ok (.ifCond .ne 10, 3) := dk_154 0 10 (dk_at dksX14_fitsOn_0 6 rfl rfl)
theorem dX14_fitsOn_9 : decode cX14_fitsOn 9 = .ok (.aload_n 1, 1) := dk_43 (dk_at dksX14_fitsOn_0 9 rfl rfl)
theorem dX14_fitsOn_10 : decode cX14_fitsOn 10 = .ok (.invokevirtual 15, 3) := dk_182 0 15 (dk_at dksX14_fitsOn_0 10 rfl rfl)
theorem dX14_fitsOn_13 : decode cX14_fitsOn 13 = .ok (.ifCond .ne 7, 3) := dk_154 0 7 (dk_at dksX14_fitsOn_0 13 rfl rfl)
theorem dX14_fitsOn_16 : decode cX14_fitsOn 16 = .ok (.iconst 1, 1) := dk_4 (dk_at dksX14_fitsOn_0 16 rfl rfl)
theorem dX14_fitsOn_17 : decode cX14_fitsOn 17 = .ok (.goto 4, 3) := dk_167 0 4 (dk_at dksX14_fitsOn_0 17 rfl rfl)
theorem dX14_fitsOn_20 : decode cX14_fitsOn 20 = .ok (.iconst 0, 1) := dk_3 (dk_at dksX14_fitsOn_0 20 rfl rfl)
theorem dX14_fitsOn_21 : decode cX14_fitsOn 21 = .ok (.ireturn, 1) := dk_172 (dk_at dksX14_fitsOn_0 21 rfl rfl)
theorem q98 : (Jvm.Cond.initialized "PerilSeat$King") ∈ lw_all := lw_g (lw_at lw_m1 32 rfl) rfl
theorem q745 : (Jvm.Cond.instantiable "PerilSeat$King" (2 : Nat)) ∈ lw_all := lw_g (lw_at lw_m3 199 rfl) rfl
theorem q747 : (Jvm.Cond.instanceMethod ({ cls := "PerilSeat$King", name := "<init>", desc := "(II)V" } : Jvm.MethodName)) ∈ lw_all := lw_g (lw_at lw_m3 201 rfl) rfl
theorem q748 : (Jvm.Cond.code ({ cls := "PerilSeat$King", name := "<init>", desc := "(II)V" } : Jvm.MethodName) prog_6_method_1_code (3 : Nat) (Option.none : Option Jvm.ClassFile.FieldType)) ∈ lw_all := lw_g (lw_at lw_m3 202 rfl) rfl
theorem q749 : (Jvm.Cond.methodLink "PerilSeat$King" (1 : Nat) ({ cls := "PerilSeat$Knight", name := "<init>", desc := "(II)V" } : Jvm.MethodName)) ∈ lw_all := lw_g (lw_at lw_m3 203 rfl) rfl
theorem q750 : (Jvm.Cond.laysFinal "PerilSeat$King" "PerilSeat$One" "renown" "I") ∈ lw_all := lw_g (lw_at lw_m3 204 rfl) rfl
theorem q751 : (Jvm.Cond.laysFinal "PerilSeat$King" "PerilSeat$One" "house" "I") ∈ lw_all := lw_g (lw_at lw_m3 205 rfl) rfl
theorem q752 : (Jvm.Cond.superclass "PerilSeat$King" "PerilSeat$Knight") ∈ lw_all := lw_g (lw_at lw_m3 206 rfl) rfl
theorem q801 : (Jvm.Cond.selects "PerilSeat$King" ({ cls := "PerilSeat$One", name := "kind", desc := "()I" } : Jvm.MethodName) ({ cls := "PerilSeat$King", name := "kind", desc := "()I" } : Jvm.MethodName)) ∈ lw_all := lw_g (lw_at lw_m4 15 rfl) rfl
theorem q802 : (Jvm.Cond.instanceMethod ({ cls := "PerilSeat$King", name := "kind", desc := "()I" } : Jvm.MethodName)) ∈ lw_all := lw_g (lw_at lw_m4 16 rfl) rfl
theorem q803 : (Jvm.Cond.code ({ cls := "PerilSeat$King", name := "kind", desc := "()I" } : Jvm.MethodName) prog_6_method_2_code (1 : Nat) (Option.some Jvm.ClassFile.FieldType.int)) ∈ lw_all := lw_g (lw_at lw_m4 17 rfl) rfl
theorem q804 : (Jvm.Cond.methodLink "PerilSeat$King" (7 : Nat) ({ cls := "PerilSeat$Knight", name := "kind", desc := "()I" } : Jvm.MethodName)) ∈ lw_all := lw_g (lw_at lw_m4 18 rfl) rfl
theorem q850 : (Jvm.Cond.selects "PerilSeat$King" ({ cls := "PerilSeat$One", name := "fitsOn", desc := "(LPerilSeat$Name;I)Z" } : Jvm.MethodName) ({ cls := "PerilSeat$King", name := "fitsOn", desc := "(LPerilSeat$Name;I)Z" } : Jvm.MethodName)) ∈ lw_all := lw_g (lw_at lw_m4 64 rfl) rfl
theorem q851 : (Jvm.Cond.instanceMethod ({ cls := "PerilSeat$King", name := "fitsOn", desc := "(LPerilSeat$Name;I)Z" } : Jvm.MethodName)) ∈ lw_all := lw_g (lw_at lw_m4 65 rfl) rfl
theorem q852 : (Jvm.Cond.code ({ cls := "PerilSeat$King", name := "fitsOn", desc := "(LPerilSeat$Name;I)Z" } : Jvm.MethodName) prog_6_method_3_code (3 : Nat) (Option.some Jvm.ClassFile.FieldType.boolean)) ∈ lw_all := lw_g (lw_at lw_m4 66 rfl) rfl
theorem q853 : (Jvm.Cond.methodLink "PerilSeat$King" (11 : Nat) ({ cls := "PerilSeat$Knight", name := "fitsOn", desc := "(LPerilSeat$Name;I)Z" } : Jvm.MethodName)) ∈ lw_all := lw_g (lw_at lw_m4 67 rfl) rfl
theorem q953 : (Jvm.Cond.selects "PerilSeat$King" ({ cls := "PerilSeat$One", name := "isSpared", desc := "()Z" } : Jvm.MethodName) ({ cls := "PerilSeat$One", name := "isSpared", desc := "()Z" } : Jvm.MethodName)) ∈ lw_all := lw_g (lw_at lw_m4 167 rfl) rfl
theorem q1497 : (Jvm.Cond.castable "PerilSeat$King" "PerilSeat$One") ∈ lw_tbl := lw_at lw_m6 231 rfl
theorem q1505 : (Jvm.Cond.castable "PerilSeat$King" "PerilSeat$Knight") ∈ lw_tbl := lw_at lw_m6 239 rfl
theorem q1523 : (Jvm.Cond.castable "PerilSeat$King" "java/lang/Object") ∈ lw_tbl := lw_at lw_m7 17 rfl
theorem in_X14 : ∀ w ∈ wsX140, w ∈ lw_all := lw_in wsX140 [750, 751] (by decide +kernel) (by decide +kernel)

/-! PerilSeat$Fits -/
set_option maxRecDepth 100000
def RX15 : String := "PerilSeat$Fits"
abbrev cX15_isShut : ByteArray := prog_3_method_2_code
def yX15_isShut : MethodName := ⟨RX15, "isShut", "()Z"⟩
theorem dX15_isShut_0 : decode cX15_isShut 0 = .ok (.iconst 0, 1) := by decide +kernel
theorem dX15_isShut_1 : decode cX15_isShut 1 = .ok (.ireturn, 1) := by decide +kernel
theorem q858 : (Jvm.Cond.declares ({ cls := "PerilSeat$Fits", name := "fits", desc := "(II)Z" } : Jvm.MethodName)) ∈ lw_tbl := lw_at lw_m4 72 rfl
theorem q879 : (Jvm.Cond.declares ({ cls := "PerilSeat$Fits", name := "isShut", desc := "()Z" } : Jvm.MethodName)) ∈ lw_tbl := lw_at lw_m4 93 rfl
theorem q880 : (Jvm.Cond.instanceMethod ({ cls := "PerilSeat$Fits", name := "isShut", desc := "()Z" } : Jvm.MethodName)) ∈ lw_all := lw_g (lw_at lw_m4 94 rfl) rfl
theorem q881 : (Jvm.Cond.code ({ cls := "PerilSeat$Fits", name := "isShut", desc := "()Z" } : Jvm.MethodName) prog_3_method_2_code (1 : Nat) (Option.some Jvm.ClassFile.FieldType.boolean)) ∈ lw_all := lw_g (lw_at lw_m4 95 rfl) rfl
theorem q888 : (Jvm.Cond.publicMethod ({ cls := "PerilSeat$Fits", name := "isShut", desc := "()Z" } : Jvm.MethodName)) ∈ lw_tbl := lw_at lw_m4 102 rfl
theorem q1496 : (Jvm.Cond.initialized "PerilSeat$Fits") ∈ lw_all := lw_g (lw_at lw_m6 230 rfl) rfl

/-! PerilSeat$Reader -/
set_option maxRecDepth 100000
def RX3 : String := "PerilSeat$Reader"
def TX3 : u_T := fun k => match k with
  | 0 => ("PerilSeat$Reader", "here", "I", false)
  | 1 => ("PerilSeat$Reader", "first", "I", false)
  | 2 => ("PerilSeat$Reader", "word", "Ljava/lang/String;", false)
  | 3 => ("PerilSeat$Reader", "seats", "I", false)
  | 4 => ("PerilSeat$Reader", "there", "I", false)
  | 5 => ("PerilSeat$Reader", "clauses", "[[I", true)
  | 6 => ("PerilSeat$Reader", "read", "I", false)
  | _ => ("PerilSeat$Reader", "this$0", "LPerilSeat;", true)
def tyX3 : Nat → FieldType := fun k => match k with
  | 0 => .int
  | 1 => .int
  | 2 => .object "java/lang/String"
  | 3 => .int
  | 4 => .int
  | 5 => .array (.array .int)
  | 6 => .int
  | _ => .object "PerilSeat"
abbrev wsX30 : List Cond := u_ws RX3 TX3 8
theorem nmX3 : ∀ a, a < 8 → ∀ b, b < 8 → a ≠ b → (TX3 a).2.1 ≠ (TX3 b).2.1 := by decide +kernel
theorem tyX3_ok : ∀ k, k < 8 → parseFieldDescriptor (TX3 k).2.2.1 = some (tyX3 k) := by decide +kernel
abbrev cX3_init : ByteArray := prog_13_method_1_code
def yX3_init : MethodName := ⟨RX3, "<init>", "(LPerilSeat;)V"⟩
def dkwX3_init_1 : List UInt8 := [181, 0, 25, 42, 42, 180, 0, 3, 180, 0, 28, 181, 0, 31, 42, 16, 14, 189, 0, 34, 181, 0, 36, 177]
abbrev dktX3_init_1 : List UInt8 := dkwX3_init_1 ++ []
def dkwX3_init_0 : List UInt8 := [42, 43, 181, 0, 3, 42, 183, 0, 9, 42, 18, 15, 181, 0, 17, 42, 42, 180, 0, 3, 180, 0, 21]
abbrev dktX3_init_0 : List UInt8 := dkwX3_init_0 ++ dktX3_init_1
theorem dksX3_init_0 : cX3_init.data.toList.drop 0 = dktX3_init_0 := by decide +kernel
theorem dksX3_init_1 : cX3_init.data.toList.drop 23 = dktX3_init_1 := dk_seg dksX3_init_0 23 rfl rfl
theorem dX3_init_0 : decode cX3_init 0 = .ok (.aload_n 0, 1) := dk_42 (dk_at dksX3_init_0 0 rfl rfl)
theorem dX3_init_1 : decode cX3_init 1 = .ok (.aload_n 1, 1) := dk_43 (dk_at dksX3_init_0 1 rfl rfl)
theorem dX3_init_2 : decode cX3_init 2 = .ok (.putfield 3, 3) := dk_181 0 3 (dk_at dksX3_init_0 2 rfl rfl)
theorem dX3_init_5 : decode cX3_init 5 = .ok (.aload_n 0, 1) := dk_42 (dk_at dksX3_init_0 5 rfl rfl)
theorem dX3_init_6 : decode cX3_init 6 = .ok (.invokespecial 9, 3) := dk_183 0 9 (dk_at dksX3_init_0 6 rfl rfl)
theorem dX3_init_9 : decode cX3_init 9 = .ok (.aload_n 0, 1) := dk_42 (dk_at dksX3_init_0 9 rfl rfl)
theorem dX3_init_10 : decode cX3_init 10 = .ok (.ldc 15, 2) := dk_18 15 (dk_at dksX3_init_0 10 rfl rfl)
theorem dX3_init_12 : decode cX3_init 12 = .ok (.putfield 17, 3) := dk_181 0 17 (dk_at dksX3_init_0 12 rfl rfl)
theorem dX3_init_15 : decode cX3_init 15 = .ok (.aload_n 0, 1) := dk_42 (dk_at dksX3_init_0 15 rfl rfl)
theorem dX3_init_16 : decode cX3_init 16 = .ok (.aload_n 0, 1) := dk_42 (dk_at dksX3_init_0 16 rfl rfl)
theorem dX3_init_17 : decode cX3_init 17 = .ok (.getfield 3, 3) := dk_180 0 3 (dk_at dksX3_init_0 17 rfl rfl)
theorem dX3_init_20 : decode cX3_init 20 = .ok (.getfield 21, 3) := dk_180 0 21 (dk_at dksX3_init_0 20 rfl rfl)
theorem dX3_init_23 : decode cX3_init 23 = .ok (.putfield 25, 3) := dk_181 0 25 (dk_at dksX3_init_1 0 rfl rfl)
theorem dX3_init_26 : decode cX3_init 26 = .ok (.aload_n 0, 1) := dk_42 (dk_at dksX3_init_1 3 rfl rfl)
theorem dX3_init_27 : decode cX3_init 27 = .ok (.aload_n 0, 1) := dk_42 (dk_at dksX3_init_1 4 rfl rfl)
theorem dX3_init_28 : decode cX3_init 28 = .ok (.getfield 3, 3) := dk_180 0 3 (dk_at dksX3_init_1 5 rfl rfl)
theorem dX3_init_31 : decode cX3_init 31 = .ok (.getfield 28, 3) := dk_180 0 28 (dk_at dksX3_init_1 8 rfl rfl)
theorem dX3_init_34 : decode cX3_init 34 = .ok (.putfield 31, 3) := dk_181 0 31 (dk_at dksX3_init_1 11 rfl rfl)
theorem dX3_init_37 : decode cX3_init 37 = .ok (.aload_n 0, 1) := dk_42 (dk_at dksX3_init_1 14 rfl rfl)
theorem dX3_init_38 : decode cX3_init 38 = .ok (.bipush 14, 2) := dk_16 14 (dk_at dksX3_init_1 15 rfl rfl)
theorem dX3_init_40 : decode cX3_init 40 = .ok (.anewarray 34, 3) := dk_189 0 34 (dk_at dksX3_init_1 17 rfl rfl)
theorem dX3_init_43 : decode cX3_init 43 = .ok (.putfield 36, 3) := dk_181 0 36 (dk_at dksX3_init_1 20 rfl rfl)
theorem dX3_init_46 : decode cX3_init 46 = .ok (.return_, 1) := dk_177 (dk_at dksX3_init_1 23 rfl rfl)
abbrev cX3_read : ByteArray := prog_13_method_9_code
def yX3_read : MethodName := ⟨RX3, "read", "()LPerilSeat$Reader;"⟩
def dkwX3_read_3 : List UInt8 := [182, 0, 88, 153, 0, 7, 4, 167, 0, 4, 3, 182, 0, 102, 167, 255, 175, 42, 176]
abbrev dktX3_read_3 : List UInt8 := dkwX3_read_3 ++ []
def dkwX3_read_2 : List UInt8 := [180, 0, 130, 16, 14, 162, 0, 7, 4, 167, 0, 4, 3, 60, 42, 27, 154, 0, 13, 42, 180, 0, 17]
abbrev dktX3_read_2 : List UInt8 := dkwX3_read_2 ++ dktX3_read_3
def dkwX3_read_1 : List UInt8 := [4, 96, 181, 0, 130, 42, 182, 0, 85, 42, 180, 0, 17, 18, 137, 182, 0, 120, 153, 0, 16, 42]
abbrev dktX3_read_1 : List UInt8 := dkwX3_read_1 ++ dktX3_read_2
def dkwX3_read_0 : List UInt8 := [4, 60, 27, 153, 0, 83, 42, 180, 0, 36, 42, 180, 0, 130, 42, 182, 0, 133, 83, 42, 89, 180, 0, 130]
abbrev dktX3_read_0 : List UInt8 := dkwX3_read_0 ++ dktX3_read_1
theorem dksX3_read_0 : cX3_read.data.toList.drop 0 = dktX3_read_0 := by decide +kernel
theorem dksX3_read_1 : cX3_read.data.toList.drop 24 = dktX3_read_1 := dk_seg dksX3_read_0 24 rfl rfl
theorem dksX3_read_2 : cX3_read.data.toList.drop 46 = dktX3_read_2 := dk_seg dksX3_read_1 22 rfl rfl
theorem dksX3_read_3 : cX3_read.data.toList.drop 69 = dktX3_read_3 := dk_seg dksX3_read_2 23 rfl rfl
theorem dX3_read_0 : decode cX3_read 0 = .ok (.iconst 1, 1) := dk_4 (dk_at dksX3_read_0 0 rfl rfl)
theorem dX3_read_1 : decode cX3_read 1 = .ok (.istore_n 1, 1) := dk_60 (dk_at dksX3_read_0 1 rfl rfl)
theorem dX3_read_2 : decode cX3_read 2 = .ok (.iload_n 1, 1) := dk_27 (dk_at dksX3_read_0 2 rfl rfl)
theorem dX3_read_3 : decode cX3_read 3 = .ok (.ifCond .eq 83, 3) := dk_153 0 83 (dk_at dksX3_read_0 3 rfl rfl)
theorem dX3_read_6 : decode cX3_read 6 = .ok (.aload_n 0, 1) := dk_42 (dk_at dksX3_read_0 6 rfl rfl)
theorem dX3_read_7 : decode cX3_read 7 = .ok (.getfield 36, 3) := dk_180 0 36 (dk_at dksX3_read_0 7 rfl rfl)
theorem dX3_read_10 : decode cX3_read 10 = .ok (.aload_n 0, 1) := dk_42 (dk_at dksX3_read_0 10 rfl rfl)
theorem dX3_read_11 : decode cX3_read 11 = .ok (.getfield 130, 3) := dk_180 0 130 (dk_at dksX3_read_0 11 rfl rfl)
theorem dX3_read_14 : decode cX3_read 14 = .ok (.aload_n 0, 1) := dk_42 (dk_at dksX3_read_0 14 rfl rfl)
theorem dX3_read_15 : decode cX3_read 15 = .ok (.invokevirtual 133, 3) := dk_182 0 133 (dk_at dksX3_read_0 15 rfl rfl)
theorem dX3_read_18 : decode cX3_read 18 = .ok (.aastore, 1) := dk_83 (dk_at dksX3_read_0 18 rfl rfl)
theorem dX3_read_19 : decode cX3_read 19 = .ok (.aload_n 0, 1) := dk_42 (dk_at dksX3_read_0 19 rfl rfl)
theorem dX3_read_20 : decode cX3_read 20 = .ok (.dup, 1) := dk_89 (dk_at dksX3_read_0 20 rfl rfl)
theorem dX3_read_21 : decode cX3_read 21 = .ok (.getfield 130, 3) := dk_180 0 130 (dk_at dksX3_read_0 21 rfl rfl)
theorem dX3_read_24 : decode cX3_read 24 = .ok (.iconst 1, 1) := dk_4 (dk_at dksX3_read_1 0 rfl rfl)
theorem dX3_read_25 : decode cX3_read 25 = .ok (.iadd, 1) := dk_96 (dk_at dksX3_read_1 1 rfl rfl)
theorem dX3_read_26 : decode cX3_read 26 = .ok (.putfield 130, 3) := dk_181 0 130 (dk_at dksX3_read_1 2 rfl rfl)
theorem dX3_read_29 : decode cX3_read 29 = .ok (.aload_n 0, 1) := dk_42 (dk_at dksX3_read_1 5 rfl rfl)
theorem dX3_read_30 : decode cX3_read 30 = .ok (.invokevirtual 85, 3) := dk_182 0 85 (dk_at dksX3_read_1 6 rfl rfl)
theorem dX3_read_33 : decode cX3_read 33 = .ok (.aload_n 0, 1) := dk_42 (dk_at dksX3_read_1 9 rfl rfl)
theorem dX3_read_34 : decode cX3_read 34 = .ok (.getfield 17, 3) := dk_180 0 17 (dk_at dksX3_read_1 10 rfl rfl)
theorem dX3_read_37 : decode cX3_read 37 = .ok (.ldc 137, 2) := dk_18 137 (dk_at dksX3_read_1 13 rfl rfl)
theorem dX3_read_39 : decode cX3_read 39 = .ok (.invokevirtual 120, 3) := dk_182 0 120 (dk_at dksX3_read_1 15 rfl rfl)
theorem dX3_read_42 : decode cX3_read 42 = .ok (.ifCond .eq 16, 3) := dk_153 0 16 (dk_at dksX3_read_1 18 rfl rfl)
theorem dX3_read_45 : decode cX3_read 45 = .ok (.aload_n 0, 1) := dk_42 (dk_at dksX3_read_1 21 rfl rfl)
theorem dX3_read_46 : decode cX3_read 46 = .ok (.getfield 130, 3) := dk_180 0 130 (dk_at dksX3_read_2 0 rfl rfl)
theorem dX3_read_49 : decode cX3_read 49 = .ok (.bipush 14, 2) := dk_16 14 (dk_at dksX3_read_2 3 rfl rfl)
theorem dX3_read_51 : decode cX3_read 51 = .ok (.if_icmp .ge 7, 3) := dk_162 0 7 (dk_at dksX3_read_2 5 rfl rfl)
theorem dX3_read_54 : decode cX3_read 54 = .ok (.iconst 1, 1) := dk_4 (dk_at dksX3_read_2 8 rfl rfl)
theorem dX3_read_55 : decode cX3_read 55 = .ok (.goto 4, 3) := dk_167 0 4 (dk_at dksX3_read_2 9 rfl rfl)
theorem dX3_read_58 : decode cX3_read 58 = .ok (.iconst 0, 1) := dk_3 (dk_at dksX3_read_2 12 rfl rfl)
theorem dX3_read_59 : decode cX3_read 59 = .ok (.istore_n 1, 1) := dk_60 (dk_at dksX3_read_2 13 rfl rfl)
theorem dX3_read_60 : decode cX3_read 60 = .ok (.aload_n 0, 1) := dk_42 (dk_at dksX3_read_2 14 rfl rfl)
theorem dX3_read_61 : decode cX3_read 61 = .ok (.iload_n 1, 1) := dk_27 (dk_at dksX3_read_2 15 rfl rfl)
theorem dX3_read_62 : decode cX3_read 62 = .ok (.ifCond .ne 13, 3) := dk_154 0 13 (dk_at dksX3_read_2 16 rfl rfl)
theorem dX3_read_65 : decode cX3_read 65 = .ok (.aload_n 0, 1) := dk_42 (dk_at dksX3_read_2 19 rfl rfl)
theorem dX3_read_66 : decode cX3_read 66 = .ok (.getfield 17, 3) := dk_180 0 17 (dk_at dksX3_read_2 20 rfl rfl)
theorem dX3_read_69 : decode cX3_read 69 = .ok (.invokevirtual 88, 3) := dk_182 0 88 (dk_at dksX3_read_3 0 rfl rfl)
theorem dX3_read_72 : decode cX3_read 72 = .ok (.ifCond .eq 7, 3) := dk_153 0 7 (dk_at dksX3_read_3 3 rfl rfl)
theorem dX3_read_75 : decode cX3_read 75 = .ok (.iconst 1, 1) := dk_4 (dk_at dksX3_read_3 6 rfl rfl)
theorem dX3_read_76 : decode cX3_read 76 = .ok (.goto 4, 3) := dk_167 0 4 (dk_at dksX3_read_3 7 rfl rfl)
theorem dX3_read_79 : decode cX3_read 79 = .ok (.iconst 0, 1) := dk_3 (dk_at dksX3_read_3 10 rfl rfl)
theorem dX3_read_80 : decode cX3_read 80 = .ok (.invokevirtual 102, 3) := dk_182 0 102 (dk_at dksX3_read_3 11 rfl rfl)
theorem dX3_read_83 : decode cX3_read 83 = .ok (.goto (-81), 3) := dk_167 255 175 (dk_at dksX3_read_3 14 rfl rfl)
theorem dX3_read_86 : decode cX3_read 86 = .ok (.aload_n 0, 1) := dk_42 (dk_at dksX3_read_3 17 rfl rfl)
theorem dX3_read_87 : decode cX3_read 87 = .ok (.areturn, 1) := dk_176 (dk_at dksX3_read_3 18 rfl rfl)
abbrev cX3_clause : ByteArray := prog_13_method_8_code
def yX3_clause : MethodName := ⟨RX3, "clause", "()[I"⟩
def dkwX3_clause_13 : List UInt8 := [3, 27, 79, 176]
abbrev dktX3_clause_13 : List UInt8 := dkwX3_clause_13 ++ []
def dkwX3_clause_12 : List UInt8 := [182, 0, 112, 79, 176, 5, 188, 10, 89, 3, 27, 79, 89, 4, 42, 182, 0, 127, 79, 176, 4, 188, 10, 89]
abbrev dktX3_clause_12 : List UInt8 := dkwX3_clause_12 ++ dktX3_clause_13
def dkwX3_clause_11 : List UInt8 := [5, 29, 79, 176, 6, 188, 10, 89, 3, 27, 79, 89, 4, 42, 182, 0, 124, 79, 89, 5, 42, 3, 16, 7]
abbrev dktX3_clause_11 : List UInt8 := dkwX3_clause_11 ++ dktX3_clause_12
def dkwX3_clause_10 : List UInt8 := [29, 159, 0, 7, 4, 167, 0, 4, 3, 182, 0, 102, 6, 188, 10, 89, 3, 27, 79, 89, 4, 28, 79, 89]
abbrev dktX3_clause_10 : List UInt8 := dkwX3_clause_10 ++ dktX3_clause_11
def dkwX3_clause_9 : List UInt8 := [79, 89, 5, 42, 3, 16, 9, 182, 0, 112, 79, 176, 42, 182, 0, 127, 61, 42, 182, 0, 127, 62, 42, 28]
abbrev dktX3_clause_9 : List UInt8 := dkwX3_clause_9 ++ dktX3_clause_10
def dkwX3_clause_8 : List UInt8 := [180, 0, 31, 4, 96, 181, 0, 31, 6, 188, 10, 89, 3, 27, 79, 89, 4, 42, 3, 16, 9, 182, 0, 112]
abbrev dktX3_clause_8 : List UInt8 := dkwX3_clause_8 ++ dktX3_clause_9
def dkwX3_clause_7 : List UInt8 := [3, 79, 176, 42, 42, 180, 0, 31, 16, 6, 162, 0, 7, 4, 167, 0, 4, 3, 182, 0, 102, 42, 89]
abbrev dktX3_clause_7 : List UInt8 := dkwX3_clause_7 ++ dktX3_clause_8
def dkwX3_clause_6 : List UInt8 := [3, 16, 9, 182, 0, 112, 79, 176, 6, 188, 10, 89, 3, 27, 79, 89, 4, 42, 182, 0, 124, 79, 89, 5]
abbrev dktX3_clause_6 : List UInt8 := dkwX3_clause_6 ++ dktX3_clause_7
def dkwX3_clause_5 : List UInt8 := [4, 42, 180, 0, 25, 79, 176, 6, 188, 10, 89, 3, 27, 79, 89, 4, 42, 182, 0, 124, 79, 89, 5, 42]
abbrev dktX3_clause_5 : List UInt8 := dkwX3_clause_5 ++ dktX3_clause_6
def dkwX3_clause_4 : List UInt8 := [42, 42, 6, 16, 8, 182, 0, 112, 181, 0, 25, 42, 3, 181, 0, 31, 5, 188, 10, 89, 3, 27, 79, 89]
abbrev dktX3_clause_4 : List UInt8 := dkwX3_clause_4 ++ dktX3_clause_5
def dkwX3_clause_3 : List UInt8 := [170, 0, 0, 0, 1, 13, 0, 0, 0, 0, 0, 0, 0, 10, 0, 0, 0, 58, 0, 0, 0, 89, 0, 0, 0, 89, 0, 0, 0, 89, 0, 0, 0, 114, 0, 0, 0, 133, 0, 0, 0, 133, 0, 0, 0, 133, 0, 0, 0, 189, 0, 0, 0, 229, 0, 0, 0, 254]
abbrev dktX3_clause_3 : List UInt8 := dkwX3_clause_3 ++ dktX3_clause_4
def dkwX3_clause_2 : List UInt8 := [159, 0, 7, 4, 167, 0, 4, 3, 182, 0, 102, 27]
abbrev dktX3_clause_2 : List UInt8 := dkwX3_clause_2 ++ dktX3_clause_3
def dkwX3_clause_1 : List UInt8 := [50, 182, 0, 120, 153, 0, 7, 28, 167, 0, 4, 27, 60, 132, 2, 1, 167, 255, 224, 42, 27, 2]
abbrev dktX3_clause_1 : List UInt8 := dkwX3_clause_1 ++ dktX3_clause_2
def dkwX3_clause_0 : List UInt8 := [42, 182, 0, 85, 2, 60, 3, 61, 28, 178, 0, 116, 190, 162, 0, 30, 42, 180, 0, 17, 178, 0, 116, 28]
abbrev dktX3_clause_0 : List UInt8 := dkwX3_clause_0 ++ dktX3_clause_1
theorem dksX3_clause_0 : cX3_clause.data.toList.drop 0 = dktX3_clause_0 := by decide +kernel
theorem dksX3_clause_1 : cX3_clause.data.toList.drop 24 = dktX3_clause_1 := dk_seg dksX3_clause_0 24 rfl rfl
theorem dksX3_clause_2 : cX3_clause.data.toList.drop 46 = dktX3_clause_2 := dk_seg dksX3_clause_1 22 rfl rfl
theorem dksX3_clause_3 : cX3_clause.data.toList.drop 58 = dktX3_clause_3 := dk_seg dksX3_clause_2 12 rfl rfl
theorem dksX3_clause_4 : cX3_clause.data.toList.drop 116 = dktX3_clause_4 := dk_seg dksX3_clause_3 58 rfl rfl
theorem dksX3_clause_5 : cX3_clause.data.toList.drop 140 = dktX3_clause_5 := dk_seg dksX3_clause_4 24 rfl rfl
theorem dksX3_clause_6 : cX3_clause.data.toList.drop 164 = dktX3_clause_6 := dk_seg dksX3_clause_5 24 rfl rfl
theorem dksX3_clause_7 : cX3_clause.data.toList.drop 188 = dktX3_clause_7 := dk_seg dksX3_clause_6 24 rfl rfl
theorem dksX3_clause_8 : cX3_clause.data.toList.drop 211 = dktX3_clause_8 := dk_seg dksX3_clause_7 23 rfl rfl
theorem dksX3_clause_9 : cX3_clause.data.toList.drop 235 = dktX3_clause_9 := dk_seg dksX3_clause_8 24 rfl rfl
theorem dksX3_clause_10 : cX3_clause.data.toList.drop 259 = dktX3_clause_10 := dk_seg dksX3_clause_9 24 rfl rfl
theorem dksX3_clause_11 : cX3_clause.data.toList.drop 283 = dktX3_clause_11 := dk_seg dksX3_clause_10 24 rfl rfl
theorem dksX3_clause_12 : cX3_clause.data.toList.drop 307 = dktX3_clause_12 := dk_seg dksX3_clause_11 24 rfl rfl
theorem dksX3_clause_13 : cX3_clause.data.toList.drop 331 = dktX3_clause_13 := dk_seg dksX3_clause_12 24 rfl rfl
theorem dX3_clause_0 : decode cX3_clause 0 = .ok (.aload_n 0, 1) := dk_42 (dk_at dksX3_clause_0 0 rfl rfl)
theorem dX3_clause_1 : decode cX3_clause 1 = .ok (.invokevirtual 85, 3) := dk_182 0 85 (dk_at dksX3_clause_0 1 rfl rfl)
theorem dX3_clause_4 : decode cX3_clause 4 = .ok (.iconst (-1), 1) := dk_2 (dk_at dksX3_clause_0 4 rfl rfl)
theorem dX3_clause_5 : decode cX3_clause 5 = .ok (.istore_n 1, 1) := dk_60 (dk_at dksX3_clause_0 5 rfl rfl)
theorem dX3_clause_6 : decode cX3_clause 6 = .ok (.iconst 0, 1) := dk_3 (dk_at dksX3_clause_0 6 rfl rfl)
theorem dX3_clause_7 : decode cX3_clause 7 = .ok (.istore_n 2, 1) := dk_61 (dk_at dksX3_clause_0 7 rfl rfl)
theorem dX3_clause_8 : decode cX3_clause 8 = .ok (.iload_n 2, 1) := dk_28 (dk_at dksX3_clause_0 8 rfl rfl)
theorem dX3_clause_9 : decode cX3_clause 9 = .ok (.getstatic 116, 3) := dk_178 0 116 (dk_at dksX3_clause_0 9 rfl rfl)
theorem dX3_clause_12 : decode cX3_clause 12 = .ok (.arraylength, 1) := dk_190 (dk_at dksX3_clause_0 12 rfl rfl)
theorem dX3_clause_13 : decode cX3_clause 13 = .ok (.if_icmp .ge 30, 3) := dk_162 0 30 (dk_at dksX3_clause_0 13 rfl rfl)
theorem dX3_clause_16 : decode cX3_clause 16 = .ok (.aload_n 0, 1) := dk_42 (dk_at dksX3_clause_0 16 rfl rfl)
theorem dX3_clause_17 : decode cX3_clause 17 = .ok (.getfield 17, 3) := dk_180 0 17 (dk_at dksX3_clause_0 17 rfl rfl)
theorem dX3_clause_20 : decode cX3_clause 20 = .ok (.getstatic 116, 3) := dk_178 0 116 (dk_at dksX3_clause_0 20 rfl rfl)
theorem dX3_clause_23 : decode cX3_clause 23 = .ok (.iload_n 2, 1) := dk_28 (dk_at dksX3_clause_0 23 rfl rfl)
theorem dX3_clause_24 : decode cX3_clause 24 = .ok (.aaload, 1) := dk_50 (dk_at dksX3_clause_1 0 rfl rfl)
theorem dX3_clause_25 : decode cX3_clause 25 = .ok (.invokevirtual 120, 3) := dk_182 0 120 (dk_at dksX3_clause_1 1 rfl rfl)
theorem dX3_clause_28 : decode cX3_clause 28 = .ok (.ifCond .eq 7, 3) := dk_153 0 7 (dk_at dksX3_clause_1 4 rfl rfl)
theorem dX3_clause_31 : decode cX3_clause 31 = .ok (.iload_n 2, 1) := dk_28 (dk_at dksX3_clause_1 7 rfl rfl)
theorem dX3_clause_32 : decode cX3_clause 32 = .ok (.goto 4, 3) := dk_167 0 4 (dk_at dksX3_clause_1 8 rfl rfl)
theorem dX3_clause_35 : decode cX3_clause 35 = .ok (.iload_n 1, 1) := dk_27 (dk_at dksX3_clause_1 11 rfl rfl)
theorem dX3_clause_36 : decode cX3_clause 36 = .ok (.istore_n 1, 1) := dk_60 (dk_at dksX3_clause_1 12 rfl rfl)
theorem dX3_clause_37 : decode cX3_clause 37 = .ok (.iinc 2 1, 3) := dk_132 2 1 (dk_at dksX3_clause_1 13 rfl rfl)
theorem dX3_clause_40 : decode cX3_clause 40 = .ok (.goto (-32), 3) := dk_167 255 224 (dk_at dksX3_clause_1 16 rfl rfl)
theorem dX3_clause_43 : decode cX3_clause 43 = .ok (.aload_n 0, 1) := dk_42 (dk_at dksX3_clause_1 19 rfl rfl)
theorem dX3_clause_44 : decode cX3_clause 44 = .ok (.iload_n 1, 1) := dk_27 (dk_at dksX3_clause_1 20 rfl rfl)
theorem dX3_clause_45 : decode cX3_clause 45 = .ok (.iconst (-1), 1) := dk_2 (dk_at dksX3_clause_1 21 rfl rfl)
theorem dX3_clause_46 : decode cX3_clause 46 = .ok (.if_icmp .eq 7, 3) := dk_159 0 7 (dk_at dksX3_clause_2 0 rfl rfl)
theorem dX3_clause_49 : decode cX3_clause 49 = .ok (.iconst 1, 1) := dk_4 (dk_at dksX3_clause_2 3 rfl rfl)
theorem dX3_clause_50 : decode cX3_clause 50 = .ok (.goto 4, 3) := dk_167 0 4 (dk_at dksX3_clause_2 4 rfl rfl)
theorem dX3_clause_53 : decode cX3_clause 53 = .ok (.iconst 0, 1) := dk_3 (dk_at dksX3_clause_2 7 rfl rfl)
theorem dX3_clause_54 : decode cX3_clause 54 = .ok (.invokevirtual 102, 3) := dk_182 0 102 (dk_at dksX3_clause_2 8 rfl rfl)
theorem dX3_clause_57 : decode cX3_clause 57 = .ok (.iload_n 1, 1) := dk_27 (dk_at dksX3_clause_2 11 rfl rfl)
theorem dX3_clause_58 : decode cX3_clause 58 = .ok (.tableswitch 269 0 10 #[58, 89, 89, 89, 114, 133, 133, 133, 189, 229, 254], 58) := by decide +kernel
theorem dX3_clause_116 : decode cX3_clause 116 = .ok (.aload_n 0, 1) := dk_42 (dk_at dksX3_clause_4 0 rfl rfl)
theorem dX3_clause_117 : decode cX3_clause 117 = .ok (.aload_n 0, 1) := dk_42 (dk_at dksX3_clause_4 1 rfl rfl)
theorem dX3_clause_118 : decode cX3_clause 118 = .ok (.iconst 3, 1) := dk_6 (dk_at dksX3_clause_4 2 rfl rfl)
theorem dX3_clause_119 : decode cX3_clause 119 = .ok (.bipush 8, 2) := dk_16 8 (dk_at dksX3_clause_4 3 rfl rfl)
theorem dX3_clause_121 : decode cX3_clause 121 = .ok (.invokevirtual 112, 3) := dk_182 0 112 (dk_at dksX3_clause_4 5 rfl rfl)
theorem dX3_clause_124 : decode cX3_clause 124 = .ok (.putfield 25, 3) := dk_181 0 25 (dk_at dksX3_clause_4 8 rfl rfl)
theorem dX3_clause_127 : decode cX3_clause 127 = .ok (.aload_n 0, 1) := dk_42 (dk_at dksX3_clause_4 11 rfl rfl)
theorem dX3_clause_128 : decode cX3_clause 128 = .ok (.iconst 0, 1) := dk_3 (dk_at dksX3_clause_4 12 rfl rfl)
theorem dX3_clause_129 : decode cX3_clause 129 = .ok (.putfield 31, 3) := dk_181 0 31 (dk_at dksX3_clause_4 13 rfl rfl)
theorem dX3_clause_132 : decode cX3_clause 132 = .ok (.iconst 2, 1) := dk_5 (dk_at dksX3_clause_4 16 rfl rfl)
theorem dX3_clause_133 : decode cX3_clause 133 = .ok (.newarray .int, 2) := dk_188_10 (dk_at dksX3_clause_4 17 rfl rfl)
theorem dX3_clause_135 : decode cX3_clause 135 = .ok (.dup, 1) := dk_89 (dk_at dksX3_clause_4 19 rfl rfl)
theorem dX3_clause_136 : decode cX3_clause 136 = .ok (.iconst 0, 1) := dk_3 (dk_at dksX3_clause_4 20 rfl rfl)
theorem dX3_clause_137 : decode cX3_clause 137 = .ok (.iload_n 1, 1) := dk_27 (dk_at dksX3_clause_4 21 rfl rfl)
theorem dX3_clause_138 : decode cX3_clause 138 = .ok (.iastore, 1) := dk_79 (dk_at dksX3_clause_4 22 rfl rfl)
theorem dX3_clause_139 : decode cX3_clause 139 = .ok (.dup, 1) := dk_89 (dk_at dksX3_clause_4 23 rfl rfl)
theorem dX3_clause_140 : decode cX3_clause 140 = .ok (.iconst 1, 1) := dk_4 (dk_at dksX3_clause_5 0 rfl rfl)
theorem dX3_clause_141 : decode cX3_clause 141 = .ok (.aload_n 0, 1) := dk_42 (dk_at dksX3_clause_5 1 rfl rfl)
theorem dX3_clause_142 : decode cX3_clause 142 = .ok (.getfield 25, 3) := dk_180 0 25 (dk_at dksX3_clause_5 2 rfl rfl)
theorem dX3_clause_145 : decode cX3_clause 145 = .ok (.iastore, 1) := dk_79 (dk_at dksX3_clause_5 5 rfl rfl)
theorem dX3_clause_146 : decode cX3_clause 146 = .ok (.areturn, 1) := dk_176 (dk_at dksX3_clause_5 6 rfl rfl)
theorem dX3_clause_147 : decode cX3_clause 147 = .ok (.iconst 3, 1) := dk_6 (dk_at dksX3_clause_5 7 rfl rfl)
theorem dX3_clause_148 : decode cX3_clause 148 = .ok (.newarray .int, 2) := dk_188_10 (dk_at dksX3_clause_5 8 rfl rfl)
theorem dX3_clause_150 : decode cX3_clause 150 = .ok (.dup, 1) := dk_89 (dk_at dksX3_clause_5 10 rfl rfl)
theorem dX3_clause_151 : decode cX3_clause 151 = .ok (.iconst 0, 1) := dk_3 (dk_at dksX3_clause_5 11 rfl rfl)
theorem dX3_clause_152 : decode cX3_clause 152 = .ok (.iload_n 1, 1) := dk_27 (dk_at dksX3_clause_5 12 rfl rfl)
theorem dX3_clause_153 : decode cX3_clause 153 = .ok (.iastore, 1) := dk_79 (dk_at dksX3_clause_5 13 rfl rfl)
theorem dX3_clause_154 : decode cX3_clause 154 = .ok (.dup, 1) := dk_89 (dk_at dksX3_clause_5 14 rfl rfl)
theorem dX3_clause_155 : decode cX3_clause 155 = .ok (.iconst 1, 1) := dk_4 (dk_at dksX3_clause_5 15 rfl rfl)
theorem dX3_clause_156 : decode cX3_clause 156 = .ok (.aload_n 0, 1) := dk_42 (dk_at dksX3_clause_5 16 rfl rfl)
theorem dX3_clause_157 : decode cX3_clause 157 = .ok (.invokevirtual 124, 3) := dk_182 0 124 (dk_at dksX3_clause_5 17 rfl rfl)
theorem dX3_clause_160 : decode cX3_clause 160 = .ok (.iastore, 1) := dk_79 (dk_at dksX3_clause_5 20 rfl rfl)
theorem dX3_clause_161 : decode cX3_clause 161 = .ok (.dup, 1) := dk_89 (dk_at dksX3_clause_5 21 rfl rfl)
theorem dX3_clause_162 : decode cX3_clause 162 = .ok (.iconst 2, 1) := dk_5 (dk_at dksX3_clause_5 22 rfl rfl)
theorem dX3_clause_163 : decode cX3_clause 163 = .ok (.aload_n 0, 1) := dk_42 (dk_at dksX3_clause_5 23 rfl rfl)
theorem dX3_clause_164 : decode cX3_clause 164 = .ok (.iconst 0, 1) := dk_3 (dk_at dksX3_clause_6 0 rfl rfl)
theorem dX3_clause_165 : decode cX3_clause 165 = .ok (.bipush 9, 2) := dk_16 9 (dk_at dksX3_clause_6 1 rfl rfl)
theorem dX3_clause_167 : decode cX3_clause 167 = .ok (.invokevirtual 112, 3) := dk_182 0 112 (dk_at dksX3_clause_6 3 rfl rfl)
theorem dX3_clause_170 : decode cX3_clause 170 = .ok (.iastore, 1) := dk_79 (dk_at dksX3_clause_6 6 rfl rfl)
theorem dX3_clause_171 : decode cX3_clause 171 = .ok (.areturn, 1) := dk_176 (dk_at dksX3_clause_6 7 rfl rfl)
theorem dX3_clause_172 : decode cX3_clause 172 = .ok (.iconst 3, 1) := dk_6 (dk_at dksX3_clause_6 8 rfl rfl)
theorem dX3_clause_173 : decode cX3_clause 173 = .ok (.newarray .int, 2) := dk_188_10 (dk_at dksX3_clause_6 9 rfl rfl)
theorem dX3_clause_175 : decode cX3_clause 175 = .ok (.dup, 1) := dk_89 (dk_at dksX3_clause_6 11 rfl rfl)
theorem dX3_clause_176 : decode cX3_clause 176 = .ok (.iconst 0, 1) := dk_3 (dk_at dksX3_clause_6 12 rfl rfl)
theorem dX3_clause_177 : decode cX3_clause 177 = .ok (.iload_n 1, 1) := dk_27 (dk_at dksX3_clause_6 13 rfl rfl)
theorem dX3_clause_178 : decode cX3_clause 178 = .ok (.iastore, 1) := dk_79 (dk_at dksX3_clause_6 14 rfl rfl)
theorem dX3_clause_179 : decode cX3_clause 179 = .ok (.dup, 1) := dk_89 (dk_at dksX3_clause_6 15 rfl rfl)
theorem dX3_clause_180 : decode cX3_clause 180 = .ok (.iconst 1, 1) := dk_4 (dk_at dksX3_clause_6 16 rfl rfl)
theorem dX3_clause_181 : decode cX3_clause 181 = .ok (.aload_n 0, 1) := dk_42 (dk_at dksX3_clause_6 17 rfl rfl)
theorem dX3_clause_182 : decode cX3_clause 182 = .ok (.invokevirtual 124, 3) := dk_182 0 124 (dk_at dksX3_clause_6 18 rfl rfl)
theorem dX3_clause_185 : decode cX3_clause 185 = .ok (.iastore, 1) := dk_79 (dk_at dksX3_clause_6 21 rfl rfl)
theorem dX3_clause_186 : decode cX3_clause 186 = .ok (.dup, 1) := dk_89 (dk_at dksX3_clause_6 22 rfl rfl)
theorem dX3_clause_187 : decode cX3_clause 187 = .ok (.iconst 2, 1) := dk_5 (dk_at dksX3_clause_6 23 rfl rfl)
theorem dX3_clause_188 : decode cX3_clause 188 = .ok (.iconst 0, 1) := dk_3 (dk_at dksX3_clause_7 0 rfl rfl)
theorem dX3_clause_189 : decode cX3_clause 189 = .ok (.iastore, 1) := dk_79 (dk_at dksX3_clause_7 1 rfl rfl)
theorem dX3_clause_190 : decode cX3_clause 190 = .ok (.areturn, 1) := dk_176 (dk_at dksX3_clause_7 2 rfl rfl)
theorem dX3_clause_191 : decode cX3_clause 191 = .ok (.aload_n 0, 1) := dk_42 (dk_at dksX3_clause_7 3 rfl rfl)
theorem dX3_clause_192 : decode cX3_clause 192 = .ok (.aload_n 0, 1) := dk_42 (dk_at dksX3_clause_7 4 rfl rfl)
theorem dX3_clause_193 : decode cX3_clause 193 = .ok (.getfield 31, 3) := dk_180 0 31 (dk_at dksX3_clause_7 5 rfl rfl)
theorem dX3_clause_196 : decode cX3_clause 196 = .ok (.bipush 6, 2) := dk_16 6 (dk_at dksX3_clause_7 8 rfl rfl)
theorem dX3_clause_198 : decode cX3_clause 198 = .ok (.if_icmp .ge 7, 3) := dk_162 0 7 (dk_at dksX3_clause_7 10 rfl rfl)
theorem dX3_clause_201 : decode cX3_clause 201 = .ok (.iconst 1, 1) := dk_4 (dk_at dksX3_clause_7 13 rfl rfl)
theorem dX3_clause_202 : decode cX3_clause 202 = .ok (.goto 4, 3) := dk_167 0 4 (dk_at dksX3_clause_7 14 rfl rfl)
theorem dX3_clause_205 : decode cX3_clause 205 = .ok (.iconst 0, 1) := dk_3 (dk_at dksX3_clause_7 17 rfl rfl)
theorem dX3_clause_206 : decode cX3_clause 206 = .ok (.invokevirtual 102, 3) := dk_182 0 102 (dk_at dksX3_clause_7 18 rfl rfl)
theorem dX3_clause_209 : decode cX3_clause 209 = .ok (.aload_n 0, 1) := dk_42 (dk_at dksX3_clause_7 21 rfl rfl)
theorem dX3_clause_210 : decode cX3_clause 210 = .ok (.dup, 1) := dk_89 (dk_at dksX3_clause_7 22 rfl rfl)
theorem dX3_clause_211 : decode cX3_clause 211 = .ok (.getfield 31, 3) := dk_180 0 31 (dk_at dksX3_clause_8 0 rfl rfl)
theorem dX3_clause_214 : decode cX3_clause 214 = .ok (.iconst 1, 1) := dk_4 (dk_at dksX3_clause_8 3 rfl rfl)
theorem dX3_clause_215 : decode cX3_clause 215 = .ok (.iadd, 1) := dk_96 (dk_at dksX3_clause_8 4 rfl rfl)
theorem dX3_clause_216 : decode cX3_clause 216 = .ok (.putfield 31, 3) := dk_181 0 31 (dk_at dksX3_clause_8 5 rfl rfl)
theorem dX3_clause_219 : decode cX3_clause 219 = .ok (.iconst 3, 1) := dk_6 (dk_at dksX3_clause_8 8 rfl rfl)
theorem dX3_clause_220 : decode cX3_clause 220 = .ok (.newarray .int, 2) := dk_188_10 (dk_at dksX3_clause_8 9 rfl rfl)
theorem dX3_clause_222 : decode cX3_clause 222 = .ok (.dup, 1) := dk_89 (dk_at dksX3_clause_8 11 rfl rfl)
theorem dX3_clause_223 : decode cX3_clause 223 = .ok (.iconst 0, 1) := dk_3 (dk_at dksX3_clause_8 12 rfl rfl)
theorem dX3_clause_224 : decode cX3_clause 224 = .ok (.iload_n 1, 1) := dk_27 (dk_at dksX3_clause_8 13 rfl rfl)
theorem dX3_clause_225 : decode cX3_clause 225 = .ok (.iastore, 1) := dk_79 (dk_at dksX3_clause_8 14 rfl rfl)
theorem dX3_clause_226 : decode cX3_clause 226 = .ok (.dup, 1) := dk_89 (dk_at dksX3_clause_8 15 rfl rfl)
theorem dX3_clause_227 : decode cX3_clause 227 = .ok (.iconst 1, 1) := dk_4 (dk_at dksX3_clause_8 16 rfl rfl)
theorem dX3_clause_228 : decode cX3_clause 228 = .ok (.aload_n 0, 1) := dk_42 (dk_at dksX3_clause_8 17 rfl rfl)
theorem dX3_clause_229 : decode cX3_clause 229 = .ok (.iconst 0, 1) := dk_3 (dk_at dksX3_clause_8 18 rfl rfl)
theorem dX3_clause_230 : decode cX3_clause 230 = .ok (.bipush 9, 2) := dk_16 9 (dk_at dksX3_clause_8 19 rfl rfl)
theorem dX3_clause_232 : decode cX3_clause 232 = .ok (.invokevirtual 112, 3) := dk_182 0 112 (dk_at dksX3_clause_8 21 rfl rfl)
theorem dX3_clause_235 : decode cX3_clause 235 = .ok (.iastore, 1) := dk_79 (dk_at dksX3_clause_9 0 rfl rfl)
theorem dX3_clause_236 : decode cX3_clause 236 = .ok (.dup, 1) := dk_89 (dk_at dksX3_clause_9 1 rfl rfl)
theorem dX3_clause_237 : decode cX3_clause 237 = .ok (.iconst 2, 1) := dk_5 (dk_at dksX3_clause_9 2 rfl rfl)
theorem dX3_clause_238 : decode cX3_clause 238 = .ok (.aload_n 0, 1) := dk_42 (dk_at dksX3_clause_9 3 rfl rfl)
theorem dX3_clause_239 : decode cX3_clause 239 = .ok (.iconst 0, 1) := dk_3 (dk_at dksX3_clause_9 4 rfl rfl)
theorem dX3_clause_240 : decode cX3_clause 240 = .ok (.bipush 9, 2) := dk_16 9 (dk_at dksX3_clause_9 5 rfl rfl)
theorem dX3_clause_242 : decode cX3_clause 242 = .ok (.invokevirtual 112, 3) := dk_182 0 112 (dk_at dksX3_clause_9 7 rfl rfl)
theorem dX3_clause_245 : decode cX3_clause 245 = .ok (.iastore, 1) := dk_79 (dk_at dksX3_clause_9 10 rfl rfl)
theorem dX3_clause_246 : decode cX3_clause 246 = .ok (.areturn, 1) := dk_176 (dk_at dksX3_clause_9 11 rfl rfl)
theorem dX3_clause_247 : decode cX3_clause 247 = .ok (.aload_n 0, 1) := dk_42 (dk_at dksX3_clause_9 12 rfl rfl)
theorem dX3_clause_248 : decode cX3_clause 248 = .ok (.invokevirtual 127, 3) := dk_182 0 127 (dk_at dksX3_clause_9 13 rfl rfl)
theorem dX3_clause_251 : decode cX3_clause 251 = .ok (.istore_n 2, 1) := dk_61 (dk_at dksX3_clause_9 16 rfl rfl)
theorem dX3_clause_252 : decode cX3_clause 252 = .ok (.aload_n 0, 1) := dk_42 (dk_at dksX3_clause_9 17 rfl rfl)
theorem dX3_clause_253 : decode cX3_clause 253 = .ok (.invokevirtual 127, 3) := dk_182 0 127 (dk_at dksX3_clause_9 18 rfl rfl)
theorem dX3_clause_256 : decode cX3_clause 256 = .ok (.istore_n 3, 1) := dk_62 (dk_at dksX3_clause_9 21 rfl rfl)
theorem dX3_clause_257 : decode cX3_clause 257 = .ok (.aload_n 0, 1) := dk_42 (dk_at dksX3_clause_9 22 rfl rfl)
theorem dX3_clause_258 : decode cX3_clause 258 = .ok (.iload_n 2, 1) := dk_28 (dk_at dksX3_clause_9 23 rfl rfl)
theorem dX3_clause_259 : decode cX3_clause 259 = .ok (.iload_n 3, 1) := dk_29 (dk_at dksX3_clause_10 0 rfl rfl)
theorem dX3_clause_260 : decode cX3_clause 260 = .ok (.if_icmp .eq 7, 3) := dk_159 0 7 (dk_at dksX3_clause_10 1 rfl rfl)
theorem dX3_clause_263 : decode cX3_clause 263 = .ok (.iconst 1, 1) := dk_4 (dk_at dksX3_clause_10 4 rfl rfl)
theorem dX3_clause_264 : decode cX3_clause 264 = .ok (.goto 4, 3) := dk_167 0 4 (dk_at dksX3_clause_10 5 rfl rfl)
theorem dX3_clause_267 : decode cX3_clause 267 = .ok (.iconst 0, 1) := dk_3 (dk_at dksX3_clause_10 8 rfl rfl)
theorem dX3_clause_268 : decode cX3_clause 268 = .ok (.invokevirtual 102, 3) := dk_182 0 102 (dk_at dksX3_clause_10 9 rfl rfl)
theorem dX3_clause_271 : decode cX3_clause 271 = .ok (.iconst 3, 1) := dk_6 (dk_at dksX3_clause_10 12 rfl rfl)
theorem dX3_clause_272 : decode cX3_clause 272 = .ok (.newarray .int, 2) := dk_188_10 (dk_at dksX3_clause_10 13 rfl rfl)
theorem dX3_clause_274 : decode cX3_clause 274 = .ok (.dup, 1) := dk_89 (dk_at dksX3_clause_10 15 rfl rfl)
theorem dX3_clause_275 : decode cX3_clause 275 = .ok (.iconst 0, 1) := dk_3 (dk_at dksX3_clause_10 16 rfl rfl)
theorem dX3_clause_276 : decode cX3_clause 276 = .ok (.iload_n 1, 1) := dk_27 (dk_at dksX3_clause_10 17 rfl rfl)
theorem dX3_clause_277 : decode cX3_clause 277 = .ok (.iastore, 1) := dk_79 (dk_at dksX3_clause_10 18 rfl rfl)
theorem dX3_clause_278 : decode cX3_clause 278 = .ok (.dup, 1) := dk_89 (dk_at dksX3_clause_10 19 rfl rfl)
theorem dX3_clause_279 : decode cX3_clause 279 = .ok (.iconst 1, 1) := dk_4 (dk_at dksX3_clause_10 20 rfl rfl)
theorem dX3_clause_280 : decode cX3_clause 280 = .ok (.iload_n 2, 1) := dk_28 (dk_at dksX3_clause_10 21 rfl rfl)
theorem dX3_clause_281 : decode cX3_clause 281 = .ok (.iastore, 1) := dk_79 (dk_at dksX3_clause_10 22 rfl rfl)
theorem dX3_clause_282 : decode cX3_clause 282 = .ok (.dup, 1) := dk_89 (dk_at dksX3_clause_10 23 rfl rfl)
theorem dX3_clause_283 : decode cX3_clause 283 = .ok (.iconst 2, 1) := dk_5 (dk_at dksX3_clause_11 0 rfl rfl)
theorem dX3_clause_284 : decode cX3_clause 284 = .ok (.iload_n 3, 1) := dk_29 (dk_at dksX3_clause_11 1 rfl rfl)
theorem dX3_clause_285 : decode cX3_clause 285 = .ok (.iastore, 1) := dk_79 (dk_at dksX3_clause_11 2 rfl rfl)
theorem dX3_clause_286 : decode cX3_clause 286 = .ok (.areturn, 1) := dk_176 (dk_at dksX3_clause_11 3 rfl rfl)
theorem dX3_clause_287 : decode cX3_clause 287 = .ok (.iconst 3, 1) := dk_6 (dk_at dksX3_clause_11 4 rfl rfl)
theorem dX3_clause_288 : decode cX3_clause 288 = .ok (.newarray .int, 2) := dk_188_10 (dk_at dksX3_clause_11 5 rfl rfl)
theorem dX3_clause_290 : decode cX3_clause 290 = .ok (.dup, 1) := dk_89 (dk_at dksX3_clause_11 7 rfl rfl)
theorem dX3_clause_291 : decode cX3_clause 291 = .ok (.iconst 0, 1) := dk_3 (dk_at dksX3_clause_11 8 rfl rfl)
theorem dX3_clause_292 : decode cX3_clause 292 = .ok (.iload_n 1, 1) := dk_27 (dk_at dksX3_clause_11 9 rfl rfl)
theorem dX3_clause_293 : decode cX3_clause 293 = .ok (.iastore, 1) := dk_79 (dk_at dksX3_clause_11 10 rfl rfl)
theorem dX3_clause_294 : decode cX3_clause 294 = .ok (.dup, 1) := dk_89 (dk_at dksX3_clause_11 11 rfl rfl)
theorem dX3_clause_295 : decode cX3_clause 295 = .ok (.iconst 1, 1) := dk_4 (dk_at dksX3_clause_11 12 rfl rfl)
theorem dX3_clause_296 : decode cX3_clause 296 = .ok (.aload_n 0, 1) := dk_42 (dk_at dksX3_clause_11 13 rfl rfl)
theorem dX3_clause_297 : decode cX3_clause 297 = .ok (.invokevirtual 124, 3) := dk_182 0 124 (dk_at dksX3_clause_11 14 rfl rfl)
theorem dX3_clause_300 : decode cX3_clause 300 = .ok (.iastore, 1) := dk_79 (dk_at dksX3_clause_11 17 rfl rfl)
theorem dX3_clause_301 : decode cX3_clause 301 = .ok (.dup, 1) := dk_89 (dk_at dksX3_clause_11 18 rfl rfl)
theorem dX3_clause_302 : decode cX3_clause 302 = .ok (.iconst 2, 1) := dk_5 (dk_at dksX3_clause_11 19 rfl rfl)
theorem dX3_clause_303 : decode cX3_clause 303 = .ok (.aload_n 0, 1) := dk_42 (dk_at dksX3_clause_11 20 rfl rfl)
theorem dX3_clause_304 : decode cX3_clause 304 = .ok (.iconst 0, 1) := dk_3 (dk_at dksX3_clause_11 21 rfl rfl)
theorem dX3_clause_305 : decode cX3_clause 305 = .ok (.bipush 7, 2) := dk_16 7 (dk_at dksX3_clause_11 22 rfl rfl)
theorem dX3_clause_307 : decode cX3_clause 307 = .ok (.invokevirtual 112, 3) := dk_182 0 112 (dk_at dksX3_clause_12 0 rfl rfl)
theorem dX3_clause_310 : decode cX3_clause 310 = .ok (.iastore, 1) := dk_79 (dk_at dksX3_clause_12 3 rfl rfl)
theorem dX3_clause_311 : decode cX3_clause 311 = .ok (.areturn, 1) := dk_176 (dk_at dksX3_clause_12 4 rfl rfl)
theorem dX3_clause_312 : decode cX3_clause 312 = .ok (.iconst 2, 1) := dk_5 (dk_at dksX3_clause_12 5 rfl rfl)
theorem dX3_clause_313 : decode cX3_clause 313 = .ok (.newarray .int, 2) := dk_188_10 (dk_at dksX3_clause_12 6 rfl rfl)
theorem dX3_clause_315 : decode cX3_clause 315 = .ok (.dup, 1) := dk_89 (dk_at dksX3_clause_12 8 rfl rfl)
theorem dX3_clause_316 : decode cX3_clause 316 = .ok (.iconst 0, 1) := dk_3 (dk_at dksX3_clause_12 9 rfl rfl)
theorem dX3_clause_317 : decode cX3_clause 317 = .ok (.iload_n 1, 1) := dk_27 (dk_at dksX3_clause_12 10 rfl rfl)
theorem dX3_clause_318 : decode cX3_clause 318 = .ok (.iastore, 1) := dk_79 (dk_at dksX3_clause_12 11 rfl rfl)
theorem dX3_clause_319 : decode cX3_clause 319 = .ok (.dup, 1) := dk_89 (dk_at dksX3_clause_12 12 rfl rfl)
theorem dX3_clause_320 : decode cX3_clause 320 = .ok (.iconst 1, 1) := dk_4 (dk_at dksX3_clause_12 13 rfl rfl)
theorem dX3_clause_321 : decode cX3_clause 321 = .ok (.aload_n 0, 1) := dk_42 (dk_at dksX3_clause_12 14 rfl rfl)
theorem dX3_clause_322 : decode cX3_clause 322 = .ok (.invokevirtual 127, 3) := dk_182 0 127 (dk_at dksX3_clause_12 15 rfl rfl)
theorem dX3_clause_325 : decode cX3_clause 325 = .ok (.iastore, 1) := dk_79 (dk_at dksX3_clause_12 18 rfl rfl)
theorem dX3_clause_326 : decode cX3_clause 326 = .ok (.areturn, 1) := dk_176 (dk_at dksX3_clause_12 19 rfl rfl)
theorem dX3_clause_327 : decode cX3_clause 327 = .ok (.iconst 1, 1) := dk_4 (dk_at dksX3_clause_12 20 rfl rfl)
theorem dX3_clause_328 : decode cX3_clause 328 = .ok (.newarray .int, 2) := dk_188_10 (dk_at dksX3_clause_12 21 rfl rfl)
theorem dX3_clause_330 : decode cX3_clause 330 = .ok (.dup, 1) := dk_89 (dk_at dksX3_clause_12 23 rfl rfl)
theorem dX3_clause_331 : decode cX3_clause 331 = .ok (.iconst 0, 1) := dk_3 (dk_at dksX3_clause_13 0 rfl rfl)
theorem dX3_clause_332 : decode cX3_clause 332 = .ok (.iload_n 1, 1) := dk_27 (dk_at dksX3_clause_13 1 rfl rfl)
theorem dX3_clause_333 : decode cX3_clause 333 = .ok (.iastore, 1) := dk_79 (dk_at dksX3_clause_13 2 rfl rfl)
theorem dX3_clause_334 : decode cX3_clause 334 = .ok (.areturn, 1) := dk_176 (dk_at dksX3_clause_13 3 rfl rfl)
abbrev cX3_take : ByteArray := prog_13_method_3_code
def yX3_take : MethodName := ⟨RX3, "take", "()V"⟩
def dkwX3_take_8 : List UInt8 := [177]
abbrev dktX3_take_8 : List UInt8 := dkwX3_take_8 ++ []
def dkwX3_take_7 : List UInt8 := [181, 0, 52, 51, 17, 0, 255, 126, 146, 182, 0, 72, 87, 167, 255, 178, 42, 44, 182, 0, 76, 181, 0, 17]
abbrev dktX3_take_7 : List UInt8 := dkwX3_take_7 ++ dktX3_take_8
def dkwX3_take_6 : List UInt8 := [182, 0, 65, 27, 160, 0, 35, 44, 42, 180, 0, 3, 180, 0, 58, 42, 89, 180, 0, 52, 90, 4, 96]
abbrev dktX3_take_6 : List UInt8 := dkwX3_take_6 ++ dktX3_take_7
def dkwX3_take_5 : List UInt8 := [180, 0, 52, 159, 0, 27, 27, 158, 0, 55, 42, 42, 180, 0, 3, 180, 0, 58, 42, 180, 0, 52, 51]
abbrev dktX3_take_5 : List UInt8 := dkwX3_take_5 ++ dktX3_take_6
def dkwX3_take_4 : List UInt8 := [183, 0, 71, 77, 42, 180, 0, 52, 42, 180, 0, 3, 180, 0, 55, 162, 0, 70, 42, 180, 0, 62, 42]
abbrev dktX3_take_4 : List UInt8 := dkwX3_take_4 ++ dktX3_take_5
def dkwX3_take_3 : List UInt8 := [180, 0, 3, 180, 0, 58, 42, 180, 0, 52, 51, 182, 0, 65, 167, 0, 4, 3, 60, 187, 0, 69, 89]
abbrev dktX3_take_3 : List UInt8 := dkwX3_take_3 ++ dktX3_take_4
def dkwX3_take_2 : List UInt8 := [180, 0, 52, 181, 0, 62, 42, 180, 0, 52, 42, 180, 0, 3, 180, 0, 55, 162, 0, 22, 42, 42]
abbrev dktX3_take_2 : List UInt8 := dkwX3_take_2 ++ dktX3_take_3
def dkwX3_take_1 : List UInt8 := [180, 0, 52, 51, 16, 32, 160, 0, 16, 42, 89, 180, 0, 52, 4, 96, 181, 0, 52, 167, 255, 215, 42, 42]
abbrev dktX3_take_1 : List UInt8 := dkwX3_take_1 ++ dktX3_take_2
def dkwX3_take_0 : List UInt8 := [42, 180, 0, 52, 42, 180, 0, 3, 180, 0, 55, 162, 0, 33, 42, 180, 0, 3, 180, 0, 58, 42]
abbrev dktX3_take_0 : List UInt8 := dkwX3_take_0 ++ dktX3_take_1
theorem dksX3_take_0 : cX3_take.data.toList.drop 0 = dktX3_take_0 := by decide +kernel
theorem dksX3_take_1 : cX3_take.data.toList.drop 22 = dktX3_take_1 := dk_seg dksX3_take_0 22 rfl rfl
theorem dksX3_take_2 : cX3_take.data.toList.drop 46 = dktX3_take_2 := dk_seg dksX3_take_1 24 rfl rfl
theorem dksX3_take_3 : cX3_take.data.toList.drop 68 = dktX3_take_3 := dk_seg dksX3_take_2 22 rfl rfl
theorem dksX3_take_4 : cX3_take.data.toList.drop 91 = dktX3_take_4 := dk_seg dksX3_take_3 23 rfl rfl
theorem dksX3_take_5 : cX3_take.data.toList.drop 114 = dktX3_take_5 := dk_seg dksX3_take_4 23 rfl rfl
theorem dksX3_take_6 : cX3_take.data.toList.drop 137 = dktX3_take_6 := dk_seg dksX3_take_5 23 rfl rfl
theorem dksX3_take_7 : cX3_take.data.toList.drop 160 = dktX3_take_7 := dk_seg dksX3_take_6 23 rfl rfl
theorem dksX3_take_8 : cX3_take.data.toList.drop 184 = dktX3_take_8 := dk_seg dksX3_take_7 24 rfl rfl
theorem dX3_take_0 : decode cX3_take 0 = .ok (.aload_n 0, 1) := dk_42 (dk_at dksX3_take_0 0 rfl rfl)
theorem dX3_take_1 : decode cX3_take 1 = .ok (.getfield 52, 3) := dk_180 0 52 (dk_at dksX3_take_0 1 rfl rfl)
theorem dX3_take_4 : decode cX3_take 4 = .ok (.aload_n 0, 1) := dk_42 (dk_at dksX3_take_0 4 rfl rfl)
theorem dX3_take_5 : decode cX3_take 5 = .ok (.getfield 3, 3) := dk_180 0 3 (dk_at dksX3_take_0 5 rfl rfl)
theorem dX3_take_8 : decode cX3_take 8 = .ok (.getfield 55, 3) := dk_180 0 55 (dk_at dksX3_take_0 8 rfl rfl)
theorem dX3_take_11 : decode cX3_take 11 = .ok (.if_icmp .ge 33, 3) := dk_162 0 33 (dk_at dksX3_take_0 11 rfl rfl)
theorem dX3_take_14 : decode cX3_take 14 = .ok (.aload_n 0, 1) := dk_42 (dk_at dksX3_take_0 14 rfl rfl)
theorem dX3_take_15 : decode cX3_take 15 = .ok (.getfield 3, 3) := dk_180 0 3 (dk_at dksX3_take_0 15 rfl rfl)
theorem dX3_take_18 : decode cX3_take 18 = .ok (.getfield 58, 3) := dk_180 0 58 (dk_at dksX3_take_0 18 rfl rfl)
theorem dX3_take_21 : decode cX3_take 21 = .ok (.aload_n 0, 1) := dk_42 (dk_at dksX3_take_0 21 rfl rfl)
theorem dX3_take_22 : decode cX3_take 22 = .ok (.getfield 52, 3) := dk_180 0 52 (dk_at dksX3_take_1 0 rfl rfl)
theorem dX3_take_25 : decode cX3_take 25 = .ok (.baload, 1) := dk_51 (dk_at dksX3_take_1 3 rfl rfl)
theorem dX3_take_26 : decode cX3_take 26 = .ok (.bipush 32, 2) := dk_16 32 (dk_at dksX3_take_1 4 rfl rfl)
theorem dX3_take_28 : decode cX3_take 28 = .ok (.if_icmp .ne 16, 3) := dk_160 0 16 (dk_at dksX3_take_1 6 rfl rfl)
theorem dX3_take_31 : decode cX3_take 31 = .ok (.aload_n 0, 1) := dk_42 (dk_at dksX3_take_1 9 rfl rfl)
theorem dX3_take_32 : decode cX3_take 32 = .ok (.dup, 1) := dk_89 (dk_at dksX3_take_1 10 rfl rfl)
theorem dX3_take_33 : decode cX3_take 33 = .ok (.getfield 52, 3) := dk_180 0 52 (dk_at dksX3_take_1 11 rfl rfl)
theorem dX3_take_36 : decode cX3_take 36 = .ok (.iconst 1, 1) := dk_4 (dk_at dksX3_take_1 14 rfl rfl)
theorem dX3_take_37 : decode cX3_take 37 = .ok (.iadd, 1) := dk_96 (dk_at dksX3_take_1 15 rfl rfl)
theorem dX3_take_38 : decode cX3_take 38 = .ok (.putfield 52, 3) := dk_181 0 52 (dk_at dksX3_take_1 16 rfl rfl)
theorem dX3_take_41 : decode cX3_take 41 = .ok (.goto (-41), 3) := dk_167 255 215 (dk_at dksX3_take_1 19 rfl rfl)
theorem dX3_take_44 : decode cX3_take 44 = .ok (.aload_n 0, 1) := dk_42 (dk_at dksX3_take_1 22 rfl rfl)
theorem dX3_take_45 : decode cX3_take 45 = .ok (.aload_n 0, 1) := dk_42 (dk_at dksX3_take_1 23 rfl rfl)
theorem dX3_take_46 : decode cX3_take 46 = .ok (.getfield 52, 3) := dk_180 0 52 (dk_at dksX3_take_2 0 rfl rfl)
theorem dX3_take_49 : decode cX3_take 49 = .ok (.putfield 62, 3) := dk_181 0 62 (dk_at dksX3_take_2 3 rfl rfl)
theorem dX3_take_52 : decode cX3_take 52 = .ok (.aload_n 0, 1) := dk_42 (dk_at dksX3_take_2 6 rfl rfl)
theorem dX3_take_53 : decode cX3_take 53 = .ok (.getfield 52, 3) := dk_180 0 52 (dk_at dksX3_take_2 7 rfl rfl)
theorem dX3_take_56 : decode cX3_take 56 = .ok (.aload_n 0, 1) := dk_42 (dk_at dksX3_take_2 10 rfl rfl)
theorem dX3_take_57 : decode cX3_take 57 = .ok (.getfield 3, 3) := dk_180 0 3 (dk_at dksX3_take_2 11 rfl rfl)
theorem dX3_take_60 : decode cX3_take 60 = .ok (.getfield 55, 3) := dk_180 0 55 (dk_at dksX3_take_2 14 rfl rfl)
theorem dX3_take_63 : decode cX3_take 63 = .ok (.if_icmp .ge 22, 3) := dk_162 0 22 (dk_at dksX3_take_2 17 rfl rfl)
theorem dX3_take_66 : decode cX3_take 66 = .ok (.aload_n 0, 1) := dk_42 (dk_at dksX3_take_2 20 rfl rfl)
theorem dX3_take_67 : decode cX3_take 67 = .ok (.aload_n 0, 1) := dk_42 (dk_at dksX3_take_2 21 rfl rfl)
theorem dX3_take_68 : decode cX3_take 68 = .ok (.getfield 3, 3) := dk_180 0 3 (dk_at dksX3_take_3 0 rfl rfl)
theorem dX3_take_71 : decode cX3_take 71 = .ok (.getfield 58, 3) := dk_180 0 58 (dk_at dksX3_take_3 3 rfl rfl)
theorem dX3_take_74 : decode cX3_take 74 = .ok (.aload_n 0, 1) := dk_42 (dk_at dksX3_take_3 6 rfl rfl)
theorem dX3_take_75 : decode cX3_take 75 = .ok (.getfield 52, 3) := dk_180 0 52 (dk_at dksX3_take_3 7 rfl rfl)
theorem dX3_take_78 : decode cX3_take 78 = .ok (.baload, 1) := dk_51 (dk_at dksX3_take_3 10 rfl rfl)
theorem dX3_take_79 : decode cX3_take 79 = .ok (.invokevirtual 65, 3) := dk_182 0 65 (dk_at dksX3_take_3 11 rfl rfl)
theorem dX3_take_82 : decode cX3_take 82 = .ok (.goto 4, 3) := dk_167 0 4 (dk_at dksX3_take_3 14 rfl rfl)
theorem dX3_take_85 : decode cX3_take 85 = .ok (.iconst 0, 1) := dk_3 (dk_at dksX3_take_3 17 rfl rfl)
theorem dX3_take_86 : decode cX3_take 86 = .ok (.istore_n 1, 1) := dk_60 (dk_at dksX3_take_3 18 rfl rfl)
theorem dX3_take_87 : decode cX3_take 87 = .ok (.new 69, 3) := dk_187 0 69 (dk_at dksX3_take_3 19 rfl rfl)
theorem dX3_take_90 : decode cX3_take 90 = .ok (.dup, 1) := dk_89 (dk_at dksX3_take_3 22 rfl rfl)
theorem dX3_take_91 : decode cX3_take 91 = .ok (.invokespecial 71, 3) := dk_183 0 71 (dk_at dksX3_take_4 0 rfl rfl)
theorem dX3_take_94 : decode cX3_take 94 = .ok (.astore_n 2, 1) := dk_77 (dk_at dksX3_take_4 3 rfl rfl)
theorem dX3_take_95 : decode cX3_take 95 = .ok (.aload_n 0, 1) := dk_42 (dk_at dksX3_take_4 4 rfl rfl)
theorem dX3_take_96 : decode cX3_take 96 = .ok (.getfield 52, 3) := dk_180 0 52 (dk_at dksX3_take_4 5 rfl rfl)
theorem dX3_take_99 : decode cX3_take 99 = .ok (.aload_n 0, 1) := dk_42 (dk_at dksX3_take_4 8 rfl rfl)
theorem dX3_take_100 : decode cX3_take 100 = .ok (.getfield 3, 3) := dk_180 0 3 (dk_at dksX3_take_4 9 rfl rfl)
theorem dX3_take_103 : decode cX3_take 103 = .ok (.getfield 55, 3) := dk_180 0 55 (dk_at dksX3_take_4 12 rfl rfl)
theorem dX3_take_106 : decode cX3_take 106 = .ok (.if_icmp .ge 70, 3) := dk_162 0 70 (dk_at dksX3_take_4 15 rfl rfl)
theorem dX3_take_109 : decode cX3_take 109 = .ok (.aload_n 0, 1) := dk_42 (dk_at dksX3_take_4 18 rfl rfl)
theorem dX3_take_110 : decode cX3_take 110 = .ok (.getfield 62, 3) := dk_180 0 62 (dk_at dksX3_take_4 19 rfl rfl)
theorem dX3_take_113 : decode cX3_take 113 = .ok (.aload_n 0, 1) := dk_42 (dk_at dksX3_take_4 22 rfl rfl)
theorem dX3_take_114 : decode cX3_take 114 = .ok (.getfield 52, 3) := dk_180 0 52 (dk_at dksX3_take_5 0 rfl rfl)
theorem dX3_take_117 : decode cX3_take 117 = .ok (.if_icmp .eq 27, 3) := dk_159 0 27 (dk_at dksX3_take_5 3 rfl rfl)
theorem dX3_take_120 : decode cX3_take 120 = .ok (.iload_n 1, 1) := dk_27 (dk_at dksX3_take_5 6 rfl rfl)
theorem dX3_take_121 : decode cX3_take 121 = .ok (.ifCond .le 55, 3) := dk_158 0 55 (dk_at dksX3_take_5 7 rfl rfl)
theorem dX3_take_124 : decode cX3_take 124 = .ok (.aload_n 0, 1) := dk_42 (dk_at dksX3_take_5 10 rfl rfl)
theorem dX3_take_125 : decode cX3_take 125 = .ok (.aload_n 0, 1) := dk_42 (dk_at dksX3_take_5 11 rfl rfl)
theorem dX3_take_126 : decode cX3_take 126 = .ok (.getfield 3, 3) := dk_180 0 3 (dk_at dksX3_take_5 12 rfl rfl)
theorem dX3_take_129 : decode cX3_take 129 = .ok (.getfield 58, 3) := dk_180 0 58 (dk_at dksX3_take_5 15 rfl rfl)
theorem dX3_take_132 : decode cX3_take 132 = .ok (.aload_n 0, 1) := dk_42 (dk_at dksX3_take_5 18 rfl rfl)
theorem dX3_take_133 : decode cX3_take 133 = .ok (.getfield 52, 3) := dk_180 0 52 (dk_at dksX3_take_5 19 rfl rfl)
theorem dX3_take_136 : decode cX3_take 136 = .ok (.baload, 1) := dk_51 (dk_at dksX3_take_5 22 rfl rfl)
theorem dX3_take_137 : decode cX3_take 137 = .ok (.invokevirtual 65, 3) := dk_182 0 65 (dk_at dksX3_take_6 0 rfl rfl)
theorem dX3_take_140 : decode cX3_take 140 = .ok (.iload_n 1, 1) := dk_27 (dk_at dksX3_take_6 3 rfl rfl)
theorem dX3_take_141 : decode cX3_take 141 = .ok (.if_icmp .ne 35, 3) := dk_160 0 35 (dk_at dksX3_take_6 4 rfl rfl)
theorem dX3_take_144 : decode cX3_take 144 = .ok (.aload_n 2, 1) := dk_44 (dk_at dksX3_take_6 7 rfl rfl)
theorem dX3_take_145 : decode cX3_take 145 = .ok (.aload_n 0, 1) := dk_42 (dk_at dksX3_take_6 8 rfl rfl)
theorem dX3_take_146 : decode cX3_take 146 = .ok (.getfield 3, 3) := dk_180 0 3 (dk_at dksX3_take_6 9 rfl rfl)
theorem dX3_take_149 : decode cX3_take 149 = .ok (.getfield 58, 3) := dk_180 0 58 (dk_at dksX3_take_6 12 rfl rfl)
theorem dX3_take_152 : decode cX3_take 152 = .ok (.aload_n 0, 1) := dk_42 (dk_at dksX3_take_6 15 rfl rfl)
theorem dX3_take_153 : decode cX3_take 153 = .ok (.dup, 1) := dk_89 (dk_at dksX3_take_6 16 rfl rfl)
theorem dX3_take_154 : decode cX3_take 154 = .ok (.getfield 52, 3) := dk_180 0 52 (dk_at dksX3_take_6 17 rfl rfl)
theorem dX3_take_157 : decode cX3_take 157 = .ok (.dup_x1, 1) := dk_90 (dk_at dksX3_take_6 20 rfl rfl)
theorem dX3_take_158 : decode cX3_take 158 = .ok (.iconst 1, 1) := dk_4 (dk_at dksX3_take_6 21 rfl rfl)
theorem dX3_take_159 : decode cX3_take 159 = .ok (.iadd, 1) := dk_96 (dk_at dksX3_take_6 22 rfl rfl)
theorem dX3_take_160 : decode cX3_take 160 = .ok (.putfield 52, 3) := dk_181 0 52 (dk_at dksX3_take_7 0 rfl rfl)
theorem dX3_take_163 : decode cX3_take 163 = .ok (.baload, 1) := dk_51 (dk_at dksX3_take_7 3 rfl rfl)
theorem dX3_take_164 : decode cX3_take 164 = .ok (.sipush 255, 3) := dk_17 0 255 (dk_at dksX3_take_7 4 rfl rfl)
theorem dX3_take_167 : decode cX3_take 167 = .ok (.iand, 1) := dk_126 (dk_at dksX3_take_7 7 rfl rfl)
theorem dX3_take_168 : decode cX3_take 168 = .ok (.i2c, 1) := dk_146 (dk_at dksX3_take_7 8 rfl rfl)
theorem dX3_take_169 : decode cX3_take 169 = .ok (.invokevirtual 72, 3) := dk_182 0 72 (dk_at dksX3_take_7 9 rfl rfl)
theorem dX3_take_172 : decode cX3_take 172 = .ok (.pop, 1) := dk_87 (dk_at dksX3_take_7 12 rfl rfl)
theorem dX3_take_173 : decode cX3_take 173 = .ok (.goto (-78), 3) := dk_167 255 178 (dk_at dksX3_take_7 13 rfl rfl)
theorem dX3_take_176 : decode cX3_take 176 = .ok (.aload_n 0, 1) := dk_42 (dk_at dksX3_take_7 16 rfl rfl)
theorem dX3_take_177 : decode cX3_take 177 = .ok (.aload_n 2, 1) := dk_44 (dk_at dksX3_take_7 17 rfl rfl)
theorem dX3_take_178 : decode cX3_take 178 = .ok (.invokevirtual 76, 3) := dk_182 0 76 (dk_at dksX3_take_7 18 rfl rfl)
theorem dX3_take_181 : decode cX3_take 181 = .ok (.putfield 17, 3) := dk_181 0 17 (dk_at dksX3_take_7 21 rfl rfl)
theorem dX3_take_184 : decode cX3_take 184 = .ok (.return_, 1) := dk_177 (dk_at dksX3_take_8 0 rfl rfl)
abbrev cX3_kindOf : ByteArray := prog_13_method_2_code
def yX3_kindOf : MethodName := ⟨RX3, "kindOf", "(I)I"⟩
def dkwX3_kindOf_1 : List UInt8 := [20, 0, 50, 184, 0, 44, 153, 0, 7, 5, 167, 0, 4, 3, 172]
abbrev dktX3_kindOf_1 : List UInt8 := dkwX3_kindOf_1 ++ []
def dkwX3_kindOf_0 : List UInt8 := [27, 133, 20, 0, 40, 20, 0, 42, 184, 0, 44, 153, 0, 7, 4, 167, 0, 22, 27, 133, 20, 0, 48]
abbrev dktX3_kindOf_0 : List UInt8 := dkwX3_kindOf_0 ++ dktX3_kindOf_1
theorem dksX3_kindOf_0 : cX3_kindOf.data.toList.drop 0 = dktX3_kindOf_0 := by decide +kernel
theorem dksX3_kindOf_1 : cX3_kindOf.data.toList.drop 23 = dktX3_kindOf_1 := dk_seg dksX3_kindOf_0 23 rfl rfl
theorem dX3_kindOf_0 : decode cX3_kindOf 0 = .ok (.iload_n 1, 1) := dk_27 (dk_at dksX3_kindOf_0 0 rfl rfl)
theorem dX3_kindOf_1 : decode cX3_kindOf 1 = .ok (.i2l, 1) := dk_133 (dk_at dksX3_kindOf_0 1 rfl rfl)
theorem dX3_kindOf_2 : decode cX3_kindOf 2 = .ok (.ldc2_w 40, 3) := dk_20 0 40 (dk_at dksX3_kindOf_0 2 rfl rfl)
theorem dX3_kindOf_5 : decode cX3_kindOf 5 = .ok (.ldc2_w 42, 3) := dk_20 0 42 (dk_at dksX3_kindOf_0 5 rfl rfl)
theorem dX3_kindOf_8 : decode cX3_kindOf 8 = .ok (.invokestatic 44, 3) := dk_184 0 44 (dk_at dksX3_kindOf_0 8 rfl rfl)
theorem dX3_kindOf_11 : decode cX3_kindOf 11 = .ok (.ifCond .eq 7, 3) := dk_153 0 7 (dk_at dksX3_kindOf_0 11 rfl rfl)
theorem dX3_kindOf_14 : decode cX3_kindOf 14 = .ok (.iconst 1, 1) := dk_4 (dk_at dksX3_kindOf_0 14 rfl rfl)
theorem dX3_kindOf_15 : decode cX3_kindOf 15 = .ok (.goto 22, 3) := dk_167 0 22 (dk_at dksX3_kindOf_0 15 rfl rfl)
theorem dX3_kindOf_18 : decode cX3_kindOf 18 = .ok (.iload_n 1, 1) := dk_27 (dk_at dksX3_kindOf_0 18 rfl rfl)
theorem dX3_kindOf_19 : decode cX3_kindOf 19 = .ok (.i2l, 1) := dk_133 (dk_at dksX3_kindOf_0 19 rfl rfl)
theorem dX3_kindOf_20 : decode cX3_kindOf 20 = .ok (.ldc2_w 48, 3) := dk_20 0 48 (dk_at dksX3_kindOf_0 20 rfl rfl)
theorem dX3_kindOf_23 : decode cX3_kindOf 23 = .ok (.ldc2_w 50, 3) := dk_20 0 50 (dk_at dksX3_kindOf_1 0 rfl rfl)
theorem dX3_kindOf_26 : decode cX3_kindOf 26 = .ok (.invokestatic 44, 3) := dk_184 0 44 (dk_at dksX3_kindOf_1 3 rfl rfl)
theorem dX3_kindOf_29 : decode cX3_kindOf 29 = .ok (.ifCond .eq 7, 3) := dk_153 0 7 (dk_at dksX3_kindOf_1 6 rfl rfl)
theorem dX3_kindOf_32 : decode cX3_kindOf 32 = .ok (.iconst 2, 1) := dk_5 (dk_at dksX3_kindOf_1 9 rfl rfl)
theorem dX3_kindOf_33 : decode cX3_kindOf 33 = .ok (.goto 4, 3) := dk_167 0 4 (dk_at dksX3_kindOf_1 10 rfl rfl)
theorem dX3_kindOf_36 : decode cX3_kindOf 36 = .ok (.iconst 0, 1) := dk_3 (dk_at dksX3_kindOf_1 13 rfl rfl)
theorem dX3_kindOf_37 : decode cX3_kindOf 37 = .ok (.ireturn, 1) := dk_172 (dk_at dksX3_kindOf_1 14 rfl rfl)
abbrev cX3_want : ByteArray := prog_13_method_4_code
def yX3_want : MethodName := ⟨RX3, "want", "(Z)V"⟩
def dkwX3_want_0 : List UInt8 := [27, 154, 0, 15, 187, 0, 80, 89, 42, 180, 0, 62, 183, 0, 82, 191, 177]
abbrev dktX3_want_0 : List UInt8 := dkwX3_want_0 ++ []
theorem dksX3_want_0 : cX3_want.data.toList.drop 0 = dktX3_want_0 := by decide +kernel
theorem dX3_want_0 : decode cX3_want 0 = .ok (.iload_n 1, 1) := dk_27 (dk_at dksX3_want_0 0 rfl rfl)
theorem dX3_want_1 : decode cX3_want 1 = .ok (.ifCond .ne 15, 3) := dk_154 0 15 (dk_at dksX3_want_0 1 rfl rfl)
theorem dX3_want_4 : decode cX3_want 4 = .ok (.new 80, 3) := dk_187 0 80 (dk_at dksX3_want_0 4 rfl rfl)
theorem dX3_want_7 : decode cX3_want 7 = .ok (.dup, 1) := dk_89 (dk_at dksX3_want_0 7 rfl rfl)
theorem dX3_want_8 : decode cX3_want 8 = .ok (.aload_n 0, 1) := dk_42 (dk_at dksX3_want_0 8 rfl rfl)
theorem dX3_want_9 : decode cX3_want 9 = .ok (.getfield 62, 3) := dk_180 0 62 (dk_at dksX3_want_0 9 rfl rfl)
theorem dX3_want_12 : decode cX3_want 12 = .ok (.invokespecial 82, 3) := dk_183 0 82 (dk_at dksX3_want_0 12 rfl rfl)
theorem dX3_want_15 : decode cX3_want 15 = .ok (.athrow, 1) := dk_191 (dk_at dksX3_want_0 15 rfl rfl)
theorem dX3_want_16 : decode cX3_want 16 = .ok (.return_, 1) := dk_177 (dk_at dksX3_want_0 16 rfl rfl)
abbrev cX3_number : ByteArray := prog_13_method_5_code
def yX3_number : MethodName := ⟨RX3, "number", "(II)I"⟩
def dkwX3_number_3 : List UInt8 := [29, 172]
abbrev dktX3_number_3 : List UInt8 := dkwX3_number_3 ++ []
def dkwX3_number_2 : List UInt8 := [182, 0, 102, 42, 180, 0, 17, 184, 0, 106, 62, 42, 29, 133, 27, 133, 28, 133, 184, 0, 44, 182, 0, 102]
abbrev dktX3_number_2 : List UInt8 := dkwX3_number_2 ++ dktX3_number_3
def dkwX3_number_1 : List UInt8 := [182, 0, 65, 5, 160, 0, 18, 42, 180, 0, 17, 182, 0, 98, 6, 162, 0, 7, 4, 167, 0, 4, 3]
abbrev dktX3_number_1 : List UInt8 := dkwX3_number_1 ++ dktX3_number_2
def dkwX3_number_0 : List UInt8 := [42, 182, 0, 85, 42, 42, 180, 0, 17, 182, 0, 88, 154, 0, 34, 42, 42, 180, 0, 17, 3, 182, 0, 94]
abbrev dktX3_number_0 : List UInt8 := dkwX3_number_0 ++ dktX3_number_1
theorem dksX3_number_0 : cX3_number.data.toList.drop 0 = dktX3_number_0 := by decide +kernel
theorem dksX3_number_1 : cX3_number.data.toList.drop 24 = dktX3_number_1 := dk_seg dksX3_number_0 24 rfl rfl
theorem dksX3_number_2 : cX3_number.data.toList.drop 47 = dktX3_number_2 := dk_seg dksX3_number_1 23 rfl rfl
theorem dksX3_number_3 : cX3_number.data.toList.drop 71 = dktX3_number_3 := dk_seg dksX3_number_2 24 rfl rfl
theorem dX3_number_0 : decode cX3_number 0 = .ok (.aload_n 0, 1) := dk_42 (dk_at dksX3_number_0 0 rfl rfl)
theorem dX3_number_1 : decode cX3_number 1 = .ok (.invokevirtual 85, 3) := dk_182 0 85 (dk_at dksX3_number_0 1 rfl rfl)
theorem dX3_number_4 : decode cX3_number 4 = .ok (.aload_n 0, 1) := dk_42 (dk_at dksX3_number_0 4 rfl rfl)
theorem dX3_number_5 : decode cX3_number 5 = .ok (.aload_n 0, 1) := dk_42 (dk_at dksX3_number_0 5 rfl rfl)
theorem dX3_number_6 : decode cX3_number 6 = .ok (.getfield 17, 3) := dk_180 0 17 (dk_at dksX3_number_0 6 rfl rfl)
theorem dX3_number_9 : decode cX3_number 9 = .ok (.invokevirtual 88, 3) := dk_182 0 88 (dk_at dksX3_number_0 9 rfl rfl)
theorem dX3_number_12 : decode cX3_number 12 = .ok (.ifCond .ne 34, 3) := dk_154 0 34 (dk_at dksX3_number_0 12 rfl rfl)
theorem dX3_number_15 : decode cX3_number 15 = .ok (.aload_n 0, 1) := dk_42 (dk_at dksX3_number_0 15 rfl rfl)
theorem dX3_number_16 : decode cX3_number 16 = .ok (.aload_n 0, 1) := dk_42 (dk_at dksX3_number_0 16 rfl rfl)
theorem dX3_number_17 : decode cX3_number 17 = .ok (.getfield 17, 3) := dk_180 0 17 (dk_at dksX3_number_0 17 rfl rfl)
theorem dX3_number_20 : decode cX3_number 20 = .ok (.iconst 0, 1) := dk_3 (dk_at dksX3_number_0 20 rfl rfl)
theorem dX3_number_21 : decode cX3_number 21 = .ok (.invokevirtual 94, 3) := dk_182 0 94 (dk_at dksX3_number_0 21 rfl rfl)
theorem dX3_number_24 : decode cX3_number 24 = .ok (.invokevirtual 65, 3) := dk_182 0 65 (dk_at dksX3_number_1 0 rfl rfl)
theorem dX3_number_27 : decode cX3_number 27 = .ok (.iconst 2, 1) := dk_5 (dk_at dksX3_number_1 3 rfl rfl)
theorem dX3_number_28 : decode cX3_number 28 = .ok (.if_icmp .ne 18, 3) := dk_160 0 18 (dk_at dksX3_number_1 4 rfl rfl)
theorem dX3_number_31 : decode cX3_number 31 = .ok (.aload_n 0, 1) := dk_42 (dk_at dksX3_number_1 7 rfl rfl)
theorem dX3_number_32 : decode cX3_number 32 = .ok (.getfield 17, 3) := dk_180 0 17 (dk_at dksX3_number_1 8 rfl rfl)
theorem dX3_number_35 : decode cX3_number 35 = .ok (.invokevirtual 98, 3) := dk_182 0 98 (dk_at dksX3_number_1 11 rfl rfl)
theorem dX3_number_38 : decode cX3_number 38 = .ok (.iconst 3, 1) := dk_6 (dk_at dksX3_number_1 14 rfl rfl)
theorem dX3_number_39 : decode cX3_number 39 = .ok (.if_icmp .ge 7, 3) := dk_162 0 7 (dk_at dksX3_number_1 15 rfl rfl)
theorem dX3_number_42 : decode cX3_number 42 = .ok (.iconst 1, 1) := dk_4 (dk_at dksX3_number_1 18 rfl rfl)
theorem dX3_number_43 : decode cX3_number 43 = .ok (.goto 4, 3) := dk_167 0 4 (dk_at dksX3_number_1 19 rfl rfl)
theorem dX3_number_46 : decode cX3_number 46 = .ok (.iconst 0, 1) := dk_3 (dk_at dksX3_number_1 22 rfl rfl)
theorem dX3_number_47 : decode cX3_number 47 = .ok (.invokevirtual 102, 3) := dk_182 0 102 (dk_at dksX3_number_2 0 rfl rfl)
theorem dX3_number_50 : decode cX3_number 50 = .ok (.aload_n 0, 1) := dk_42 (dk_at dksX3_number_2 3 rfl rfl)
theorem dX3_number_51 : decode cX3_number 51 = .ok (.getfield 17, 3) := dk_180 0 17 (dk_at dksX3_number_2 4 rfl rfl)
theorem dX3_number_54 : decode cX3_number 54 = .ok (.invokestatic 106, 3) := dk_184 0 106 (dk_at dksX3_number_2 7 rfl rfl)
theorem dX3_number_57 : decode cX3_number 57 = .ok (.istore_n 3, 1) := dk_62 (dk_at dksX3_number_2 10 rfl rfl)
theorem dX3_number_58 : decode cX3_number 58 = .ok (.aload_n 0, 1) := dk_42 (dk_at dksX3_number_2 11 rfl rfl)
theorem dX3_number_59 : decode cX3_number 59 = .ok (.iload_n 3, 1) := dk_29 (dk_at dksX3_number_2 12 rfl rfl)
theorem dX3_number_60 : decode cX3_number 60 = .ok (.i2l, 1) := dk_133 (dk_at dksX3_number_2 13 rfl rfl)
theorem dX3_number_61 : decode cX3_number 61 = .ok (.iload_n 1, 1) := dk_27 (dk_at dksX3_number_2 14 rfl rfl)
theorem dX3_number_62 : decode cX3_number 62 = .ok (.i2l, 1) := dk_133 (dk_at dksX3_number_2 15 rfl rfl)
theorem dX3_number_63 : decode cX3_number 63 = .ok (.iload_n 2, 1) := dk_28 (dk_at dksX3_number_2 16 rfl rfl)
theorem dX3_number_64 : decode cX3_number 64 = .ok (.i2l, 1) := dk_133 (dk_at dksX3_number_2 17 rfl rfl)
theorem dX3_number_65 : decode cX3_number 65 = .ok (.invokestatic 44, 3) := dk_184 0 44 (dk_at dksX3_number_2 18 rfl rfl)
theorem dX3_number_68 : decode cX3_number 68 = .ok (.invokevirtual 102, 3) := dk_182 0 102 (dk_at dksX3_number_2 21 rfl rfl)
theorem dX3_number_71 : decode cX3_number 71 = .ok (.iload_n 3, 1) := dk_29 (dk_at dksX3_number_3 0 rfl rfl)
theorem dX3_number_72 : decode cX3_number 72 = .ok (.ireturn, 1) := dk_172 (dk_at dksX3_number_3 1 rfl rfl)
abbrev cX3_seat : ByteArray := prog_13_method_6_code
def yX3_seat : MethodName := ⟨RX3, "seat", "()I"⟩
def dkwX3_seat_0 : List UInt8 := [42, 3, 42, 180, 0, 25, 4, 100, 182, 0, 112, 172]
abbrev dktX3_seat_0 : List UInt8 := dkwX3_seat_0 ++ []
theorem dksX3_seat_0 : cX3_seat.data.toList.drop 0 = dktX3_seat_0 := by decide +kernel
theorem dX3_seat_0 : decode cX3_seat 0 = .ok (.aload_n 0, 1) := dk_42 (dk_at dksX3_seat_0 0 rfl rfl)
theorem dX3_seat_1 : decode cX3_seat 1 = .ok (.iconst 0, 1) := dk_3 (dk_at dksX3_seat_0 1 rfl rfl)
theorem dX3_seat_2 : decode cX3_seat 2 = .ok (.aload_n 0, 1) := dk_42 (dk_at dksX3_seat_0 2 rfl rfl)
theorem dX3_seat_3 : decode cX3_seat 3 = .ok (.getfield 25, 3) := dk_180 0 25 (dk_at dksX3_seat_0 3 rfl rfl)
theorem dX3_seat_6 : decode cX3_seat 6 = .ok (.iconst 1, 1) := dk_4 (dk_at dksX3_seat_0 6 rfl rfl)
theorem dX3_seat_7 : decode cX3_seat 7 = .ok (.isub, 1) := dk_100 (dk_at dksX3_seat_0 7 rfl rfl)
theorem dX3_seat_8 : decode cX3_seat 8 = .ok (.invokevirtual 112, 3) := dk_182 0 112 (dk_at dksX3_seat_0 8 rfl rfl)
theorem dX3_seat_11 : decode cX3_seat 11 = .ok (.ireturn, 1) := dk_172 (dk_at dksX3_seat_0 11 rfl rfl)
abbrev cX3_knight : ByteArray := prog_13_method_7_code
def yX3_knight : MethodName := ⟨RX3, "knight", "()I"⟩
def dkwX3_knight_0 : List UInt8 := [42, 3, 42, 180, 0, 31, 4, 100, 182, 0, 112, 172]
abbrev dktX3_knight_0 : List UInt8 := dkwX3_knight_0 ++ []
theorem dksX3_knight_0 : cX3_knight.data.toList.drop 0 = dktX3_knight_0 := by decide +kernel
theorem dX3_knight_0 : decode cX3_knight 0 = .ok (.aload_n 0, 1) := dk_42 (dk_at dksX3_knight_0 0 rfl rfl)
theorem dX3_knight_1 : decode cX3_knight 1 = .ok (.iconst 0, 1) := dk_3 (dk_at dksX3_knight_0 1 rfl rfl)
theorem dX3_knight_2 : decode cX3_knight 2 = .ok (.aload_n 0, 1) := dk_42 (dk_at dksX3_knight_0 2 rfl rfl)
theorem dX3_knight_3 : decode cX3_knight 3 = .ok (.getfield 31, 3) := dk_180 0 31 (dk_at dksX3_knight_0 3 rfl rfl)
theorem dX3_knight_6 : decode cX3_knight 6 = .ok (.iconst 1, 1) := dk_4 (dk_at dksX3_knight_0 6 rfl rfl)
theorem dX3_knight_7 : decode cX3_knight 7 = .ok (.isub, 1) := dk_100 (dk_at dksX3_knight_0 7 rfl rfl)
theorem dX3_knight_8 : decode cX3_knight 8 = .ok (.invokevirtual 112, 3) := dk_182 0 112 (dk_at dksX3_knight_0 8 rfl rfl)
theorem dX3_knight_11 : decode cX3_knight 11 = .ok (.ireturn, 1) := dk_172 (dk_at dksX3_knight_0 11 rfl rfl)
theorem q71 : (Jvm.Cond.initialized "PerilSeat$Reader") ∈ lw_all := lw_g (lw_at lw_m1 5 rfl) rfl
theorem q156 : (Jvm.Cond.fieldLinkNest "PerilSeat$Reader" (21 : Nat) "PerilSeat" "size" "I" "PerilSeat") ∈ lw_tbl := lw_at lw_m1 90 rfl
theorem q159 : (Jvm.Cond.fieldLinkNest "PerilSeat$Reader" (28 : Nat) "PerilSeat" "many" "I" "PerilSeat") ∈ lw_tbl := lw_at lw_m1 93 rfl
theorem q171 : (Jvm.Cond.fieldLinkNest "PerilSeat$Reader" (58 : Nat) "PerilSeat" "text" "[B" "PerilSeat") ∈ lw_tbl := lw_at lw_m1 105 rfl
theorem q173 : (Jvm.Cond.fieldLinkNest "PerilSeat$Reader" (55 : Nat) "PerilSeat" "letters" "I" "PerilSeat") ∈ lw_tbl := lw_at lw_m1 107 rfl
theorem q248 : (Jvm.Cond.instantiable "PerilSeat$Reader" (8 : Nat)) ∈ lw_all := lw_g (lw_at lw_m1 182 rfl) rfl
theorem q250 : (Jvm.Cond.instanceMethod ({ cls := "PerilSeat$Reader", name := "<init>", desc := "(LPerilSeat;)V" } : Jvm.MethodName)) ∈ lw_all := lw_g (lw_at lw_m1 184 rfl) rfl
theorem q251 : (Jvm.Cond.code ({ cls := "PerilSeat$Reader", name := "<init>", desc := "(LPerilSeat;)V" } : Jvm.MethodName) prog_13_method_1_code (2 : Nat) (Option.none : Option Jvm.ClassFile.FieldType)) ∈ lw_all := lw_g (lw_at lw_m1 185 rfl) rfl
theorem q252 : (Jvm.Cond.methodLink "PerilSeat$Reader" (9 : Nat) ({ cls := "java/lang/Object", name := "<init>", desc := "()V" } : Jvm.MethodName)) ∈ lw_all := lw_g (lw_at lw_m1 186 rfl) rfl
theorem q253 : (Jvm.Cond.stringRef "PerilSeat$Reader" (15 : Nat) "") ∈ lw_tbl := lw_at lw_m1 187 rfl
theorem q254 : (Jvm.Cond.classLink "PerilSeat$Reader" (34 : Nat) "[I") ∈ lw_all := lw_g (lw_at lw_m1 188 rfl) rfl
theorem q255 : (Jvm.Cond.fieldLink "PerilSeat$Reader" (52 : Nat) "PerilSeat$Reader" "here" "I") ∈ lw_all := lw_g (lw_at lw_m1 189 rfl) rfl
theorem q256 : (Jvm.Cond.fieldLink "PerilSeat$Reader" (62 : Nat) "PerilSeat$Reader" "first" "I") ∈ lw_all := lw_g (lw_at lw_m1 190 rfl) rfl
theorem q257 : (Jvm.Cond.fieldLink "PerilSeat$Reader" (17 : Nat) "PerilSeat$Reader" "word" "Ljava/lang/String;") ∈ lw_all := lw_g (lw_at lw_m1 191 rfl) rfl
theorem q258 : (Jvm.Cond.fieldLink "PerilSeat$Reader" (25 : Nat) "PerilSeat$Reader" "seats" "I") ∈ lw_all := lw_g (lw_at lw_m1 192 rfl) rfl
theorem q259 : (Jvm.Cond.fieldLink "PerilSeat$Reader" (31 : Nat) "PerilSeat$Reader" "there" "I") ∈ lw_all := lw_g (lw_at lw_m1 193 rfl) rfl
theorem q260 : (Jvm.Cond.fieldLink "PerilSeat$Reader" (36 : Nat) "PerilSeat$Reader" "clauses" "[[I") ∈ lw_all := lw_g (lw_at lw_m1 194 rfl) rfl
theorem q262 : (Jvm.Cond.fieldLink "PerilSeat$Reader" (130 : Nat) "PerilSeat$Reader" "read" "I") ∈ lw_all := lw_g (lw_at lw_m1 196 rfl) rfl
theorem q264 : (Jvm.Cond.fieldLink "PerilSeat$Reader" (3 : Nat) "PerilSeat$Reader" "this$0" "LPerilSeat;") ∈ lw_all := lw_g (lw_at lw_m1 198 rfl) rfl
theorem q265 : (Jvm.Cond.lays "PerilSeat$Reader" "PerilSeat$Reader" "here" "I") ∈ lw_all := lw_g (lw_at lw_m1 199 rfl) rfl
theorem q266 : (Jvm.Cond.soleField "PerilSeat$Reader" "here") ∈ lw_all := lw_g (lw_at lw_m1 200 rfl) rfl
theorem q267 : (Jvm.Cond.lays "PerilSeat$Reader" "PerilSeat$Reader" "first" "I") ∈ lw_all := lw_g (lw_at lw_m1 201 rfl) rfl
theorem q268 : (Jvm.Cond.soleField "PerilSeat$Reader" "first") ∈ lw_all := lw_g (lw_at lw_m1 202 rfl) rfl
theorem q269 : (Jvm.Cond.lays "PerilSeat$Reader" "PerilSeat$Reader" "word" "Ljava/lang/String;") ∈ lw_all := lw_g (lw_at lw_m1 203 rfl) rfl
theorem q270 : (Jvm.Cond.soleField "PerilSeat$Reader" "word") ∈ lw_all := lw_g (lw_at lw_m1 204 rfl) rfl
theorem q271 : (Jvm.Cond.lays "PerilSeat$Reader" "PerilSeat$Reader" "seats" "I") ∈ lw_all := lw_g (lw_at lw_m1 205 rfl) rfl
theorem q272 : (Jvm.Cond.soleField "PerilSeat$Reader" "seats") ∈ lw_all := lw_g (lw_at lw_m1 206 rfl) rfl
theorem q273 : (Jvm.Cond.lays "PerilSeat$Reader" "PerilSeat$Reader" "there" "I") ∈ lw_all := lw_g (lw_at lw_m1 207 rfl) rfl
theorem q274 : (Jvm.Cond.soleField "PerilSeat$Reader" "there") ∈ lw_all := lw_g (lw_at lw_m1 208 rfl) rfl
theorem q275 : (Jvm.Cond.laysFinal "PerilSeat$Reader" "PerilSeat$Reader" "clauses" "[[I") ∈ lw_all := lw_g (lw_at lw_m1 209 rfl) rfl
theorem q276 : (Jvm.Cond.soleField "PerilSeat$Reader" "clauses") ∈ lw_all := lw_g (lw_at lw_m1 210 rfl) rfl
theorem q277 : (Jvm.Cond.lays "PerilSeat$Reader" "PerilSeat$Reader" "read" "I") ∈ lw_all := lw_g (lw_at lw_m1 211 rfl) rfl
theorem q278 : (Jvm.Cond.soleField "PerilSeat$Reader" "read") ∈ lw_all := lw_g (lw_at lw_m1 212 rfl) rfl
theorem q279 : (Jvm.Cond.laysFinal "PerilSeat$Reader" "PerilSeat$Reader" "this$0" "LPerilSeat;") ∈ lw_all := lw_g (lw_at lw_m1 213 rfl) rfl
theorem q280 : (Jvm.Cond.soleField "PerilSeat$Reader" "this$0") ∈ lw_all := lw_g (lw_at lw_m1 214 rfl) rfl
theorem q281 : (Jvm.Cond.superclass "PerilSeat$Reader" "java/lang/Object") ∈ lw_all := lw_g (lw_at lw_m1 215 rfl) rfl
theorem q283 : (Jvm.Cond.instanceMethod ({ cls := "PerilSeat$Reader", name := "read", desc := "()LPerilSeat$Reader;" } : Jvm.MethodName)) ∈ lw_all := lw_g (lw_at lw_m1 217 rfl) rfl
theorem q284 : (Jvm.Cond.selects "PerilSeat$Reader" ({ cls := "PerilSeat$Reader", name := "read", desc := "()LPerilSeat$Reader;" } : Jvm.MethodName) ({ cls := "PerilSeat$Reader", name := "read", desc := "()LPerilSeat$Reader;" } : Jvm.MethodName)) ∈ lw_all := lw_g (lw_at lw_m1 218 rfl) rfl
theorem q285 : (Jvm.Cond.code ({ cls := "PerilSeat$Reader", name := "read", desc := "()LPerilSeat$Reader;" } : Jvm.MethodName) prog_13_method_9_code (2 : Nat) (Option.some (Jvm.ClassFile.FieldType.object "PerilSeat$Reader"))) ∈ lw_all := lw_g (lw_at lw_m1 219 rfl) rfl
theorem q286 : (Jvm.Cond.methodLink "PerilSeat$Reader" (133 : Nat) ({ cls := "PerilSeat$Reader", name := "clause", desc := "()[I" } : Jvm.MethodName)) ∈ lw_all := lw_g (lw_at lw_m1 220 rfl) rfl
theorem q287 : (Jvm.Cond.privateMethod ({ cls := "PerilSeat$Reader", name := "clause", desc := "()[I" } : Jvm.MethodName)) ∈ lw_tbl := lw_at lw_m1 221 rfl
theorem q288 : (Jvm.Cond.instanceMethod ({ cls := "PerilSeat$Reader", name := "clause", desc := "()[I" } : Jvm.MethodName)) ∈ lw_all := lw_g (lw_at lw_m1 222 rfl) rfl
theorem q289 : (Jvm.Cond.code ({ cls := "PerilSeat$Reader", name := "clause", desc := "()[I" } : Jvm.MethodName) prog_13_method_8_code (4 : Nat) (Option.some (Jvm.ClassFile.FieldType.array Jvm.ClassFile.FieldType.int))) ∈ lw_all := lw_g (lw_at lw_m1 223 rfl) rfl
theorem q290 : (Jvm.Cond.methodLink "PerilSeat$Reader" (85 : Nat) ({ cls := "PerilSeat$Reader", name := "take", desc := "()V" } : Jvm.MethodName)) ∈ lw_all := lw_g (lw_at lw_m1 224 rfl) rfl
theorem q291 : (Jvm.Cond.privateMethod ({ cls := "PerilSeat$Reader", name := "take", desc := "()V" } : Jvm.MethodName)) ∈ lw_tbl := lw_at lw_m1 225 rfl
theorem q292 : (Jvm.Cond.instanceMethod ({ cls := "PerilSeat$Reader", name := "take", desc := "()V" } : Jvm.MethodName)) ∈ lw_all := lw_g (lw_at lw_m1 226 rfl) rfl
theorem q293 : (Jvm.Cond.code ({ cls := "PerilSeat$Reader", name := "take", desc := "()V" } : Jvm.MethodName) prog_13_method_3_code (3 : Nat) (Option.none : Option Jvm.ClassFile.FieldType)) ∈ lw_all := lw_g (lw_at lw_m1 227 rfl) rfl
theorem q294 : (Jvm.Cond.methodLink "PerilSeat$Reader" (65 : Nat) ({ cls := "PerilSeat$Reader", name := "kindOf", desc := "(I)I" } : Jvm.MethodName)) ∈ lw_all := lw_g (lw_at lw_m1 228 rfl) rfl
theorem q295 : (Jvm.Cond.privateMethod ({ cls := "PerilSeat$Reader", name := "kindOf", desc := "(I)I" } : Jvm.MethodName)) ∈ lw_tbl := lw_at lw_m1 229 rfl
theorem q296 : (Jvm.Cond.instanceMethod ({ cls := "PerilSeat$Reader", name := "kindOf", desc := "(I)I" } : Jvm.MethodName)) ∈ lw_all := lw_g (lw_at lw_m1 230 rfl) rfl
theorem q297 : (Jvm.Cond.code ({ cls := "PerilSeat$Reader", name := "kindOf", desc := "(I)I" } : Jvm.MethodName) prog_13_method_2_code (2 : Nat) (Option.some Jvm.ClassFile.FieldType.int)) ∈ lw_all := lw_g (lw_at lw_m1 231 rfl) rfl
theorem q298 : (Jvm.Cond.constantLong "PerilSeat$Reader" (40 : Nat) (97 : Int64)) ∈ lw_all := lw_g (lw_at lw_m1 232 rfl) rfl
theorem q299 : (Jvm.Cond.constantLong "PerilSeat$Reader" (42 : Nat) (122 : Int64)) ∈ lw_all := lw_g (lw_at lw_m1 233 rfl) rfl
theorem q300 : (Jvm.Cond.methodLinkNest "PerilSeat$Reader" (44 : Nat) ({ cls := "PerilSeat", name := "in", desc := "(JJJ)Z" } : Jvm.MethodName) "PerilSeat") ∈ lw_tbl := lw_at lw_m1 234 rfl
theorem q301 : (Jvm.Cond.constantLong "PerilSeat$Reader" (48 : Nat) (48 : Int64)) ∈ lw_all := lw_g (lw_at lw_m1 235 rfl) rfl
theorem q302 : (Jvm.Cond.constantLong "PerilSeat$Reader" (50 : Nat) (57 : Int64)) ∈ lw_all := lw_g (lw_at lw_m1 236 rfl) rfl
theorem q303 : (Jvm.Cond.classLink "PerilSeat$Reader" (69 : Nat) "java/lang/StringBuilder") ∈ lw_all := lw_g (lw_at lw_m1 237 rfl) rfl
theorem q305 : (Jvm.Cond.methodLink "PerilSeat$Reader" (71 : Nat) ({ cls := "java/lang/StringBuilder", name := "<init>", desc := "()V" } : Jvm.MethodName)) ∈ lw_all := lw_g (lw_at lw_m1 239 rfl) rfl
theorem q334 : (Jvm.Cond.methodLink "PerilSeat$Reader" (72 : Nat) ({ cls := "java/lang/StringBuilder", name := "append", desc := "(C)Ljava/lang/StringBuilder;" } : Jvm.MethodName)) ∈ lw_all := lw_g (lw_at lw_m2 28 rfl) rfl
theorem q429 : (Jvm.Cond.methodLink "PerilSeat$Reader" (76 : Nat) ({ cls := "java/lang/StringBuilder", name := "toString", desc := "()Ljava/lang/String;" } : Jvm.MethodName)) ∈ lw_all := lw_g (lw_at lw_m2 123 rfl) rfl
theorem q490 : (Jvm.Cond.fieldLinkNest "PerilSeat$Reader" (116 : Nat) "PerilSeat" "HEADS" "[Ljava/lang/String;" "PerilSeat") ∈ lw_tbl := lw_at lw_m2 184 rfl
theorem q492 : (Jvm.Cond.methodLink "PerilSeat$Reader" (120 : Nat) ({ cls := "java/lang/String", name := "equals", desc := "(Ljava/lang/Object;)Z" } : Jvm.MethodName)) ∈ lw_all := lw_g (lw_at lw_m2 186 rfl) rfl
theorem q500 : (Jvm.Cond.methodLink "PerilSeat$Reader" (102 : Nat) ({ cls := "PerilSeat$Reader", name := "want", desc := "(Z)V" } : Jvm.MethodName)) ∈ lw_all := lw_g (lw_at lw_m2 194 rfl) rfl
theorem q501 : (Jvm.Cond.privateMethod ({ cls := "PerilSeat$Reader", name := "want", desc := "(Z)V" } : Jvm.MethodName)) ∈ lw_tbl := lw_at lw_m2 195 rfl
theorem q502 : (Jvm.Cond.instanceMethod ({ cls := "PerilSeat$Reader", name := "want", desc := "(Z)V" } : Jvm.MethodName)) ∈ lw_all := lw_g (lw_at lw_m2 196 rfl) rfl
theorem q503 : (Jvm.Cond.code ({ cls := "PerilSeat$Reader", name := "want", desc := "(Z)V" } : Jvm.MethodName) prog_13_method_4_code (2 : Nat) (Option.none : Option Jvm.ClassFile.FieldType)) ∈ lw_all := lw_g (lw_at lw_m2 197 rfl) rfl
theorem q504 : (Jvm.Cond.classLink "PerilSeat$Reader" (80 : Nat) "PerilSeat$Fault") ∈ lw_all := lw_g (lw_at lw_m2 198 rfl) rfl
theorem q556 : (Jvm.Cond.methodLink "PerilSeat$Reader" (82 : Nat) ({ cls := "PerilSeat$Fault", name := "<init>", desc := "(I)V" } : Jvm.MethodName)) ∈ lw_all := lw_g (lw_at lw_m3 10 rfl) rfl
theorem q582 : (Jvm.Cond.methodLink "PerilSeat$Reader" (112 : Nat) ({ cls := "PerilSeat$Reader", name := "number", desc := "(II)I" } : Jvm.MethodName)) ∈ lw_all := lw_g (lw_at lw_m3 36 rfl) rfl
theorem q583 : (Jvm.Cond.privateMethod ({ cls := "PerilSeat$Reader", name := "number", desc := "(II)I" } : Jvm.MethodName)) ∈ lw_tbl := lw_at lw_m3 37 rfl
theorem q584 : (Jvm.Cond.instanceMethod ({ cls := "PerilSeat$Reader", name := "number", desc := "(II)I" } : Jvm.MethodName)) ∈ lw_all := lw_g (lw_at lw_m3 38 rfl) rfl
theorem q585 : (Jvm.Cond.code ({ cls := "PerilSeat$Reader", name := "number", desc := "(II)I" } : Jvm.MethodName) prog_13_method_5_code (4 : Nat) (Option.some Jvm.ClassFile.FieldType.int)) ∈ lw_all := lw_g (lw_at lw_m3 39 rfl) rfl
theorem q586 : (Jvm.Cond.methodLink "PerilSeat$Reader" (88 : Nat) ({ cls := "java/lang/String", name := "isEmpty", desc := "()Z" } : Jvm.MethodName)) ∈ lw_all := lw_g (lw_at lw_m3 40 rfl) rfl
theorem q590 : (Jvm.Cond.methodLink "PerilSeat$Reader" (94 : Nat) ({ cls := "java/lang/String", name := "charAt", desc := "(I)C" } : Jvm.MethodName)) ∈ lw_all := lw_g (lw_at lw_m3 44 rfl) rfl
theorem q605 : (Jvm.Cond.methodLink "PerilSeat$Reader" (98 : Nat) ({ cls := "java/lang/String", name := "length", desc := "()I" } : Jvm.MethodName)) ∈ lw_all := lw_g (lw_at lw_m3 59 rfl) rfl
theorem q613 : (Jvm.Cond.methodLink "PerilSeat$Reader" (106 : Nat) ({ cls := "java/lang/Integer", name := "parseInt", desc := "(Ljava/lang/String;)I" } : Jvm.MethodName)) ∈ lw_all := lw_g (lw_at lw_m3 67 rfl) rfl
theorem q642 : (Jvm.Cond.methodLink "PerilSeat$Reader" (124 : Nat) ({ cls := "PerilSeat$Reader", name := "seat", desc := "()I" } : Jvm.MethodName)) ∈ lw_all := lw_g (lw_at lw_m3 96 rfl) rfl
theorem q643 : (Jvm.Cond.privateMethod ({ cls := "PerilSeat$Reader", name := "seat", desc := "()I" } : Jvm.MethodName)) ∈ lw_tbl := lw_at lw_m3 97 rfl
theorem q644 : (Jvm.Cond.instanceMethod ({ cls := "PerilSeat$Reader", name := "seat", desc := "()I" } : Jvm.MethodName)) ∈ lw_all := lw_g (lw_at lw_m3 98 rfl) rfl
theorem q645 : (Jvm.Cond.code ({ cls := "PerilSeat$Reader", name := "seat", desc := "()I" } : Jvm.MethodName) prog_13_method_6_code (1 : Nat) (Option.some Jvm.ClassFile.FieldType.int)) ∈ lw_all := lw_g (lw_at lw_m3 99 rfl) rfl
theorem q646 : (Jvm.Cond.methodLink "PerilSeat$Reader" (127 : Nat) ({ cls := "PerilSeat$Reader", name := "knight", desc := "()I" } : Jvm.MethodName)) ∈ lw_all := lw_g (lw_at lw_m3 100 rfl) rfl
theorem q647 : (Jvm.Cond.privateMethod ({ cls := "PerilSeat$Reader", name := "knight", desc := "()I" } : Jvm.MethodName)) ∈ lw_tbl := lw_at lw_m3 101 rfl
theorem q648 : (Jvm.Cond.instanceMethod ({ cls := "PerilSeat$Reader", name := "knight", desc := "()I" } : Jvm.MethodName)) ∈ lw_all := lw_g (lw_at lw_m3 102 rfl) rfl
theorem q649 : (Jvm.Cond.code ({ cls := "PerilSeat$Reader", name := "knight", desc := "()I" } : Jvm.MethodName) prog_13_method_7_code (1 : Nat) (Option.some Jvm.ClassFile.FieldType.int)) ∈ lw_all := lw_g (lw_at lw_m3 103 rfl) rfl
theorem q650 : (Jvm.Cond.stringRef "PerilSeat$Reader" (137 : Nat) ";") ∈ lw_tbl := lw_at lw_m3 104 rfl
theorem q1511 : (Jvm.Cond.castable "PerilSeat$Reader" "java/lang/Object") ∈ lw_tbl := lw_at lw_m7 5 rfl
theorem in_X3 : ∀ w ∈ wsX30, w ∈ lw_all := lw_in wsX30 [265, 267, 269, 271, 273, 275, 277, 279] (by decide +kernel) (by decide +kernel)

/-! PerilSeat$Fault -/
set_option maxRecDepth 100000
def RX4 : String := "PerilSeat$Fault"
def TX4 : u_T := fun k => match k with
  | 0 => ("java/lang/Throwable", "cause", "Ljava/lang/Throwable;", false)
  | 1 => ("java/lang/Throwable", "stackTrace", "[Ljava/lang/StackTraceElement;", false)
  | 2 => ("java/lang/Throwable", "suppressedExceptions", "Ljava/util/List;", false)
  | 3 => ("java/lang/Throwable", "detailMessage", "Ljava/lang/String;", false)
  | 4 => ("java/lang/Throwable", "backtrace", "Ljava/lang/Object;", false)
  | 5 => ("java/lang/Throwable", "depth", "I", false)
  | _ => ("PerilSeat$Fault", "at", "I", true)
def tyX4 : Nat → FieldType := fun k => match k with
  | 0 => .object "java/lang/Throwable"
  | 1 => .array (.object "java/lang/StackTraceElement")
  | 2 => .object "java/util/List"
  | 3 => .object "java/lang/String"
  | 4 => .object "java/lang/Object"
  | 5 => .int
  | _ => .int
abbrev wsX40 : List Cond := u_ws RX4 TX4 7
theorem nmX4 : ∀ a, a < 7 → ∀ b, b < 7 → a ≠ b → (TX4 a).2.1 ≠ (TX4 b).2.1 := by decide +kernel
theorem tyX4_ok : ∀ k, k < 7 → parseFieldDescriptor (TX4 k).2.2.1 = some (tyX4 k) := by decide +kernel
abbrev cX4_init : ByteArray := prog_2_method_1_code
def yX4_init : MethodName := ⟨RX4, "<init>", "(I)V"⟩
def dkwX4_init_0 : List UInt8 := [42, 1, 1, 3, 3, 183, 0, 1, 42, 27, 181, 0, 7, 177]
abbrev dktX4_init_0 : List UInt8 := dkwX4_init_0 ++ []
theorem dksX4_init_0 : cX4_init.data.toList.drop 0 = dktX4_init_0 := by decide +kernel
theorem dX4_init_0 : decode cX4_init 0 = .ok (.aload_n 0, 1) := dk_42 (dk_at dksX4_init_0 0 rfl rfl)
theorem dX4_init_1 : decode cX4_init 1 = .ok (.aconst_null, 1) := dk_1 (dk_at dksX4_init_0 1 rfl rfl)
theorem dX4_init_2 : decode cX4_init 2 = .ok (.aconst_null, 1) := dk_1 (dk_at dksX4_init_0 2 rfl rfl)
theorem dX4_init_3 : decode cX4_init 3 = .ok (.iconst 0, 1) := dk_3 (dk_at dksX4_init_0 3 rfl rfl)
theorem dX4_init_4 : decode cX4_init 4 = .ok (.iconst 0, 1) := dk_3 (dk_at dksX4_init_0 4 rfl rfl)
theorem dX4_init_5 : decode cX4_init 5 = .ok (.invokespecial 1, 3) := dk_183 0 1 (dk_at dksX4_init_0 5 rfl rfl)
theorem dX4_init_8 : decode cX4_init 8 = .ok (.aload_n 0, 1) := dk_42 (dk_at dksX4_init_0 8 rfl rfl)
theorem dX4_init_9 : decode cX4_init 9 = .ok (.iload_n 1, 1) := dk_27 (dk_at dksX4_init_0 9 rfl rfl)
theorem dX4_init_10 : decode cX4_init 10 = .ok (.putfield 7, 3) := dk_181 0 7 (dk_at dksX4_init_0 10 rfl rfl)
theorem dX4_init_13 : decode cX4_init 13 = .ok (.return_, 1) := dk_177 (dk_at dksX4_init_0 13 rfl rfl)
theorem q83 : (Jvm.Cond.initialized "PerilSeat$Fault") ∈ lw_all := lw_g (lw_at lw_m1 17 rfl) rfl
theorem q505 : (Jvm.Cond.instantiable "PerilSeat$Fault" (7 : Nat)) ∈ lw_all := lw_g (lw_at lw_m2 199 rfl) rfl
theorem q506 : (Jvm.Cond.castable "PerilSeat$Fault" "PerilSeat$Fault") ∈ lw_tbl := lw_at lw_m2 200 rfl
theorem q511 : (Jvm.Cond.selects "PerilSeat$Fault" ({ cls := "java/lang/Throwable", name := "fillInStackTrace", desc := "(I)Ljava/lang/Throwable;" } : Jvm.MethodName) ({ cls := "java/lang/Throwable", name := "fillInStackTrace", desc := "(I)Ljava/lang/Throwable;" } : Jvm.MethodName)) ∈ lw_all := lw_g (lw_at lw_m2 205 rfl) rfl
theorem q512 : (Jvm.Cond.selects "PerilSeat$Fault" ({ cls := "java/lang/Throwable", name := "fillInStackTrace", desc := "()Ljava/lang/Throwable;" } : Jvm.MethodName) ({ cls := "java/lang/Throwable", name := "fillInStackTrace", desc := "()Ljava/lang/Throwable;" } : Jvm.MethodName)) ∈ lw_all := lw_g (lw_at lw_m2 206 rfl) rfl
theorem q513 : (Jvm.Cond.lays "PerilSeat$Fault" "java/lang/Throwable" "cause" "Ljava/lang/Throwable;") ∈ lw_all := lw_g (lw_at lw_m2 207 rfl) rfl
theorem q515 : (Jvm.Cond.lays "PerilSeat$Fault" "java/lang/Throwable" "stackTrace" "[Ljava/lang/StackTraceElement;") ∈ lw_all := lw_g (lw_at lw_m2 209 rfl) rfl
theorem q517 : (Jvm.Cond.lays "PerilSeat$Fault" "java/lang/Throwable" "suppressedExceptions" "Ljava/util/List;") ∈ lw_all := lw_g (lw_at lw_m2 211 rfl) rfl
theorem q519 : (Jvm.Cond.lays "PerilSeat$Fault" "java/lang/Throwable" "detailMessage" "Ljava/lang/String;") ∈ lw_all := lw_g (lw_at lw_m2 213 rfl) rfl
theorem q521 : (Jvm.Cond.lays "PerilSeat$Fault" "java/lang/Throwable" "backtrace" "Ljava/lang/Object;") ∈ lw_all := lw_g (lw_at lw_m2 215 rfl) rfl
theorem q557 : (Jvm.Cond.instanceMethod ({ cls := "PerilSeat$Fault", name := "<init>", desc := "(I)V" } : Jvm.MethodName)) ∈ lw_all := lw_g (lw_at lw_m3 11 rfl) rfl
theorem q558 : (Jvm.Cond.code ({ cls := "PerilSeat$Fault", name := "<init>", desc := "(I)V" } : Jvm.MethodName) prog_2_method_1_code (2 : Nat) (Option.none : Option Jvm.ClassFile.FieldType)) ∈ lw_all := lw_g (lw_at lw_m3 12 rfl) rfl
theorem q559 : (Jvm.Cond.methodLink "PerilSeat$Fault" (1 : Nat) ({ cls := "java/lang/Exception", name := "<init>", desc := "(Ljava/lang/String;Ljava/lang/Throwable;ZZ)V" } : Jvm.MethodName)) ∈ lw_all := lw_g (lw_at lw_m3 13 rfl) rfl
theorem q565 : (Jvm.Cond.fieldLink "PerilSeat$Fault" (7 : Nat) "PerilSeat$Fault" "at" "I") ∈ lw_all := lw_g (lw_at lw_m3 19 rfl) rfl
theorem q572 : (Jvm.Cond.laysFinal "PerilSeat$Fault" "PerilSeat$Fault" "at" "I") ∈ lw_all := lw_g (lw_at lw_m3 26 rfl) rfl
theorem q573 : (Jvm.Cond.soleField "PerilSeat$Fault" "at") ∈ lw_all := lw_g (lw_at lw_m3 27 rfl) rfl
theorem q578 : (Jvm.Cond.lays "PerilSeat$Fault" "java/lang/Throwable" "depth" "I") ∈ lw_all := lw_g (lw_at lw_m3 32 rfl) rfl
theorem q581 : (Jvm.Cond.superclass "PerilSeat$Fault" "java/lang/Exception") ∈ lw_all := lw_g (lw_at lw_m3 35 rfl) rfl
theorem q1514 : (Jvm.Cond.castable "PerilSeat$Fault" "java/lang/Object") ∈ lw_tbl := lw_at lw_m7 8 rfl
theorem in_X4 : ∀ w ∈ wsX40, w ∈ lw_all := lw_in wsX40 [513, 515, 517, 519, 521, 578, 572] (by decide +kernel) (by decide +kernel)

/-! PerilSeat$Name -/
set_option maxRecDepth 100000
def RX5 : String := "PerilSeat$Name"
abbrev cX5_init : ByteArray := prog_10_method_1_code
def yX5_init : MethodName := ⟨RX5, "<init>", "(I)V"⟩
def dkwX5_init_0 : List UInt8 := [42, 183, 0, 1, 42, 27, 181, 0, 7, 177]
abbrev dktX5_init_0 : List UInt8 := dkwX5_init_0 ++ []
theorem dksX5_init_0 : cX5_init.data.toList.drop 0 = dktX5_init_0 := by decide +kernel
theorem dX5_init_0 : decode cX5_init 0 = .ok (.aload_n 0, 1) := dk_42 (dk_at dksX5_init_0 0 rfl rfl)
theorem dX5_init_1 : decode cX5_init 1 = .ok (.invokespecial 1, 3) := dk_183 0 1 (dk_at dksX5_init_0 1 rfl rfl)
theorem dX5_init_4 : decode cX5_init 4 = .ok (.aload_n 0, 1) := dk_42 (dk_at dksX5_init_0 4 rfl rfl)
theorem dX5_init_5 : decode cX5_init 5 = .ok (.iload_n 1, 1) := dk_27 (dk_at dksX5_init_0 5 rfl rfl)
theorem dX5_init_6 : decode cX5_init 6 = .ok (.putfield 7, 3) := dk_181 0 7 (dk_at dksX5_init_0 6 rfl rfl)
theorem dX5_init_9 : decode cX5_init 9 = .ok (.return_, 1) := dk_177 (dk_at dksX5_init_0 9 rfl rfl)
theorem q89 : (Jvm.Cond.initialized "PerilSeat$Name") ∈ lw_all := lw_g (lw_at lw_m1 23 rfl) rfl
theorem q668 : (Jvm.Cond.instanceMethod ({ cls := "PerilSeat$Name", name := "<init>", desc := "(I)V" } : Jvm.MethodName)) ∈ lw_all := lw_g (lw_at lw_m3 122 rfl) rfl
theorem q669 : (Jvm.Cond.code ({ cls := "PerilSeat$Name", name := "<init>", desc := "(I)V" } : Jvm.MethodName) prog_10_method_1_code (2 : Nat) (Option.none : Option Jvm.ClassFile.FieldType)) ∈ lw_all := lw_g (lw_at lw_m3 123 rfl) rfl
theorem q670 : (Jvm.Cond.methodLink "PerilSeat$Name" (1 : Nat) ({ cls := "java/lang/Object", name := "<init>", desc := "()V" } : Jvm.MethodName)) ∈ lw_all := lw_g (lw_at lw_m3 124 rfl) rfl
theorem q671 : (Jvm.Cond.fieldLink "PerilSeat$Name" (7 : Nat) "PerilSeat$Name" "number" "I") ∈ lw_all := lw_g (lw_at lw_m3 125 rfl) rfl
theorem q680 : (Jvm.Cond.soleField "PerilSeat$Name" "number") ∈ lw_all := lw_g (lw_at lw_m3 134 rfl) rfl
theorem q767 : (Jvm.Cond.declares ({ cls := "PerilSeat$Name", name := "kind", desc := "()I" } : Jvm.MethodName)) ∈ lw_tbl := lw_at lw_m3 221 rfl
theorem q768 : (Jvm.Cond.sameMethod "PerilSeat$Name" "PerilSeat$Name" "kind" "()I") ∈ lw_all := lw_g (lw_at lw_m3 222 rfl) rfl
theorem q857 : (Jvm.Cond.superclass "PerilSeat$Name" "java/lang/Object") ∈ lw_all := lw_g (lw_at lw_m4 71 rfl) rfl

/-! PerilSeat$Open -/
set_option maxRecDepth 100000
def RX6 : String := "PerilSeat$Open"
def TX6 : u_T := fun k => match k with
  | _ => ("PerilSeat$Name", "number", "I", true)
def tyX6 : Nat → FieldType := fun k => match k with
  | _ => .int
abbrev wsX60 : List Cond := u_ws RX6 TX6 1
theorem nmX6 : ∀ a, a < 1 → ∀ b, b < 1 → a ≠ b → (TX6 a).2.1 ≠ (TX6 b).2.1 := by decide +kernel
theorem tyX6_ok : ∀ k, k < 1 → parseFieldDescriptor (TX6 k).2.2.1 = some (tyX6 k) := by decide +kernel
abbrev cX6_init : ByteArray := prog_12_method_1_code
def yX6_init : MethodName := ⟨RX6, "<init>", "(I)V"⟩
def dkwX6_init_0 : List UInt8 := [42, 27, 183, 0, 1, 177]
abbrev dktX6_init_0 : List UInt8 := dkwX6_init_0 ++ []
theorem dksX6_init_0 : cX6_init.data.toList.drop 0 = dktX6_init_0 := by decide +kernel
theorem dX6_init_0 : decode cX6_init 0 = .ok (.aload_n 0, 1) := dk_42 (dk_at dksX6_init_0 0 rfl rfl)
theorem dX6_init_1 : decode cX6_init 1 = .ok (.iload_n 1, 1) := dk_27 (dk_at dksX6_init_0 1 rfl rfl)
theorem dX6_init_2 : decode cX6_init 2 = .ok (.invokespecial 1, 3) := dk_183 0 1 (dk_at dksX6_init_0 2 rfl rfl)
theorem dX6_init_5 : decode cX6_init 5 = .ok (.return_, 1) := dk_177 (dk_at dksX6_init_0 5 rfl rfl)
abbrev cX6_kind : ByteArray := prog_12_method_2_code
def yX6_kind : MethodName := ⟨RX6, "kind", "()I"⟩
theorem dX6_kind_0 : decode cX6_kind 0 = .ok (.iconst 0, 1) := by decide +kernel
theorem dX6_kind_1 : decode cX6_kind 1 = .ok (.ireturn, 1) := by decide +kernel
abbrev cX6_fits : ByteArray := prog_12_method_3_code
def yX6_fits : MethodName := ⟨RX6, "fits", "(II)Z"⟩
theorem dX6_fits_0 : decode cX6_fits 0 = .ok (.iconst 1, 1) := by decide +kernel
theorem dX6_fits_1 : decode cX6_fits 1 = .ok (.ireturn, 1) := by decide +kernel
theorem q90 : (Jvm.Cond.initialized "PerilSeat$Open") ∈ lw_all := lw_g (lw_at lw_m1 24 rfl) rfl
theorem q663 : (Jvm.Cond.instantiable "PerilSeat$Open" (1 : Nat)) ∈ lw_all := lw_g (lw_at lw_m3 117 rfl) rfl
theorem q665 : (Jvm.Cond.instanceMethod ({ cls := "PerilSeat$Open", name := "<init>", desc := "(I)V" } : Jvm.MethodName)) ∈ lw_all := lw_g (lw_at lw_m3 119 rfl) rfl
theorem q666 : (Jvm.Cond.code ({ cls := "PerilSeat$Open", name := "<init>", desc := "(I)V" } : Jvm.MethodName) prog_12_method_1_code (2 : Nat) (Option.none : Option Jvm.ClassFile.FieldType)) ∈ lw_all := lw_g (lw_at lw_m3 120 rfl) rfl
theorem q667 : (Jvm.Cond.methodLink "PerilSeat$Open" (1 : Nat) ({ cls := "PerilSeat$Name", name := "<init>", desc := "(I)V" } : Jvm.MethodName)) ∈ lw_all := lw_g (lw_at lw_m3 121 rfl) rfl
theorem q679 : (Jvm.Cond.laysFinal "PerilSeat$Open" "PerilSeat$Name" "number" "I") ∈ lw_all := lw_g (lw_at lw_m3 133 rfl) rfl
theorem q681 : (Jvm.Cond.superclass "PerilSeat$Open" "PerilSeat$Name") ∈ lw_all := lw_g (lw_at lw_m3 135 rfl) rfl
theorem q773 : (Jvm.Cond.instanceMethod ({ cls := "PerilSeat$Open", name := "kind", desc := "()I" } : Jvm.MethodName)) ∈ lw_all := lw_g (lw_at lw_m3 227 rfl) rfl
theorem q774 : (Jvm.Cond.code ({ cls := "PerilSeat$Open", name := "kind", desc := "()I" } : Jvm.MethodName) prog_12_method_2_code (1 : Nat) (Option.some Jvm.ClassFile.FieldType.int)) ∈ lw_all := lw_g (lw_at lw_m3 228 rfl) rfl
theorem q785 : (Jvm.Cond.selects "PerilSeat$Open" ({ cls := "PerilSeat$Name", name := "kind", desc := "()I" } : Jvm.MethodName) ({ cls := "PerilSeat$Open", name := "kind", desc := "()I" } : Jvm.MethodName)) ∈ lw_all := lw_g (lw_at lw_m3 239 rfl) rfl
theorem q863 : (Jvm.Cond.instanceMethod ({ cls := "PerilSeat$Open", name := "fits", desc := "(II)Z" } : Jvm.MethodName)) ∈ lw_all := lw_g (lw_at lw_m4 77 rfl) rfl
theorem q864 : (Jvm.Cond.code ({ cls := "PerilSeat$Open", name := "fits", desc := "(II)Z" } : Jvm.MethodName) prog_12_method_3_code (3 : Nat) (Option.some Jvm.ClassFile.FieldType.boolean)) ∈ lw_all := lw_g (lw_at lw_m4 78 rfl) rfl
theorem q882 : (Jvm.Cond.selects "PerilSeat$Open" ({ cls := "PerilSeat$Fits", name := "fits", desc := "(II)Z" } : Jvm.MethodName) ({ cls := "PerilSeat$Open", name := "fits", desc := "(II)Z" } : Jvm.MethodName)) ∈ lw_all := lw_g (lw_at lw_m4 96 rfl) rfl
theorem q887 : (Jvm.Cond.unhidden "PerilSeat$Open" "isShut" "()Z") ∈ lw_tbl := lw_at lw_m4 101 rfl
theorem q1492 : (Jvm.Cond.sameMethod "PerilSeat$Open" "PerilSeat$Open" "kind" "()I") ∈ lw_all := lw_g (lw_at lw_m6 226 rfl) rfl
theorem q1494 : (Jvm.Cond.sameMethod "PerilSeat$Open" "PerilSeat$Open" "fits" "(II)Z") ∈ lw_all := lw_g (lw_at lw_m6 228 rfl) rfl
theorem q1504 : (Jvm.Cond.castable "PerilSeat$Open" "PerilSeat$Name") ∈ lw_tbl := lw_at lw_m6 238 rfl
theorem q1516 : (Jvm.Cond.castable "PerilSeat$Open" "java/lang/Object") ∈ lw_tbl := lw_at lw_m7 10 rfl
theorem in_X6 : ∀ w ∈ wsX60, w ∈ lw_all := lw_in wsX60 [679] (by decide +kernel) (by decide +kernel)

/-! PerilSeat$Gold -/
set_option maxRecDepth 100000
def RX7 : String := "PerilSeat$Gold"
def TX7 : u_T := fun k => match k with
  | _ => ("PerilSeat$Name", "number", "I", true)
def tyX7 : Nat → FieldType := fun k => match k with
  | _ => .int
abbrev wsX70 : List Cond := u_ws RX7 TX7 1
theorem nmX7 : ∀ a, a < 1 → ∀ b, b < 1 → a ≠ b → (TX7 a).2.1 ≠ (TX7 b).2.1 := by decide +kernel
theorem tyX7_ok : ∀ k, k < 1 → parseFieldDescriptor (TX7 k).2.2.1 = some (tyX7 k) := by decide +kernel
abbrev cX7_init : ByteArray := prog_4_method_1_code
def yX7_init : MethodName := ⟨RX7, "<init>", "(I)V"⟩
def dkwX7_init_0 : List UInt8 := [42, 27, 183, 0, 1, 177]
abbrev dktX7_init_0 : List UInt8 := dkwX7_init_0 ++ []
theorem dksX7_init_0 : cX7_init.data.toList.drop 0 = dktX7_init_0 := by decide +kernel
theorem dX7_init_0 : decode cX7_init 0 = .ok (.aload_n 0, 1) := dk_42 (dk_at dksX7_init_0 0 rfl rfl)
theorem dX7_init_1 : decode cX7_init 1 = .ok (.iload_n 1, 1) := dk_27 (dk_at dksX7_init_0 1 rfl rfl)
theorem dX7_init_2 : decode cX7_init 2 = .ok (.invokespecial 1, 3) := dk_183 0 1 (dk_at dksX7_init_0 2 rfl rfl)
theorem dX7_init_5 : decode cX7_init 5 = .ok (.return_, 1) := dk_177 (dk_at dksX7_init_0 5 rfl rfl)
abbrev cX7_kind : ByteArray := prog_4_method_2_code
def yX7_kind : MethodName := ⟨RX7, "kind", "()I"⟩
def dkwX7_kind_0 : List UInt8 := [4, 42, 183, 0, 7, 96, 172]
abbrev dktX7_kind_0 : List UInt8 := dkwX7_kind_0 ++ []
theorem dksX7_kind_0 : cX7_kind.data.toList.drop 0 = dktX7_kind_0 := by decide +kernel
theorem dX7_kind_0 : decode cX7_kind 0 = .ok (.iconst 1, 1) := dk_4 (dk_at dksX7_kind_0 0 rfl rfl)
theorem dX7_kind_1 : decode cX7_kind 1 = .ok (.aload_n 0, 1) := dk_42 (dk_at dksX7_kind_0 1 rfl rfl)
theorem dX7_kind_2 : decode cX7_kind 2 = .ok (.invokespecial 7, 3) := dk_183 0 7 (dk_at dksX7_kind_0 2 rfl rfl)
theorem dX7_kind_5 : decode cX7_kind 5 = .ok (.iadd, 1) := dk_96 (dk_at dksX7_kind_0 5 rfl rfl)
theorem dX7_kind_6 : decode cX7_kind 6 = .ok (.ireturn, 1) := dk_172 (dk_at dksX7_kind_0 6 rfl rfl)
abbrev cX7_fits : ByteArray := prog_4_method_3_code
def yX7_fits : MethodName := ⟨RX7, "fits", "(II)Z"⟩
def dkwX7_fits_0 : List UInt8 := [42, 27, 28, 183, 0, 11, 153, 0, 15, 27, 42, 180, 0, 15, 161, 0, 7, 4, 167, 0, 4, 3, 172]
abbrev dktX7_fits_0 : List UInt8 := dkwX7_fits_0 ++ []
theorem dksX7_fits_0 : cX7_fits.data.toList.drop 0 = dktX7_fits_0 := by decide +kernel
theorem dX7_fits_0 : decode cX7_fits 0 = .ok (.aload_n 0, 1) := dk_42 (dk_at dksX7_fits_0 0 rfl rfl)
theorem dX7_fits_1 : decode cX7_fits 1 = .ok (.iload_n 1, 1) := dk_27 (dk_at dksX7_fits_0 1 rfl rfl)
theorem dX7_fits_2 : decode cX7_fits 2 = .ok (.iload_n 2, 1) := dk_28 (dk_at dksX7_fits_0 2 rfl rfl)
theorem dX7_fits_3 : decode cX7_fits 3 = .ok (.invokespecial 11, 3) := dk_183 0 11 (dk_at dksX7_fits_0 3 rfl rfl)
theorem dX7_fits_6 : decode cX7_fits 6 = .ok (.ifCond .eq 15, 3) := dk_153 0 15 (dk_at dksX7_fits_0 6 rfl rfl)
theorem dX7_fits_9 : decode cX7_fits 9 = .ok (.iload_n 1, 1) := dk_27 (dk_at dksX7_fits_0 9 rfl rfl)
theorem dX7_fits_10 : decode cX7_fits 10 = .ok (.aload_n 0, 1) := dk_42 (dk_at dksX7_fits_0 10 rfl rfl)
theorem dX7_fits_11 : decode cX7_fits 11 = .ok (.getfield 15, 3) := dk_180 0 15 (dk_at dksX7_fits_0 11 rfl rfl)
theorem dX7_fits_14 : decode cX7_fits 14 = .ok (.if_icmp .lt 7, 3) := dk_161 0 7 (dk_at dksX7_fits_0 14 rfl rfl)
theorem dX7_fits_17 : decode cX7_fits 17 = .ok (.iconst 1, 1) := dk_4 (dk_at dksX7_fits_0 17 rfl rfl)
theorem dX7_fits_18 : decode cX7_fits 18 = .ok (.goto 4, 3) := dk_167 0 4 (dk_at dksX7_fits_0 18 rfl rfl)
theorem dX7_fits_21 : decode cX7_fits 21 = .ok (.iconst 0, 1) := dk_3 (dk_at dksX7_fits_0 21 rfl rfl)
theorem dX7_fits_22 : decode cX7_fits 22 = .ok (.ireturn, 1) := dk_172 (dk_at dksX7_fits_0 22 rfl rfl)
theorem q91 : (Jvm.Cond.initialized "PerilSeat$Gold") ∈ lw_all := lw_g (lw_at lw_m1 25 rfl) rfl
theorem q674 : (Jvm.Cond.fieldLink "PerilSeat$Gold" (15 : Nat) "PerilSeat$Gold" "number" "I") ∈ lw_all := lw_g (lw_at lw_m3 128 rfl) rfl
theorem q675 : (Jvm.Cond.sameField "PerilSeat$Gold" "PerilSeat$Name" "number" "I") ∈ lw_all := lw_g (lw_at lw_m3 129 rfl) rfl
theorem q683 : (Jvm.Cond.instantiable "PerilSeat$Gold" (1 : Nat)) ∈ lw_all := lw_g (lw_at lw_m3 137 rfl) rfl
theorem q685 : (Jvm.Cond.instanceMethod ({ cls := "PerilSeat$Gold", name := "<init>", desc := "(I)V" } : Jvm.MethodName)) ∈ lw_all := lw_g (lw_at lw_m3 139 rfl) rfl
theorem q686 : (Jvm.Cond.code ({ cls := "PerilSeat$Gold", name := "<init>", desc := "(I)V" } : Jvm.MethodName) prog_4_method_1_code (2 : Nat) (Option.none : Option Jvm.ClassFile.FieldType)) ∈ lw_all := lw_g (lw_at lw_m3 140 rfl) rfl
theorem q687 : (Jvm.Cond.methodLink "PerilSeat$Gold" (1 : Nat) ({ cls := "PerilSeat$Open", name := "<init>", desc := "(I)V" } : Jvm.MethodName)) ∈ lw_all := lw_g (lw_at lw_m3 141 rfl) rfl
theorem q688 : (Jvm.Cond.laysFinal "PerilSeat$Gold" "PerilSeat$Name" "number" "I") ∈ lw_all := lw_g (lw_at lw_m3 142 rfl) rfl
theorem q689 : (Jvm.Cond.superclass "PerilSeat$Gold" "PerilSeat$Open") ∈ lw_all := lw_g (lw_at lw_m3 143 rfl) rfl
theorem q769 : (Jvm.Cond.selects "PerilSeat$Gold" ({ cls := "PerilSeat$Name", name := "kind", desc := "()I" } : Jvm.MethodName) ({ cls := "PerilSeat$Gold", name := "kind", desc := "()I" } : Jvm.MethodName)) ∈ lw_all := lw_g (lw_at lw_m3 223 rfl) rfl
theorem q770 : (Jvm.Cond.instanceMethod ({ cls := "PerilSeat$Gold", name := "kind", desc := "()I" } : Jvm.MethodName)) ∈ lw_all := lw_g (lw_at lw_m3 224 rfl) rfl
theorem q771 : (Jvm.Cond.code ({ cls := "PerilSeat$Gold", name := "kind", desc := "()I" } : Jvm.MethodName) prog_4_method_2_code (1 : Nat) (Option.some Jvm.ClassFile.FieldType.int)) ∈ lw_all := lw_g (lw_at lw_m3 225 rfl) rfl
theorem q772 : (Jvm.Cond.methodLink "PerilSeat$Gold" (7 : Nat) ({ cls := "PerilSeat$Open", name := "kind", desc := "()I" } : Jvm.MethodName)) ∈ lw_all := lw_g (lw_at lw_m3 226 rfl) rfl
theorem q859 : (Jvm.Cond.selects "PerilSeat$Gold" ({ cls := "PerilSeat$Fits", name := "fits", desc := "(II)Z" } : Jvm.MethodName) ({ cls := "PerilSeat$Gold", name := "fits", desc := "(II)Z" } : Jvm.MethodName)) ∈ lw_all := lw_g (lw_at lw_m4 73 rfl) rfl
theorem q860 : (Jvm.Cond.instanceMethod ({ cls := "PerilSeat$Gold", name := "fits", desc := "(II)Z" } : Jvm.MethodName)) ∈ lw_all := lw_g (lw_at lw_m4 74 rfl) rfl
theorem q861 : (Jvm.Cond.code ({ cls := "PerilSeat$Gold", name := "fits", desc := "(II)Z" } : Jvm.MethodName) prog_4_method_3_code (3 : Nat) (Option.some Jvm.ClassFile.FieldType.boolean)) ∈ lw_all := lw_g (lw_at lw_m4 75 rfl) rfl
theorem q862 : (Jvm.Cond.methodLink "PerilSeat$Gold" (11 : Nat) ({ cls := "PerilSeat$Open", name := "fits", desc := "(II)Z" } : Jvm.MethodName)) ∈ lw_all := lw_g (lw_at lw_m4 76 rfl) rfl
theorem q883 : (Jvm.Cond.unhidden "PerilSeat$Gold" "isShut" "()Z") ∈ lw_tbl := lw_at lw_m4 97 rfl
theorem q1500 : (Jvm.Cond.castable "PerilSeat$Gold" "PerilSeat$Name") ∈ lw_tbl := lw_at lw_m6 234 rfl
theorem q1506 : (Jvm.Cond.castable "PerilSeat$Gold" "PerilSeat$Open") ∈ lw_tbl := lw_at lw_m7 0 rfl
theorem q1517 : (Jvm.Cond.castable "PerilSeat$Gold" "java/lang/Object") ∈ lw_tbl := lw_at lw_m7 11 rfl
theorem in_X7 : ∀ w ∈ wsX70, w ∈ lw_all := lw_in wsX70 [688] (by decide +kernel) (by decide +kernel)

/-! PerilSeat$Meek -/
set_option maxRecDepth 100000
def RX8 : String := "PerilSeat$Meek"
def TX8 : u_T := fun k => match k with
  | _ => ("PerilSeat$Name", "number", "I", true)
def tyX8 : Nat → FieldType := fun k => match k with
  | _ => .int
abbrev wsX80 : List Cond := u_ws RX8 TX8 1
theorem nmX8 : ∀ a, a < 1 → ∀ b, b < 1 → a ≠ b → (TX8 a).2.1 ≠ (TX8 b).2.1 := by decide +kernel
theorem tyX8_ok : ∀ k, k < 1 → parseFieldDescriptor (TX8 k).2.2.1 = some (tyX8 k) := by decide +kernel
abbrev cX8_init : ByteArray := prog_8_method_1_code
def yX8_init : MethodName := ⟨RX8, "<init>", "(I)V"⟩
def dkwX8_init_0 : List UInt8 := [42, 27, 183, 0, 1, 177]
abbrev dktX8_init_0 : List UInt8 := dkwX8_init_0 ++ []
theorem dksX8_init_0 : cX8_init.data.toList.drop 0 = dktX8_init_0 := by decide +kernel
theorem dX8_init_0 : decode cX8_init 0 = .ok (.aload_n 0, 1) := dk_42 (dk_at dksX8_init_0 0 rfl rfl)
theorem dX8_init_1 : decode cX8_init 1 = .ok (.iload_n 1, 1) := dk_27 (dk_at dksX8_init_0 1 rfl rfl)
theorem dX8_init_2 : decode cX8_init 2 = .ok (.invokespecial 1, 3) := dk_183 0 1 (dk_at dksX8_init_0 2 rfl rfl)
theorem dX8_init_5 : decode cX8_init 5 = .ok (.return_, 1) := dk_177 (dk_at dksX8_init_0 5 rfl rfl)
abbrev cX8_kind : ByteArray := prog_8_method_2_code
def yX8_kind : MethodName := ⟨RX8, "kind", "()I"⟩
def dkwX8_kind_0 : List UInt8 := [5, 42, 183, 0, 7, 96, 172]
abbrev dktX8_kind_0 : List UInt8 := dkwX8_kind_0 ++ []
theorem dksX8_kind_0 : cX8_kind.data.toList.drop 0 = dktX8_kind_0 := by decide +kernel
theorem dX8_kind_0 : decode cX8_kind 0 = .ok (.iconst 2, 1) := dk_5 (dk_at dksX8_kind_0 0 rfl rfl)
theorem dX8_kind_1 : decode cX8_kind 1 = .ok (.aload_n 0, 1) := dk_42 (dk_at dksX8_kind_0 1 rfl rfl)
theorem dX8_kind_2 : decode cX8_kind 2 = .ok (.invokespecial 7, 3) := dk_183 0 7 (dk_at dksX8_kind_0 2 rfl rfl)
theorem dX8_kind_5 : decode cX8_kind 5 = .ok (.iadd, 1) := dk_96 (dk_at dksX8_kind_0 5 rfl rfl)
theorem dX8_kind_6 : decode cX8_kind 6 = .ok (.ireturn, 1) := dk_172 (dk_at dksX8_kind_0 6 rfl rfl)
abbrev cX8_fits : ByteArray := prog_8_method_3_code
def yX8_fits : MethodName := ⟨RX8, "fits", "(II)Z"⟩
def dkwX8_fits_0 : List UInt8 := [42, 27, 28, 183, 0, 11, 153, 0, 15, 27, 42, 180, 0, 15, 163, 0, 7, 4, 167, 0, 4, 3, 172]
abbrev dktX8_fits_0 : List UInt8 := dkwX8_fits_0 ++ []
theorem dksX8_fits_0 : cX8_fits.data.toList.drop 0 = dktX8_fits_0 := by decide +kernel
theorem dX8_fits_0 : decode cX8_fits 0 = .ok (.aload_n 0, 1) := dk_42 (dk_at dksX8_fits_0 0 rfl rfl)
theorem dX8_fits_1 : decode cX8_fits 1 = .ok (.iload_n 1, 1) := dk_27 (dk_at dksX8_fits_0 1 rfl rfl)
theorem dX8_fits_2 : decode cX8_fits 2 = .ok (.iload_n 2, 1) := dk_28 (dk_at dksX8_fits_0 2 rfl rfl)
theorem dX8_fits_3 : decode cX8_fits 3 = .ok (.invokespecial 11, 3) := dk_183 0 11 (dk_at dksX8_fits_0 3 rfl rfl)
theorem dX8_fits_6 : decode cX8_fits 6 = .ok (.ifCond .eq 15, 3) := dk_153 0 15 (dk_at dksX8_fits_0 6 rfl rfl)
theorem dX8_fits_9 : decode cX8_fits 9 = .ok (.iload_n 1, 1) := dk_27 (dk_at dksX8_fits_0 9 rfl rfl)
theorem dX8_fits_10 : decode cX8_fits 10 = .ok (.aload_n 0, 1) := dk_42 (dk_at dksX8_fits_0 10 rfl rfl)
theorem dX8_fits_11 : decode cX8_fits 11 = .ok (.getfield 15, 3) := dk_180 0 15 (dk_at dksX8_fits_0 11 rfl rfl)
theorem dX8_fits_14 : decode cX8_fits 14 = .ok (.if_icmp .gt 7, 3) := dk_163 0 7 (dk_at dksX8_fits_0 14 rfl rfl)
theorem dX8_fits_17 : decode cX8_fits 17 = .ok (.iconst 1, 1) := dk_4 (dk_at dksX8_fits_0 17 rfl rfl)
theorem dX8_fits_18 : decode cX8_fits 18 = .ok (.goto 4, 3) := dk_167 0 4 (dk_at dksX8_fits_0 18 rfl rfl)
theorem dX8_fits_21 : decode cX8_fits 21 = .ok (.iconst 0, 1) := dk_3 (dk_at dksX8_fits_0 21 rfl rfl)
theorem dX8_fits_22 : decode cX8_fits 22 = .ok (.ireturn, 1) := dk_172 (dk_at dksX8_fits_0 22 rfl rfl)
theorem q92 : (Jvm.Cond.initialized "PerilSeat$Meek") ∈ lw_all := lw_g (lw_at lw_m1 26 rfl) rfl
theorem q676 : (Jvm.Cond.fieldLink "PerilSeat$Meek" (15 : Nat) "PerilSeat$Meek" "number" "I") ∈ lw_all := lw_g (lw_at lw_m3 130 rfl) rfl
theorem q677 : (Jvm.Cond.sameField "PerilSeat$Meek" "PerilSeat$Name" "number" "I") ∈ lw_all := lw_g (lw_at lw_m3 131 rfl) rfl
theorem q691 : (Jvm.Cond.instantiable "PerilSeat$Meek" (1 : Nat)) ∈ lw_all := lw_g (lw_at lw_m3 145 rfl) rfl
theorem q693 : (Jvm.Cond.instanceMethod ({ cls := "PerilSeat$Meek", name := "<init>", desc := "(I)V" } : Jvm.MethodName)) ∈ lw_all := lw_g (lw_at lw_m3 147 rfl) rfl
theorem q694 : (Jvm.Cond.code ({ cls := "PerilSeat$Meek", name := "<init>", desc := "(I)V" } : Jvm.MethodName) prog_8_method_1_code (2 : Nat) (Option.none : Option Jvm.ClassFile.FieldType)) ∈ lw_all := lw_g (lw_at lw_m3 148 rfl) rfl
theorem q695 : (Jvm.Cond.methodLink "PerilSeat$Meek" (1 : Nat) ({ cls := "PerilSeat$Open", name := "<init>", desc := "(I)V" } : Jvm.MethodName)) ∈ lw_all := lw_g (lw_at lw_m3 149 rfl) rfl
theorem q696 : (Jvm.Cond.laysFinal "PerilSeat$Meek" "PerilSeat$Name" "number" "I") ∈ lw_all := lw_g (lw_at lw_m3 150 rfl) rfl
theorem q697 : (Jvm.Cond.superclass "PerilSeat$Meek" "PerilSeat$Open") ∈ lw_all := lw_g (lw_at lw_m3 151 rfl) rfl
theorem q778 : (Jvm.Cond.selects "PerilSeat$Meek" ({ cls := "PerilSeat$Name", name := "kind", desc := "()I" } : Jvm.MethodName) ({ cls := "PerilSeat$Meek", name := "kind", desc := "()I" } : Jvm.MethodName)) ∈ lw_all := lw_g (lw_at lw_m3 232 rfl) rfl
theorem q779 : (Jvm.Cond.instanceMethod ({ cls := "PerilSeat$Meek", name := "kind", desc := "()I" } : Jvm.MethodName)) ∈ lw_all := lw_g (lw_at lw_m3 233 rfl) rfl
theorem q780 : (Jvm.Cond.code ({ cls := "PerilSeat$Meek", name := "kind", desc := "()I" } : Jvm.MethodName) prog_8_method_2_code (1 : Nat) (Option.some Jvm.ClassFile.FieldType.int)) ∈ lw_all := lw_g (lw_at lw_m3 234 rfl) rfl
theorem q781 : (Jvm.Cond.methodLink "PerilSeat$Meek" (7 : Nat) ({ cls := "PerilSeat$Open", name := "kind", desc := "()I" } : Jvm.MethodName)) ∈ lw_all := lw_g (lw_at lw_m3 235 rfl) rfl
theorem q868 : (Jvm.Cond.selects "PerilSeat$Meek" ({ cls := "PerilSeat$Fits", name := "fits", desc := "(II)Z" } : Jvm.MethodName) ({ cls := "PerilSeat$Meek", name := "fits", desc := "(II)Z" } : Jvm.MethodName)) ∈ lw_all := lw_g (lw_at lw_m4 82 rfl) rfl
theorem q869 : (Jvm.Cond.instanceMethod ({ cls := "PerilSeat$Meek", name := "fits", desc := "(II)Z" } : Jvm.MethodName)) ∈ lw_all := lw_g (lw_at lw_m4 83 rfl) rfl
theorem q870 : (Jvm.Cond.code ({ cls := "PerilSeat$Meek", name := "fits", desc := "(II)Z" } : Jvm.MethodName) prog_8_method_3_code (3 : Nat) (Option.some Jvm.ClassFile.FieldType.boolean)) ∈ lw_all := lw_g (lw_at lw_m4 84 rfl) rfl
theorem q871 : (Jvm.Cond.methodLink "PerilSeat$Meek" (11 : Nat) ({ cls := "PerilSeat$Open", name := "fits", desc := "(II)Z" } : Jvm.MethodName)) ∈ lw_all := lw_g (lw_at lw_m4 85 rfl) rfl
theorem q885 : (Jvm.Cond.unhidden "PerilSeat$Meek" "isShut" "()Z") ∈ lw_tbl := lw_at lw_m4 99 rfl
theorem q1502 : (Jvm.Cond.castable "PerilSeat$Meek" "PerilSeat$Name") ∈ lw_tbl := lw_at lw_m6 236 rfl
theorem q1507 : (Jvm.Cond.castable "PerilSeat$Meek" "PerilSeat$Open") ∈ lw_tbl := lw_at lw_m7 1 rfl
theorem q1518 : (Jvm.Cond.castable "PerilSeat$Meek" "java/lang/Object") ∈ lw_tbl := lw_at lw_m7 12 rfl
theorem in_X8 : ∀ w ∈ wsX80, w ∈ lw_all := lw_in wsX80 [696] (by decide +kernel) (by decide +kernel)

/-! PerilSeat$Kin -/
set_option maxRecDepth 100000
def RX9 : String := "PerilSeat$Kin"
def TX9 : u_T := fun k => match k with
  | _ => ("PerilSeat$Name", "number", "I", true)
def tyX9 : Nat → FieldType := fun k => match k with
  | _ => .int
abbrev wsX90 : List Cond := u_ws RX9 TX9 1
theorem nmX9 : ∀ a, a < 1 → ∀ b, b < 1 → a ≠ b → (TX9 a).2.1 ≠ (TX9 b).2.1 := by decide +kernel
theorem tyX9_ok : ∀ k, k < 1 → parseFieldDescriptor (TX9 k).2.2.1 = some (tyX9 k) := by decide +kernel
abbrev cX9_init : ByteArray := prog_5_method_1_code
def yX9_init : MethodName := ⟨RX9, "<init>", "(I)V"⟩
def dkwX9_init_0 : List UInt8 := [42, 27, 183, 0, 1, 177]
abbrev dktX9_init_0 : List UInt8 := dkwX9_init_0 ++ []
theorem dksX9_init_0 : cX9_init.data.toList.drop 0 = dktX9_init_0 := by decide +kernel
theorem dX9_init_0 : decode cX9_init 0 = .ok (.aload_n 0, 1) := dk_42 (dk_at dksX9_init_0 0 rfl rfl)
theorem dX9_init_1 : decode cX9_init 1 = .ok (.iload_n 1, 1) := dk_27 (dk_at dksX9_init_0 1 rfl rfl)
theorem dX9_init_2 : decode cX9_init 2 = .ok (.invokespecial 1, 3) := dk_183 0 1 (dk_at dksX9_init_0 2 rfl rfl)
theorem dX9_init_5 : decode cX9_init 5 = .ok (.return_, 1) := dk_177 (dk_at dksX9_init_0 5 rfl rfl)
abbrev cX9_kind : ByteArray := prog_5_method_2_code
def yX9_kind : MethodName := ⟨RX9, "kind", "()I"⟩
theorem dX9_kind_0 : decode cX9_kind 0 = .ok (.iconst 3, 1) := by decide +kernel
theorem dX9_kind_1 : decode cX9_kind 1 = .ok (.ireturn, 1) := by decide +kernel
abbrev cX9_fits : ByteArray := prog_5_method_3_code
def yX9_fits : MethodName := ⟨RX9, "fits", "(II)Z"⟩
def dkwX9_fits_0 : List UInt8 := [28, 42, 180, 0, 7, 160, 0, 7, 4, 167, 0, 4, 3, 172]
abbrev dktX9_fits_0 : List UInt8 := dkwX9_fits_0 ++ []
theorem dksX9_fits_0 : cX9_fits.data.toList.drop 0 = dktX9_fits_0 := by decide +kernel
theorem dX9_fits_0 : decode cX9_fits 0 = .ok (.iload_n 2, 1) := dk_28 (dk_at dksX9_fits_0 0 rfl rfl)
theorem dX9_fits_1 : decode cX9_fits 1 = .ok (.aload_n 0, 1) := dk_42 (dk_at dksX9_fits_0 1 rfl rfl)
theorem dX9_fits_2 : decode cX9_fits 2 = .ok (.getfield 7, 3) := dk_180 0 7 (dk_at dksX9_fits_0 2 rfl rfl)
theorem dX9_fits_5 : decode cX9_fits 5 = .ok (.if_icmp .ne 7, 3) := dk_160 0 7 (dk_at dksX9_fits_0 5 rfl rfl)
theorem dX9_fits_8 : decode cX9_fits 8 = .ok (.iconst 1, 1) := dk_4 (dk_at dksX9_fits_0 8 rfl rfl)
theorem dX9_fits_9 : decode cX9_fits 9 = .ok (.goto 4, 3) := dk_167 0 4 (dk_at dksX9_fits_0 9 rfl rfl)
theorem dX9_fits_12 : decode cX9_fits 12 = .ok (.iconst 0, 1) := dk_3 (dk_at dksX9_fits_0 12 rfl rfl)
theorem dX9_fits_13 : decode cX9_fits 13 = .ok (.ireturn, 1) := dk_172 (dk_at dksX9_fits_0 13 rfl rfl)
theorem q93 : (Jvm.Cond.initialized "PerilSeat$Kin") ∈ lw_all := lw_g (lw_at lw_m1 27 rfl) rfl
theorem q672 : (Jvm.Cond.fieldLink "PerilSeat$Kin" (7 : Nat) "PerilSeat$Kin" "number" "I") ∈ lw_all := lw_g (lw_at lw_m3 126 rfl) rfl
theorem q673 : (Jvm.Cond.sameField "PerilSeat$Kin" "PerilSeat$Name" "number" "I") ∈ lw_all := lw_g (lw_at lw_m3 127 rfl) rfl
theorem q699 : (Jvm.Cond.instantiable "PerilSeat$Kin" (1 : Nat)) ∈ lw_all := lw_g (lw_at lw_m3 153 rfl) rfl
theorem q701 : (Jvm.Cond.instanceMethod ({ cls := "PerilSeat$Kin", name := "<init>", desc := "(I)V" } : Jvm.MethodName)) ∈ lw_all := lw_g (lw_at lw_m3 155 rfl) rfl
theorem q702 : (Jvm.Cond.code ({ cls := "PerilSeat$Kin", name := "<init>", desc := "(I)V" } : Jvm.MethodName) prog_5_method_1_code (2 : Nat) (Option.none : Option Jvm.ClassFile.FieldType)) ∈ lw_all := lw_g (lw_at lw_m3 156 rfl) rfl
theorem q703 : (Jvm.Cond.methodLink "PerilSeat$Kin" (1 : Nat) ({ cls := "PerilSeat$Name", name := "<init>", desc := "(I)V" } : Jvm.MethodName)) ∈ lw_all := lw_g (lw_at lw_m3 157 rfl) rfl
theorem q704 : (Jvm.Cond.laysFinal "PerilSeat$Kin" "PerilSeat$Name" "number" "I") ∈ lw_all := lw_g (lw_at lw_m3 158 rfl) rfl
theorem q705 : (Jvm.Cond.superclass "PerilSeat$Kin" "PerilSeat$Name") ∈ lw_all := lw_g (lw_at lw_m3 159 rfl) rfl
theorem q775 : (Jvm.Cond.selects "PerilSeat$Kin" ({ cls := "PerilSeat$Name", name := "kind", desc := "()I" } : Jvm.MethodName) ({ cls := "PerilSeat$Kin", name := "kind", desc := "()I" } : Jvm.MethodName)) ∈ lw_all := lw_g (lw_at lw_m3 229 rfl) rfl
theorem q776 : (Jvm.Cond.instanceMethod ({ cls := "PerilSeat$Kin", name := "kind", desc := "()I" } : Jvm.MethodName)) ∈ lw_all := lw_g (lw_at lw_m3 230 rfl) rfl
theorem q777 : (Jvm.Cond.code ({ cls := "PerilSeat$Kin", name := "kind", desc := "()I" } : Jvm.MethodName) prog_5_method_2_code (1 : Nat) (Option.some Jvm.ClassFile.FieldType.int)) ∈ lw_all := lw_g (lw_at lw_m3 231 rfl) rfl
theorem q865 : (Jvm.Cond.selects "PerilSeat$Kin" ({ cls := "PerilSeat$Fits", name := "fits", desc := "(II)Z" } : Jvm.MethodName) ({ cls := "PerilSeat$Kin", name := "fits", desc := "(II)Z" } : Jvm.MethodName)) ∈ lw_all := lw_g (lw_at lw_m4 79 rfl) rfl
theorem q866 : (Jvm.Cond.instanceMethod ({ cls := "PerilSeat$Kin", name := "fits", desc := "(II)Z" } : Jvm.MethodName)) ∈ lw_all := lw_g (lw_at lw_m4 80 rfl) rfl
theorem q867 : (Jvm.Cond.code ({ cls := "PerilSeat$Kin", name := "fits", desc := "(II)Z" } : Jvm.MethodName) prog_5_method_3_code (3 : Nat) (Option.some Jvm.ClassFile.FieldType.boolean)) ∈ lw_all := lw_g (lw_at lw_m4 81 rfl) rfl
theorem q884 : (Jvm.Cond.unhidden "PerilSeat$Kin" "isShut" "()Z") ∈ lw_tbl := lw_at lw_m4 98 rfl
theorem q1501 : (Jvm.Cond.castable "PerilSeat$Kin" "PerilSeat$Name") ∈ lw_tbl := lw_at lw_m6 235 rfl
theorem q1519 : (Jvm.Cond.castable "PerilSeat$Kin" "java/lang/Object") ∈ lw_tbl := lw_at lw_m7 13 rfl
theorem in_X9 : ∀ w ∈ wsX90, w ∈ lw_all := lw_in wsX90 [704] (by decide +kernel) (by decide +kernel)

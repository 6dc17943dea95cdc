/-! MissedTrains$Asked -/
set_option maxRecDepth 100000
def RX1 : String := "MissedTrains$Asked"
abbrev cX1_init : ByteArray := prog_2_method_1_code
def yX1_init : MethodName := ⟨RX1, "<init>", "()V"⟩
theorem dX1_init_0 : decode cX1_init 0 = .ok (.aload_n 0, 1) := by decide +kernel
theorem dX1_init_1 : decode cX1_init 1 = .ok (.invokespecial 1, 3) := by decide +kernel
theorem dX1_init_4 : decode cX1_init 4 = .ok (.return_, 1) := by decide +kernel
theorem q103 : (Jvm.Cond.initialized "MissedTrains$Asked") ∈ lw_all := lw_g (lw_at lw_m1 2 rfl) rfl
theorem q144 : (Jvm.Cond.instanceMethod ({ cls := "MissedTrains$Asked", name := "<init>", desc := "()V" } : Jvm.MethodName)) ∈ lw_all := lw_g (lw_at lw_m1 43 rfl) rfl
theorem q145 : (Jvm.Cond.code ({ cls := "MissedTrains$Asked", name := "<init>", desc := "()V" } : Jvm.MethodName) prog_2_method_1_code (1 : Nat) (Option.none : Option Jvm.ClassFile.FieldType)) ∈ lw_all := lw_g (lw_at lw_m1 44 rfl) rfl
theorem q146 : (Jvm.Cond.methodLink "MissedTrains$Asked" (1 : Nat) ({ cls := "java/lang/Object", name := "<init>", desc := "()V" } : Jvm.MethodName)) ∈ lw_all := lw_g (lw_at lw_m1 45 rfl) rfl
theorem q178 : (Jvm.Cond.soleField "MissedTrains$Asked" "isRefused") ∈ lw_all := lw_g (lw_at lw_m1 77 rfl) rfl
theorem q956 : (Jvm.Cond.declares ({ cls := "MissedTrains$Asked", name := "value", desc := "(I)I" } : Jvm.MethodName)) ∈ lw_tbl := lw_at lw_m4 135 rfl
theorem q957 : (Jvm.Cond.sameMethod "MissedTrains$Asked" "MissedTrains$Asked" "value" "(I)I") ∈ lw_all := lw_g (lw_at lw_m4 136 rfl) rfl
/-! MissedTrains$Moment -/
set_option maxRecDepth 100000
def RX2 : String := "MissedTrains$Moment"
def TX2 : u_T := fun k => match k with
  | 0 => ("MissedTrains$Asked", "isRefused", "Z", false)
  | 1 => ("MissedTrains$Moment", "train", "I", false)
  | 2 => ("MissedTrains$Moment", "station", "I", false)
  | 3 => ("MissedTrains$Moment", "stop", "I", false)
  | 4 => ("MissedTrains$Moment", "late", "I", false)
  | 5 => ("MissedTrains$Moment", "waiting", "I", false)
  | 6 => ("MissedTrains$Moment", "person", "I", false)
  | 7 => ("MissedTrains$Moment", "missed", "I", false)
  | 8 => ("MissedTrains$Moment", "day", "I", false)
  | _ => ("MissedTrains$Moment", "drawn", "I", false)
def tyX2 : Nat → FieldType := fun k => match k with
  | 0 => .boolean
  | 1 => .int
  | 2 => .int
  | 3 => .int
  | 4 => .int
  | 5 => .int
  | 6 => .int
  | 7 => .int
  | 8 => .int
  | _ => .int
abbrev wsX20 : List Cond := u_ws RX2 TX2 10
theorem nmX2 : ∀ a, a < 10 → ∀ b, b < 10 → a ≠ b → (TX2 a).2.1 ≠ (TX2 b).2.1 := by decide +kernel
theorem tyX2_ok : ∀ k, k < 10 → parseFieldDescriptor (TX2 k).2.2.1 = some (tyX2 k) := by decide +kernel
abbrev cX2_init : ByteArray := prog_7_method_1_code
def yX2_init : MethodName := ⟨RX2, "<init>", "()V"⟩
theorem dX2_init_0 : decode cX2_init 0 = .ok (.aload_n 0, 1) := by decide +kernel
theorem dX2_init_1 : decode cX2_init 1 = .ok (.invokespecial 3, 3) := by decide +kernel
theorem dX2_init_4 : decode cX2_init 4 = .ok (.return_, 1) := by decide +kernel
abbrev cX2_of : ByteArray := prog_7_method_2_code
def yX2_of : MethodName := ⟨RX2, "of", "(IIIIIII)LMissedTrains$Moment;"⟩
def dkwX2_of_2 : List UInt8 := [21, 7, 181, 0, 36, 42, 176]
abbrev dktX2_of_2 : List UInt8 := dkwX2_of_2 ++ []
def dkwX2_of_1 : List UInt8 := [181, 0, 24, 42, 3, 181, 0, 27, 42, 3, 181, 0, 30, 42, 21, 6, 16, 7, 112, 181, 0, 33, 42]
abbrev dktX2_of_1 : List UInt8 := dkwX2_of_1 ++ dktX2_of_2
def dkwX2_of_0 : List UInt8 := [42, 27, 181, 0, 9, 42, 28, 181, 0, 15, 42, 29, 181, 0, 18, 42, 21, 4, 181, 0, 21, 42, 21, 5]
abbrev dktX2_of_0 : List UInt8 := dkwX2_of_0 ++ dktX2_of_1
theorem dksX2_of_0 : cX2_of.data.toList.drop 0 = dktX2_of_0 := by decide +kernel
theorem dksX2_of_1 : cX2_of.data.toList.drop 24 = dktX2_of_1 := dk_seg dksX2_of_0 24 rfl rfl
theorem dksX2_of_2 : cX2_of.data.toList.drop 47 = dktX2_of_2 := dk_seg dksX2_of_1 23 rfl rfl
theorem dX2_of_0 : decode cX2_of 0 = .ok (.aload_n 0, 1) := dk_42 (dk_at dksX2_of_0 0 rfl rfl)
theorem dX2_of_1 : decode cX2_of 1 = .ok (.iload_n 1, 1) := dk_27 (dk_at dksX2_of_0 1 rfl rfl)
theorem dX2_of_2 : decode cX2_of 2 = .ok (.putfield 9, 3) := dk_181 0 9 (dk_at dksX2_of_0 2 rfl rfl)
theorem dX2_of_5 : decode cX2_of 5 = .ok (.aload_n 0, 1) := dk_42 (dk_at dksX2_of_0 5 rfl rfl)
theorem dX2_of_6 : decode cX2_of 6 = .ok (.iload_n 2, 1) := dk_28 (dk_at dksX2_of_0 6 rfl rfl)
theorem dX2_of_7 : decode cX2_of 7 = .ok (.putfield 15, 3) := dk_181 0 15 (dk_at dksX2_of_0 7 rfl rfl)
theorem dX2_of_10 : decode cX2_of 10 = .ok (.aload_n 0, 1) := dk_42 (dk_at dksX2_of_0 10 rfl rfl)
theorem dX2_of_11 : decode cX2_of 11 = .ok (.iload_n 3, 1) := dk_29 (dk_at dksX2_of_0 11 rfl rfl)
theorem dX2_of_12 : decode cX2_of 12 = .ok (.putfield 18, 3) := dk_181 0 18 (dk_at dksX2_of_0 12 rfl rfl)
theorem dX2_of_15 : decode cX2_of 15 = .ok (.aload_n 0, 1) := dk_42 (dk_at dksX2_of_0 15 rfl rfl)
theorem dX2_of_16 : decode cX2_of 16 = .ok (.iload 4, 2) := dk_21 4 (dk_at dksX2_of_0 16 rfl rfl)
theorem dX2_of_18 : decode cX2_of 18 = .ok (.putfield 21, 3) := dk_181 0 21 (dk_at dksX2_of_0 18 rfl rfl)
theorem dX2_of_21 : decode cX2_of 21 = .ok (.aload_n 0, 1) := dk_42 (dk_at dksX2_of_0 21 rfl rfl)
theorem dX2_of_22 : decode cX2_of 22 = .ok (.iload 5, 2) := dk_21 5 (dk_at dksX2_of_0 22 rfl rfl)
theorem dX2_of_24 : decode cX2_of 24 = .ok (.putfield 24, 3) := dk_181 0 24 (dk_at dksX2_of_1 0 rfl rfl)
theorem dX2_of_27 : decode cX2_of 27 = .ok (.aload_n 0, 1) := dk_42 (dk_at dksX2_of_1 3 rfl rfl)
theorem dX2_of_28 : decode cX2_of 28 = .ok (.iconst 0, 1) := dk_3 (dk_at dksX2_of_1 4 rfl rfl)
theorem dX2_of_29 : decode cX2_of 29 = .ok (.putfield 27, 3) := dk_181 0 27 (dk_at dksX2_of_1 5 rfl rfl)
theorem dX2_of_32 : decode cX2_of 32 = .ok (.aload_n 0, 1) := dk_42 (dk_at dksX2_of_1 8 rfl rfl)
theorem dX2_of_33 : decode cX2_of 33 = .ok (.iconst 0, 1) := dk_3 (dk_at dksX2_of_1 9 rfl rfl)
theorem dX2_of_34 : decode cX2_of 34 = .ok (.putfield 30, 3) := dk_181 0 30 (dk_at dksX2_of_1 10 rfl rfl)
theorem dX2_of_37 : decode cX2_of 37 = .ok (.aload_n 0, 1) := dk_42 (dk_at dksX2_of_1 13 rfl rfl)
theorem dX2_of_38 : decode cX2_of 38 = .ok (.iload 6, 2) := dk_21 6 (dk_at dksX2_of_1 14 rfl rfl)
theorem dX2_of_40 : decode cX2_of 40 = .ok (.bipush 7, 2) := dk_16 7 (dk_at dksX2_of_1 16 rfl rfl)
theorem dX2_of_42 : decode cX2_of 42 = .ok (.irem, 1) := dk_112 (dk_at dksX2_of_1 18 rfl rfl)
theorem dX2_of_43 : decode cX2_of 43 = .ok (.putfield 33, 3) := dk_181 0 33 (dk_at dksX2_of_1 19 rfl rfl)
theorem dX2_of_46 : decode cX2_of 46 = .ok (.aload_n 0, 1) := dk_42 (dk_at dksX2_of_1 22 rfl rfl)
theorem dX2_of_47 : decode cX2_of 47 = .ok (.iload 7, 2) := dk_21 7 (dk_at dksX2_of_2 0 rfl rfl)
theorem dX2_of_49 : decode cX2_of 49 = .ok (.putfield 36, 3) := dk_181 0 36 (dk_at dksX2_of_2 2 rfl rfl)
theorem dX2_of_52 : decode cX2_of 52 = .ok (.aload_n 0, 1) := dk_42 (dk_at dksX2_of_2 5 rfl rfl)
theorem dX2_of_53 : decode cX2_of 53 = .ok (.areturn, 1) := dk_176 (dk_at dksX2_of_2 6 rfl rfl)
abbrev cX2_value : ByteArray := prog_7_method_4_code
def yX2_value : MethodName := ⟨RX2, "value", "(I)I"⟩
def dkwX2_value_3 : List UInt8 := [172, 42, 180, 0, 27, 172, 42, 180, 0, 30, 172, 42, 180, 0, 33, 172, 42, 180, 0, 36, 172]
abbrev dktX2_value_3 : List UInt8 := dkwX2_value_3 ++ []
def dkwX2_value_2 : List UInt8 := [42, 180, 0, 9, 172, 42, 180, 0, 15, 172, 42, 180, 0, 18, 172, 42, 180, 0, 21, 172, 42, 180, 0, 24]
abbrev dktX2_value_2 : List UInt8 := dkwX2_value_2 ++ dktX2_value_3
def dkwX2_value_1 : List UInt8 := [170, 0, 0, 0, 0, 0, 135, 0, 0, 0, 102, 0, 0, 0, 121, 0, 0, 0, 125, 0, 0, 0, 135, 0, 0, 0, 135, 0, 0, 0, 135, 0, 0, 0, 135, 0, 0, 0, 105, 0, 0, 0, 110, 0, 0, 0, 135, 0, 0, 0, 115, 0, 0, 0, 135, 0, 0, 0, 120, 0, 0, 0, 135, 0, 0, 0, 95, 0, 0, 0, 100, 0, 0, 0, 135, 0, 0, 0, 135, 0, 0, 0, 135, 0, 0, 0, 135, 0, 0, 0, 135, 0, 0, 0, 130]
abbrev dktX2_value_1 : List UInt8 := dkwX2_value_1 ++ dktX2_value_2
def dkwX2_value_0 : List UInt8 := [27]
abbrev dktX2_value_0 : List UInt8 := dkwX2_value_0 ++ dktX2_value_1
theorem dksX2_value_0 : cX2_value.data.toList.drop 0 = dktX2_value_0 := by decide +kernel
theorem dksX2_value_1 : cX2_value.data.toList.drop 1 = dktX2_value_1 := dk_seg dksX2_value_0 1 rfl rfl
theorem dksX2_value_2 : cX2_value.data.toList.drop 96 = dktX2_value_2 := dk_seg dksX2_value_1 95 rfl rfl
theorem dksX2_value_3 : cX2_value.data.toList.drop 120 = dktX2_value_3 := dk_seg dksX2_value_2 24 rfl rfl
theorem dX2_value_0 : decode cX2_value 0 = .ok (.iload_n 1, 1) := dk_27 (dk_at dksX2_value_0 0 rfl rfl)
theorem dX2_value_1 : decode cX2_value 1 = .ok (.tableswitch 135 102 121 #[125, 135, 135, 135, 135, 105, 110, 135, 115, 135, 120, 135, 95, 100, 135, 135, 135, 135, 135, 130], 95) := by decide +kernel
theorem dX2_value_96 : decode cX2_value 96 = .ok (.aload_n 0, 1) := dk_42 (dk_at dksX2_value_2 0 rfl rfl)
theorem dX2_value_97 : decode cX2_value 97 = .ok (.getfield 9, 3) := dk_180 0 9 (dk_at dksX2_value_2 1 rfl rfl)
theorem dX2_value_100 : decode cX2_value 100 = .ok (.ireturn, 1) := dk_172 (dk_at dksX2_value_2 4 rfl rfl)
theorem dX2_value_101 : decode cX2_value 101 = .ok (.aload_n 0, 1) := dk_42 (dk_at dksX2_value_2 5 rfl rfl)
theorem dX2_value_102 : decode cX2_value 102 = .ok (.getfield 15, 3) := dk_180 0 15 (dk_at dksX2_value_2 6 rfl rfl)
theorem dX2_value_105 : decode cX2_value 105 = .ok (.ireturn, 1) := dk_172 (dk_at dksX2_value_2 9 rfl rfl)
theorem dX2_value_106 : decode cX2_value 106 = .ok (.aload_n 0, 1) := dk_42 (dk_at dksX2_value_2 10 rfl rfl)
theorem dX2_value_107 : decode cX2_value 107 = .ok (.getfield 18, 3) := dk_180 0 18 (dk_at dksX2_value_2 11 rfl rfl)
theorem dX2_value_110 : decode cX2_value 110 = .ok (.ireturn, 1) := dk_172 (dk_at dksX2_value_2 14 rfl rfl)
theorem dX2_value_111 : decode cX2_value 111 = .ok (.aload_n 0, 1) := dk_42 (dk_at dksX2_value_2 15 rfl rfl)
theorem dX2_value_112 : decode cX2_value 112 = .ok (.getfield 21, 3) := dk_180 0 21 (dk_at dksX2_value_2 16 rfl rfl)
theorem dX2_value_115 : decode cX2_value 115 = .ok (.ireturn, 1) := dk_172 (dk_at dksX2_value_2 19 rfl rfl)
theorem dX2_value_116 : decode cX2_value 116 = .ok (.aload_n 0, 1) := dk_42 (dk_at dksX2_value_2 20 rfl rfl)
theorem dX2_value_117 : decode cX2_value 117 = .ok (.getfield 24, 3) := dk_180 0 24 (dk_at dksX2_value_2 21 rfl rfl)
theorem dX2_value_120 : decode cX2_value 120 = .ok (.ireturn, 1) := dk_172 (dk_at dksX2_value_3 0 rfl rfl)
theorem dX2_value_121 : decode cX2_value 121 = .ok (.aload_n 0, 1) := dk_42 (dk_at dksX2_value_3 1 rfl rfl)
theorem dX2_value_122 : decode cX2_value 122 = .ok (.getfield 27, 3) := dk_180 0 27 (dk_at dksX2_value_3 2 rfl rfl)
theorem dX2_value_125 : decode cX2_value 125 = .ok (.ireturn, 1) := dk_172 (dk_at dksX2_value_3 5 rfl rfl)
theorem dX2_value_126 : decode cX2_value 126 = .ok (.aload_n 0, 1) := dk_42 (dk_at dksX2_value_3 6 rfl rfl)
theorem dX2_value_127 : decode cX2_value 127 = .ok (.getfield 30, 3) := dk_180 0 30 (dk_at dksX2_value_3 7 rfl rfl)
theorem dX2_value_130 : decode cX2_value 130 = .ok (.ireturn, 1) := dk_172 (dk_at dksX2_value_3 10 rfl rfl)
theorem dX2_value_131 : decode cX2_value 131 = .ok (.aload_n 0, 1) := dk_42 (dk_at dksX2_value_3 11 rfl rfl)
theorem dX2_value_132 : decode cX2_value 132 = .ok (.getfield 33, 3) := dk_180 0 33 (dk_at dksX2_value_3 12 rfl rfl)
theorem dX2_value_135 : decode cX2_value 135 = .ok (.ireturn, 1) := dk_172 (dk_at dksX2_value_3 15 rfl rfl)
theorem dX2_value_136 : decode cX2_value 136 = .ok (.aload_n 0, 1) := dk_42 (dk_at dksX2_value_3 16 rfl rfl)
theorem dX2_value_137 : decode cX2_value 137 = .ok (.getfield 36, 3) := dk_180 0 36 (dk_at dksX2_value_3 17 rfl rfl)
theorem dX2_value_140 : decode cX2_value 140 = .ok (.ireturn, 1) := dk_172 (dk_at dksX2_value_3 20 rfl rfl)
abbrev cX2_with : ByteArray := prog_7_method_3_code
def yX2_with : MethodName := ⟨RX2, "with", "(II)LMissedTrains$Moment;"⟩
def dkwX2_with_0 : List UInt8 := [42, 27, 181, 0, 27, 42, 28, 181, 0, 30, 42, 176]
abbrev dktX2_with_0 : List UInt8 := dkwX2_with_0 ++ []
theorem dksX2_with_0 : cX2_with.data.toList.drop 0 = dktX2_with_0 := by decide +kernel
theorem dX2_with_0 : decode cX2_with 0 = .ok (.aload_n 0, 1) := dk_42 (dk_at dksX2_with_0 0 rfl rfl)
theorem dX2_with_1 : decode cX2_with 1 = .ok (.iload_n 1, 1) := dk_27 (dk_at dksX2_with_0 1 rfl rfl)
theorem dX2_with_2 : decode cX2_with 2 = .ok (.putfield 27, 3) := dk_181 0 27 (dk_at dksX2_with_0 2 rfl rfl)
theorem dX2_with_5 : decode cX2_with 5 = .ok (.aload_n 0, 1) := dk_42 (dk_at dksX2_with_0 5 rfl rfl)
theorem dX2_with_6 : decode cX2_with 6 = .ok (.iload_n 2, 1) := dk_28 (dk_at dksX2_with_0 6 rfl rfl)
theorem dX2_with_7 : decode cX2_with 7 = .ok (.putfield 30, 3) := dk_181 0 30 (dk_at dksX2_with_0 7 rfl rfl)
theorem dX2_with_10 : decode cX2_with 10 = .ok (.aload_n 0, 1) := dk_42 (dk_at dksX2_with_0 10 rfl rfl)
theorem dX2_with_11 : decode cX2_with 11 = .ok (.areturn, 1) := dk_176 (dk_at dksX2_with_0 11 rfl rfl)
theorem q104 : (Jvm.Cond.initialized "MissedTrains$Moment") ∈ lw_all := lw_g (lw_at lw_m1 3 rfl) rfl
theorem q139 : (Jvm.Cond.instantiable "MissedTrains$Moment" (10 : Nat)) ∈ lw_all := lw_g (lw_at lw_m1 38 rfl) rfl
theorem q141 : (Jvm.Cond.instanceMethod ({ cls := "MissedTrains$Moment", name := "<init>", desc := "()V" } : Jvm.MethodName)) ∈ lw_all := lw_g (lw_at lw_m1 40 rfl) rfl
theorem q142 : (Jvm.Cond.code ({ cls := "MissedTrains$Moment", name := "<init>", desc := "()V" } : Jvm.MethodName) prog_7_method_1_code (1 : Nat) (Option.none : Option Jvm.ClassFile.FieldType)) ∈ lw_all := lw_g (lw_at lw_m1 41 rfl) rfl
theorem q143 : (Jvm.Cond.methodLinkNest "MissedTrains$Moment" (3 : Nat) ({ cls := "MissedTrains$Asked", name := "<init>", desc := "()V" } : Jvm.MethodName) "MissedTrains") ∈ lw_tbl := lw_at lw_m1 42 rfl
theorem q147 : (Jvm.Cond.fieldLink "MissedTrains$Moment" (9 : Nat) "MissedTrains$Moment" "train" "I") ∈ lw_all := lw_g (lw_at lw_m1 46 rfl) rfl
theorem q148 : (Jvm.Cond.fieldLink "MissedTrains$Moment" (15 : Nat) "MissedTrains$Moment" "station" "I") ∈ lw_all := lw_g (lw_at lw_m1 47 rfl) rfl
theorem q149 : (Jvm.Cond.fieldLink "MissedTrains$Moment" (18 : Nat) "MissedTrains$Moment" "stop" "I") ∈ lw_all := lw_g (lw_at lw_m1 48 rfl) rfl
theorem q150 : (Jvm.Cond.fieldLink "MissedTrains$Moment" (21 : Nat) "MissedTrains$Moment" "late" "I") ∈ lw_all := lw_g (lw_at lw_m1 49 rfl) rfl
theorem q151 : (Jvm.Cond.fieldLink "MissedTrains$Moment" (24 : Nat) "MissedTrains$Moment" "waiting" "I") ∈ lw_all := lw_g (lw_at lw_m1 50 rfl) rfl
theorem q152 : (Jvm.Cond.fieldLink "MissedTrains$Moment" (27 : Nat) "MissedTrains$Moment" "person" "I") ∈ lw_all := lw_g (lw_at lw_m1 51 rfl) rfl
theorem q153 : (Jvm.Cond.fieldLink "MissedTrains$Moment" (30 : Nat) "MissedTrains$Moment" "missed" "I") ∈ lw_all := lw_g (lw_at lw_m1 52 rfl) rfl
theorem q154 : (Jvm.Cond.fieldLink "MissedTrains$Moment" (33 : Nat) "MissedTrains$Moment" "day" "I") ∈ lw_all := lw_g (lw_at lw_m1 53 rfl) rfl
theorem q155 : (Jvm.Cond.fieldLink "MissedTrains$Moment" (36 : Nat) "MissedTrains$Moment" "drawn" "I") ∈ lw_all := lw_g (lw_at lw_m1 54 rfl) rfl
theorem q159 : (Jvm.Cond.lays "MissedTrains$Moment" "MissedTrains$Moment" "train" "I") ∈ lw_all := lw_g (lw_at lw_m1 58 rfl) rfl
theorem q160 : (Jvm.Cond.soleField "MissedTrains$Moment" "train") ∈ lw_all := lw_g (lw_at lw_m1 59 rfl) rfl
theorem q161 : (Jvm.Cond.lays "MissedTrains$Moment" "MissedTrains$Moment" "station" "I") ∈ lw_all := lw_g (lw_at lw_m1 60 rfl) rfl
theorem q162 : (Jvm.Cond.soleField "MissedTrains$Moment" "station") ∈ lw_all := lw_g (lw_at lw_m1 61 rfl) rfl
theorem q163 : (Jvm.Cond.lays "MissedTrains$Moment" "MissedTrains$Moment" "stop" "I") ∈ lw_all := lw_g (lw_at lw_m1 62 rfl) rfl
theorem q164 : (Jvm.Cond.soleField "MissedTrains$Moment" "stop") ∈ lw_all := lw_g (lw_at lw_m1 63 rfl) rfl
theorem q165 : (Jvm.Cond.lays "MissedTrains$Moment" "MissedTrains$Moment" "late" "I") ∈ lw_all := lw_g (lw_at lw_m1 64 rfl) rfl
theorem q166 : (Jvm.Cond.soleField "MissedTrains$Moment" "late") ∈ lw_all := lw_g (lw_at lw_m1 65 rfl) rfl
theorem q167 : (Jvm.Cond.lays "MissedTrains$Moment" "MissedTrains$Moment" "waiting" "I") ∈ lw_all := lw_g (lw_at lw_m1 66 rfl) rfl
theorem q168 : (Jvm.Cond.soleField "MissedTrains$Moment" "waiting") ∈ lw_all := lw_g (lw_at lw_m1 67 rfl) rfl
theorem q169 : (Jvm.Cond.lays "MissedTrains$Moment" "MissedTrains$Moment" "person" "I") ∈ lw_all := lw_g (lw_at lw_m1 68 rfl) rfl
theorem q170 : (Jvm.Cond.soleField "MissedTrains$Moment" "person") ∈ lw_all := lw_g (lw_at lw_m1 69 rfl) rfl
theorem q171 : (Jvm.Cond.lays "MissedTrains$Moment" "MissedTrains$Moment" "missed" "I") ∈ lw_all := lw_g (lw_at lw_m1 70 rfl) rfl
theorem q172 : (Jvm.Cond.soleField "MissedTrains$Moment" "missed") ∈ lw_all := lw_g (lw_at lw_m1 71 rfl) rfl
theorem q173 : (Jvm.Cond.lays "MissedTrains$Moment" "MissedTrains$Moment" "day" "I") ∈ lw_all := lw_g (lw_at lw_m1 72 rfl) rfl
theorem q174 : (Jvm.Cond.soleField "MissedTrains$Moment" "day") ∈ lw_all := lw_g (lw_at lw_m1 73 rfl) rfl
theorem q175 : (Jvm.Cond.lays "MissedTrains$Moment" "MissedTrains$Moment" "drawn" "I") ∈ lw_all := lw_g (lw_at lw_m1 74 rfl) rfl
theorem q176 : (Jvm.Cond.soleField "MissedTrains$Moment" "drawn") ∈ lw_all := lw_g (lw_at lw_m1 75 rfl) rfl
theorem q177 : (Jvm.Cond.lays "MissedTrains$Moment" "MissedTrains$Asked" "isRefused" "Z") ∈ lw_all := lw_g (lw_at lw_m1 76 rfl) rfl
theorem q179 : (Jvm.Cond.superclass "MissedTrains$Moment" "MissedTrains$Asked") ∈ lw_all := lw_g (lw_at lw_m1 78 rfl) rfl
theorem q932 : (Jvm.Cond.instanceMethod ({ cls := "MissedTrains$Moment", name := "of", desc := "(IIIIIII)LMissedTrains$Moment;" } : Jvm.MethodName)) ∈ lw_all := lw_g (lw_at lw_m4 111 rfl) rfl
theorem q933 : (Jvm.Cond.selects "MissedTrains$Moment" ({ cls := "MissedTrains$Moment", name := "of", desc := "(IIIIIII)LMissedTrains$Moment;" } : Jvm.MethodName) ({ cls := "MissedTrains$Moment", name := "of", desc := "(IIIIIII)LMissedTrains$Moment;" } : Jvm.MethodName)) ∈ lw_all := lw_g (lw_at lw_m4 112 rfl) rfl
theorem q934 : (Jvm.Cond.code ({ cls := "MissedTrains$Moment", name := "of", desc := "(IIIIIII)LMissedTrains$Moment;" } : Jvm.MethodName) prog_7_method_2_code (8 : Nat) (Option.some (Jvm.ClassFile.FieldType.object "MissedTrains$Moment"))) ∈ lw_all := lw_g (lw_at lw_m4 113 rfl) rfl
theorem q958 : (Jvm.Cond.selects "MissedTrains$Moment" ({ cls := "MissedTrains$Asked", name := "value", desc := "(I)I" } : Jvm.MethodName) ({ cls := "MissedTrains$Moment", name := "value", desc := "(I)I" } : Jvm.MethodName)) ∈ lw_all := lw_g (lw_at lw_m4 137 rfl) rfl
theorem q959 : (Jvm.Cond.instanceMethod ({ cls := "MissedTrains$Moment", name := "value", desc := "(I)I" } : Jvm.MethodName)) ∈ lw_all := lw_g (lw_at lw_m4 138 rfl) rfl
theorem q960 : (Jvm.Cond.code ({ cls := "MissedTrains$Moment", name := "value", desc := "(I)I" } : Jvm.MethodName) prog_7_method_4_code (2 : Nat) (Option.some Jvm.ClassFile.FieldType.int)) ∈ lw_all := lw_g (lw_at lw_m4 139 rfl) rfl
theorem q1005 : (Jvm.Cond.instanceMethod ({ cls := "MissedTrains$Moment", name := "with", desc := "(II)LMissedTrains$Moment;" } : Jvm.MethodName)) ∈ lw_all := lw_g (lw_at lw_m4 184 rfl) rfl
theorem q1006 : (Jvm.Cond.selects "MissedTrains$Moment" ({ cls := "MissedTrains$Moment", name := "with", desc := "(II)LMissedTrains$Moment;" } : Jvm.MethodName) ({ cls := "MissedTrains$Moment", name := "with", desc := "(II)LMissedTrains$Moment;" } : Jvm.MethodName)) ∈ lw_all := lw_g (lw_at lw_m4 185 rfl) rfl
theorem q1007 : (Jvm.Cond.code ({ cls := "MissedTrains$Moment", name := "with", desc := "(II)LMissedTrains$Moment;" } : Jvm.MethodName) prog_7_method_3_code (3 : Nat) (Option.some (Jvm.ClassFile.FieldType.object "MissedTrains$Moment"))) ∈ lw_all := lw_g (lw_at lw_m4 186 rfl) rfl
theorem in_X2 : ∀ w ∈ wsX20, w ∈ lw_all := lw_in wsX20 [177, 159, 161, 163, 165, 167, 169, 171, 173, 175] (by decide +kernel) (by decide +kernel)
/-! MissedTrains$Platform -/
set_option maxRecDepth 100000
def RX3 : String := "MissedTrains$Platform"
def TX3 : u_T := fun k => match k with
  | 0 => ("MissedTrains$Platform", "people", "[LMissedTrains$Person;", true)
  | 1 => ("MissedTrains$Platform", "late", "[I", true)
  | 2 => ("MissedTrains$Platform", "rides", "[I", true)
  | 3 => ("MissedTrains$Platform", "day", "I", false)
  | 4 => ("MissedTrains$Platform", "x", "I", false)
  | 5 => ("MissedTrains$Platform", "arrivals", "I", false)
  | 6 => ("MissedTrains$Platform", "misses", "I", false)
  | 7 => ("MissedTrains$Platform", "worst", "I", false)
  | _ => ("MissedTrains$Platform", "this$0", "LMissedTrains;", true)
def tyX3 : Nat → FieldType := fun k => match k with
  | 0 => .array (.object "MissedTrains$Person")
  | 1 => .array .int
  | 2 => .array .int
  | 3 => .int
  | 4 => .int
  | 5 => .int
  | 6 => .int
  | 7 => .int
  | _ => .object "MissedTrains"
abbrev wsX30 : List Cond := u_ws RX3 TX3 9
theorem nmX3 : ∀ a, a < 9 → ∀ b, b < 9 → a ≠ b → (TX3 a).2.1 ≠ (TX3 b).2.1 := by decide +kernel
theorem tyX3_ok : ∀ k, k < 9 → parseFieldDescriptor (TX3 k).2.2.1 = some (tyX3 k) := by decide +kernel
abbrev cX3_init : ByteArray := prog_11_method_1_code
def yX3_init : MethodName := ⟨RX3, "<init>", "(LMissedTrains;)V"⟩
def dkwX3_init_2 : List UInt8 := [187, 0, 15, 89, 183, 0, 28, 83, 132, 2, 1, 167, 255, 234, 177]
abbrev dktX3_init_2 : List UInt8 := dkwX3_init_2 ++ []
def dkwX3_init_1 : List UInt8 := [181, 0, 21, 42, 16, 12, 188, 10, 181, 0, 25, 3, 61, 28, 16, 12, 162, 0, 22, 42, 180, 0, 17, 28]
abbrev dktX3_init_1 : List UInt8 := dkwX3_init_1 ++ dktX3_init_2
def dkwX3_init_0 : List UInt8 := [42, 43, 181, 0, 3, 42, 183, 0, 9, 42, 16, 12, 189, 0, 15, 181, 0, 17, 42, 16, 48, 188, 10]
abbrev dktX3_init_0 : List UInt8 := dkwX3_init_0 ++ dktX3_init_1
theorem dksX3_init_0 : cX3_init.data.toList.drop 0 = dktX3_init_0 := by decide +kernel
theorem dksX3_init_1 : cX3_init.data.toList.drop 23 = dktX3_init_1 := dk_seg dksX3_init_0 23 rfl rfl
theorem dksX3_init_2 : cX3_init.data.toList.drop 47 = dktX3_init_2 := dk_seg dksX3_init_1 24 rfl rfl
theorem dX3_init_0 : decode cX3_init 0 = .ok (.aload_n 0, 1) := dk_42 (dk_at dksX3_init_0 0 rfl rfl)
theorem dX3_init_1 : decode cX3_init 1 = .ok (.aload_n 1, 1) := dk_43 (dk_at dksX3_init_0 1 rfl rfl)
theorem dX3_init_2 : decode cX3_init 2 = .ok (.putfield 3, 3) := dk_181 0 3 (dk_at dksX3_init_0 2 rfl rfl)
theorem dX3_init_5 : decode cX3_init 5 = .ok (.aload_n 0, 1) := dk_42 (dk_at dksX3_init_0 5 rfl rfl)
theorem dX3_init_6 : decode cX3_init 6 = .ok (.invokespecial 9, 3) := dk_183 0 9 (dk_at dksX3_init_0 6 rfl rfl)
theorem dX3_init_9 : decode cX3_init 9 = .ok (.aload_n 0, 1) := dk_42 (dk_at dksX3_init_0 9 rfl rfl)
theorem dX3_init_10 : decode cX3_init 10 = .ok (.bipush 12, 2) := dk_16 12 (dk_at dksX3_init_0 10 rfl rfl)
theorem dX3_init_12 : decode cX3_init 12 = .ok (.anewarray 15, 3) := dk_189 0 15 (dk_at dksX3_init_0 12 rfl rfl)
theorem dX3_init_15 : decode cX3_init 15 = .ok (.putfield 17, 3) := dk_181 0 17 (dk_at dksX3_init_0 15 rfl rfl)
theorem dX3_init_18 : decode cX3_init 18 = .ok (.aload_n 0, 1) := dk_42 (dk_at dksX3_init_0 18 rfl rfl)
theorem dX3_init_19 : decode cX3_init 19 = .ok (.bipush 48, 2) := dk_16 48 (dk_at dksX3_init_0 19 rfl rfl)
theorem dX3_init_21 : decode cX3_init 21 = .ok (.newarray .int, 2) := dk_188_10 (dk_at dksX3_init_0 21 rfl rfl)
theorem dX3_init_23 : decode cX3_init 23 = .ok (.putfield 21, 3) := dk_181 0 21 (dk_at dksX3_init_1 0 rfl rfl)
theorem dX3_init_26 : decode cX3_init 26 = .ok (.aload_n 0, 1) := dk_42 (dk_at dksX3_init_1 3 rfl rfl)
theorem dX3_init_27 : decode cX3_init 27 = .ok (.bipush 12, 2) := dk_16 12 (dk_at dksX3_init_1 4 rfl rfl)
theorem dX3_init_29 : decode cX3_init 29 = .ok (.newarray .int, 2) := dk_188_10 (dk_at dksX3_init_1 6 rfl rfl)
theorem dX3_init_31 : decode cX3_init 31 = .ok (.putfield 25, 3) := dk_181 0 25 (dk_at dksX3_init_1 8 rfl rfl)
theorem dX3_init_34 : decode cX3_init 34 = .ok (.iconst 0, 1) := dk_3 (dk_at dksX3_init_1 11 rfl rfl)
theorem dX3_init_35 : decode cX3_init 35 = .ok (.istore_n 2, 1) := dk_61 (dk_at dksX3_init_1 12 rfl rfl)
theorem dX3_init_36 : decode cX3_init 36 = .ok (.iload_n 2, 1) := dk_28 (dk_at dksX3_init_1 13 rfl rfl)
theorem dX3_init_37 : decode cX3_init 37 = .ok (.bipush 12, 2) := dk_16 12 (dk_at dksX3_init_1 14 rfl rfl)
theorem dX3_init_39 : decode cX3_init 39 = .ok (.if_icmp .ge 22, 3) := dk_162 0 22 (dk_at dksX3_init_1 16 rfl rfl)
theorem dX3_init_42 : decode cX3_init 42 = .ok (.aload_n 0, 1) := dk_42 (dk_at dksX3_init_1 19 rfl rfl)
theorem dX3_init_43 : decode cX3_init 43 = .ok (.getfield 17, 3) := dk_180 0 17 (dk_at dksX3_init_1 20 rfl rfl)
theorem dX3_init_46 : decode cX3_init 46 = .ok (.iload_n 2, 1) := dk_28 (dk_at dksX3_init_1 23 rfl rfl)
theorem dX3_init_47 : decode cX3_init 47 = .ok (.new 15, 3) := dk_187 0 15 (dk_at dksX3_init_2 0 rfl rfl)
theorem dX3_init_50 : decode cX3_init 50 = .ok (.dup, 1) := dk_89 (dk_at dksX3_init_2 3 rfl rfl)
theorem dX3_init_51 : decode cX3_init 51 = .ok (.invokespecial 28, 3) := dk_183 0 28 (dk_at dksX3_init_2 4 rfl rfl)
theorem dX3_init_54 : decode cX3_init 54 = .ok (.aastore, 1) := dk_83 (dk_at dksX3_init_2 7 rfl rfl)
theorem dX3_init_55 : decode cX3_init 55 = .ok (.iinc 2 1, 3) := dk_132 2 1 (dk_at dksX3_init_2 8 rfl rfl)
theorem dX3_init_58 : decode cX3_init 58 = .ok (.goto (-22), 3) := dk_167 255 234 (dk_at dksX3_init_2 11 rfl rfl)
theorem dX3_init_61 : decode cX3_init 61 = .ok (.return_, 1) := dk_177 (dk_at dksX3_init_2 14 rfl rfl)
abbrev cX3_goes : ByteArray := prog_11_method_10_code
def yX3_goes : MethodName := ⟨RX3, "goes", "(I)LMissedTrains$Platform;"⟩
def dkwX3_goes_1 : List UInt8 := [180, 0, 33, 17, 39, 15, 162, 0, 13, 42, 182, 0, 160, 132, 2, 1, 167, 255, 234, 42, 176]
abbrev dktX3_goes_1 : List UInt8 := dkwX3_goes_1 ++ []
def dkwX3_goes_0 : List UInt8 := [42, 3, 181, 0, 63, 42, 3, 181, 0, 94, 42, 3, 181, 0, 116, 3, 61, 28, 27, 162, 0, 23, 42]
abbrev dktX3_goes_0 : List UInt8 := dkwX3_goes_0 ++ dktX3_goes_1
theorem dksX3_goes_0 : cX3_goes.data.toList.drop 0 = dktX3_goes_0 := by decide +kernel
theorem dksX3_goes_1 : cX3_goes.data.toList.drop 23 = dktX3_goes_1 := dk_seg dksX3_goes_0 23 rfl rfl
theorem dX3_goes_0 : decode cX3_goes 0 = .ok (.aload_n 0, 1) := dk_42 (dk_at dksX3_goes_0 0 rfl rfl)
theorem dX3_goes_1 : decode cX3_goes 1 = .ok (.iconst 0, 1) := dk_3 (dk_at dksX3_goes_0 1 rfl rfl)
theorem dX3_goes_2 : decode cX3_goes 2 = .ok (.putfield 63, 3) := dk_181 0 63 (dk_at dksX3_goes_0 2 rfl rfl)
theorem dX3_goes_5 : decode cX3_goes 5 = .ok (.aload_n 0, 1) := dk_42 (dk_at dksX3_goes_0 5 rfl rfl)
theorem dX3_goes_6 : decode cX3_goes 6 = .ok (.iconst 0, 1) := dk_3 (dk_at dksX3_goes_0 6 rfl rfl)
theorem dX3_goes_7 : decode cX3_goes 7 = .ok (.putfield 94, 3) := dk_181 0 94 (dk_at dksX3_goes_0 7 rfl rfl)
theorem dX3_goes_10 : decode cX3_goes 10 = .ok (.aload_n 0, 1) := dk_42 (dk_at dksX3_goes_0 10 rfl rfl)
theorem dX3_goes_11 : decode cX3_goes 11 = .ok (.iconst 0, 1) := dk_3 (dk_at dksX3_goes_0 11 rfl rfl)
theorem dX3_goes_12 : decode cX3_goes 12 = .ok (.putfield 116, 3) := dk_181 0 116 (dk_at dksX3_goes_0 12 rfl rfl)
theorem dX3_goes_15 : decode cX3_goes 15 = .ok (.iconst 0, 1) := dk_3 (dk_at dksX3_goes_0 15 rfl rfl)
theorem dX3_goes_16 : decode cX3_goes 16 = .ok (.istore_n 2, 1) := dk_61 (dk_at dksX3_goes_0 16 rfl rfl)
theorem dX3_goes_17 : decode cX3_goes 17 = .ok (.iload_n 2, 1) := dk_28 (dk_at dksX3_goes_0 17 rfl rfl)
theorem dX3_goes_18 : decode cX3_goes 18 = .ok (.iload_n 1, 1) := dk_27 (dk_at dksX3_goes_0 18 rfl rfl)
theorem dX3_goes_19 : decode cX3_goes 19 = .ok (.if_icmp .ge 23, 3) := dk_162 0 23 (dk_at dksX3_goes_0 19 rfl rfl)
theorem dX3_goes_22 : decode cX3_goes 22 = .ok (.aload_n 0, 1) := dk_42 (dk_at dksX3_goes_0 22 rfl rfl)
theorem dX3_goes_23 : decode cX3_goes 23 = .ok (.getfield 33, 3) := dk_180 0 33 (dk_at dksX3_goes_1 0 rfl rfl)
theorem dX3_goes_26 : decode cX3_goes 26 = .ok (.sipush 9999, 3) := dk_17 39 15 (dk_at dksX3_goes_1 3 rfl rfl)
theorem dX3_goes_29 : decode cX3_goes 29 = .ok (.if_icmp .ge 13, 3) := dk_162 0 13 (dk_at dksX3_goes_1 6 rfl rfl)
theorem dX3_goes_32 : decode cX3_goes 32 = .ok (.aload_n 0, 1) := dk_42 (dk_at dksX3_goes_1 9 rfl rfl)
theorem dX3_goes_33 : decode cX3_goes 33 = .ok (.invokevirtual 160, 3) := dk_182 0 160 (dk_at dksX3_goes_1 10 rfl rfl)
theorem dX3_goes_36 : decode cX3_goes 36 = .ok (.iinc 2 1, 3) := dk_132 2 1 (dk_at dksX3_goes_1 13 rfl rfl)
theorem dX3_goes_39 : decode cX3_goes 39 = .ok (.goto (-22), 3) := dk_167 255 234 (dk_at dksX3_goes_1 16 rfl rfl)
theorem dX3_goes_42 : decode cX3_goes 42 = .ok (.aload_n 0, 1) := dk_42 (dk_at dksX3_goes_1 19 rfl rfl)
theorem dX3_goes_43 : decode cX3_goes 43 = .ok (.areturn, 1) := dk_176 (dk_at dksX3_goes_1 20 rfl rfl)
abbrev cX3_dayGoes : ByteArray := prog_11_method_9_code
def yX3_dayGoes : MethodName := ⟨RX3, "dayGoes", "()V"⟩
def dkwX3_dayGoes_5 : List UInt8 := [167, 255, 197, 42, 89, 180, 0, 33, 4, 96, 181, 0, 33, 177]
abbrev dktX3_dayGoes_5 : List UInt8 := dkwX3_dayGoes_5 ++ []
def dkwX3_dayGoes_4 : List UInt8 := [180, 0, 3, 180, 0, 148, 27, 46, 42, 180, 0, 3, 180, 0, 154, 27, 46, 182, 0, 157, 132, 1, 1]
abbrev dktX3_dayGoes_4 : List UInt8 := dkwX3_dayGoes_4 ++ dktX3_dayGoes_5
def dkwX3_dayGoes_3 : List UInt8 := [180, 0, 3, 180, 0, 97, 42, 180, 0, 3, 180, 0, 148, 27, 46, 50, 180, 0, 151, 153, 0, 25, 42, 42]
abbrev dktX3_dayGoes_3 : List UInt8 := dkwX3_dayGoes_3 ++ dktX3_dayGoes_4
def dkwX3_dayGoes_2 : List UInt8 := [180, 0, 142, 79, 132, 1, 1, 167, 255, 224, 3, 60, 27, 42, 180, 0, 3, 180, 0, 145, 162, 0, 54, 42]
abbrev dktX3_dayGoes_2 : List UInt8 := dkwX3_dayGoes_2 ++ dktX3_dayGoes_3
def dkwX3_dayGoes_1 : List UInt8 := [42, 180, 0, 3, 180, 0, 139, 162, 0, 27, 42, 180, 0, 21, 27, 42, 180, 0, 3, 180, 0, 97, 27, 50]
abbrev dktX3_dayGoes_1 : List UInt8 := dkwX3_dayGoes_1 ++ dktX3_dayGoes_2
def dkwX3_dayGoes_0 : List UInt8 := [3, 60, 27, 16, 12, 162, 0, 16, 42, 180, 0, 25, 27, 2, 79, 132, 1, 1, 167, 255, 240, 3, 60, 27]
abbrev dktX3_dayGoes_0 : List UInt8 := dkwX3_dayGoes_0 ++ dktX3_dayGoes_1
theorem dksX3_dayGoes_0 : cX3_dayGoes.data.toList.drop 0 = dktX3_dayGoes_0 := by decide +kernel
theorem dksX3_dayGoes_1 : cX3_dayGoes.data.toList.drop 24 = dktX3_dayGoes_1 := dk_seg dksX3_dayGoes_0 24 rfl rfl
theorem dksX3_dayGoes_2 : cX3_dayGoes.data.toList.drop 48 = dktX3_dayGoes_2 := dk_seg dksX3_dayGoes_1 24 rfl rfl
theorem dksX3_dayGoes_3 : cX3_dayGoes.data.toList.drop 72 = dktX3_dayGoes_3 := dk_seg dksX3_dayGoes_2 24 rfl rfl
theorem dksX3_dayGoes_4 : cX3_dayGoes.data.toList.drop 96 = dktX3_dayGoes_4 := dk_seg dksX3_dayGoes_3 24 rfl rfl
theorem dksX3_dayGoes_5 : cX3_dayGoes.data.toList.drop 119 = dktX3_dayGoes_5 := dk_seg dksX3_dayGoes_4 23 rfl rfl
theorem dX3_dayGoes_0 : decode cX3_dayGoes 0 = .ok (.iconst 0, 1) := dk_3 (dk_at dksX3_dayGoes_0 0 rfl rfl)
theorem dX3_dayGoes_1 : decode cX3_dayGoes 1 = .ok (.istore_n 1, 1) := dk_60 (dk_at dksX3_dayGoes_0 1 rfl rfl)
theorem dX3_dayGoes_2 : decode cX3_dayGoes 2 = .ok (.iload_n 1, 1) := dk_27 (dk_at dksX3_dayGoes_0 2 rfl rfl)
theorem dX3_dayGoes_3 : decode cX3_dayGoes 3 = .ok (.bipush 12, 2) := dk_16 12 (dk_at dksX3_dayGoes_0 3 rfl rfl)
theorem dX3_dayGoes_5 : decode cX3_dayGoes 5 = .ok (.if_icmp .ge 16, 3) := dk_162 0 16 (dk_at dksX3_dayGoes_0 5 rfl rfl)
theorem dX3_dayGoes_8 : decode cX3_dayGoes 8 = .ok (.aload_n 0, 1) := dk_42 (dk_at dksX3_dayGoes_0 8 rfl rfl)
theorem dX3_dayGoes_9 : decode cX3_dayGoes 9 = .ok (.getfield 25, 3) := dk_180 0 25 (dk_at dksX3_dayGoes_0 9 rfl rfl)
theorem dX3_dayGoes_12 : decode cX3_dayGoes 12 = .ok (.iload_n 1, 1) := dk_27 (dk_at dksX3_dayGoes_0 12 rfl rfl)
theorem dX3_dayGoes_13 : decode cX3_dayGoes 13 = .ok (.iconst (-1), 1) := dk_2 (dk_at dksX3_dayGoes_0 13 rfl rfl)
theorem dX3_dayGoes_14 : decode cX3_dayGoes 14 = .ok (.iastore, 1) := dk_79 (dk_at dksX3_dayGoes_0 14 rfl rfl)
theorem dX3_dayGoes_15 : decode cX3_dayGoes 15 = .ok (.iinc 1 1, 3) := dk_132 1 1 (dk_at dksX3_dayGoes_0 15 rfl rfl)
theorem dX3_dayGoes_18 : decode cX3_dayGoes 18 = .ok (.goto (-16), 3) := dk_167 255 240 (dk_at dksX3_dayGoes_0 18 rfl rfl)
theorem dX3_dayGoes_21 : decode cX3_dayGoes 21 = .ok (.iconst 0, 1) := dk_3 (dk_at dksX3_dayGoes_0 21 rfl rfl)
theorem dX3_dayGoes_22 : decode cX3_dayGoes 22 = .ok (.istore_n 1, 1) := dk_60 (dk_at dksX3_dayGoes_0 22 rfl rfl)
theorem dX3_dayGoes_23 : decode cX3_dayGoes 23 = .ok (.iload_n 1, 1) := dk_27 (dk_at dksX3_dayGoes_0 23 rfl rfl)
theorem dX3_dayGoes_24 : decode cX3_dayGoes 24 = .ok (.aload_n 0, 1) := dk_42 (dk_at dksX3_dayGoes_1 0 rfl rfl)
theorem dX3_dayGoes_25 : decode cX3_dayGoes 25 = .ok (.getfield 3, 3) := dk_180 0 3 (dk_at dksX3_dayGoes_1 1 rfl rfl)
theorem dX3_dayGoes_28 : decode cX3_dayGoes 28 = .ok (.getfield 139, 3) := dk_180 0 139 (dk_at dksX3_dayGoes_1 4 rfl rfl)
theorem dX3_dayGoes_31 : decode cX3_dayGoes 31 = .ok (.if_icmp .ge 27, 3) := dk_162 0 27 (dk_at dksX3_dayGoes_1 7 rfl rfl)
theorem dX3_dayGoes_34 : decode cX3_dayGoes 34 = .ok (.aload_n 0, 1) := dk_42 (dk_at dksX3_dayGoes_1 10 rfl rfl)
theorem dX3_dayGoes_35 : decode cX3_dayGoes 35 = .ok (.getfield 21, 3) := dk_180 0 21 (dk_at dksX3_dayGoes_1 11 rfl rfl)
theorem dX3_dayGoes_38 : decode cX3_dayGoes 38 = .ok (.iload_n 1, 1) := dk_27 (dk_at dksX3_dayGoes_1 14 rfl rfl)
theorem dX3_dayGoes_39 : decode cX3_dayGoes 39 = .ok (.aload_n 0, 1) := dk_42 (dk_at dksX3_dayGoes_1 15 rfl rfl)
theorem dX3_dayGoes_40 : decode cX3_dayGoes 40 = .ok (.getfield 3, 3) := dk_180 0 3 (dk_at dksX3_dayGoes_1 16 rfl rfl)
theorem dX3_dayGoes_43 : decode cX3_dayGoes 43 = .ok (.getfield 97, 3) := dk_180 0 97 (dk_at dksX3_dayGoes_1 19 rfl rfl)
theorem dX3_dayGoes_46 : decode cX3_dayGoes 46 = .ok (.iload_n 1, 1) := dk_27 (dk_at dksX3_dayGoes_1 22 rfl rfl)
theorem dX3_dayGoes_47 : decode cX3_dayGoes 47 = .ok (.aaload, 1) := dk_50 (dk_at dksX3_dayGoes_1 23 rfl rfl)
theorem dX3_dayGoes_48 : decode cX3_dayGoes 48 = .ok (.getfield 142, 3) := dk_180 0 142 (dk_at dksX3_dayGoes_2 0 rfl rfl)
theorem dX3_dayGoes_51 : decode cX3_dayGoes 51 = .ok (.iastore, 1) := dk_79 (dk_at dksX3_dayGoes_2 3 rfl rfl)
theorem dX3_dayGoes_52 : decode cX3_dayGoes 52 = .ok (.iinc 1 1, 3) := dk_132 1 1 (dk_at dksX3_dayGoes_2 4 rfl rfl)
theorem dX3_dayGoes_55 : decode cX3_dayGoes 55 = .ok (.goto (-32), 3) := dk_167 255 224 (dk_at dksX3_dayGoes_2 7 rfl rfl)
theorem dX3_dayGoes_58 : decode cX3_dayGoes 58 = .ok (.iconst 0, 1) := dk_3 (dk_at dksX3_dayGoes_2 10 rfl rfl)
theorem dX3_dayGoes_59 : decode cX3_dayGoes 59 = .ok (.istore_n 1, 1) := dk_60 (dk_at dksX3_dayGoes_2 11 rfl rfl)
theorem dX3_dayGoes_60 : decode cX3_dayGoes 60 = .ok (.iload_n 1, 1) := dk_27 (dk_at dksX3_dayGoes_2 12 rfl rfl)
theorem dX3_dayGoes_61 : decode cX3_dayGoes 61 = .ok (.aload_n 0, 1) := dk_42 (dk_at dksX3_dayGoes_2 13 rfl rfl)
theorem dX3_dayGoes_62 : decode cX3_dayGoes 62 = .ok (.getfield 3, 3) := dk_180 0 3 (dk_at dksX3_dayGoes_2 14 rfl rfl)
theorem dX3_dayGoes_65 : decode cX3_dayGoes 65 = .ok (.getfield 145, 3) := dk_180 0 145 (dk_at dksX3_dayGoes_2 17 rfl rfl)
theorem dX3_dayGoes_68 : decode cX3_dayGoes 68 = .ok (.if_icmp .ge 54, 3) := dk_162 0 54 (dk_at dksX3_dayGoes_2 20 rfl rfl)
theorem dX3_dayGoes_71 : decode cX3_dayGoes 71 = .ok (.aload_n 0, 1) := dk_42 (dk_at dksX3_dayGoes_2 23 rfl rfl)
theorem dX3_dayGoes_72 : decode cX3_dayGoes 72 = .ok (.getfield 3, 3) := dk_180 0 3 (dk_at dksX3_dayGoes_3 0 rfl rfl)
theorem dX3_dayGoes_75 : decode cX3_dayGoes 75 = .ok (.getfield 97, 3) := dk_180 0 97 (dk_at dksX3_dayGoes_3 3 rfl rfl)
theorem dX3_dayGoes_78 : decode cX3_dayGoes 78 = .ok (.aload_n 0, 1) := dk_42 (dk_at dksX3_dayGoes_3 6 rfl rfl)
theorem dX3_dayGoes_79 : decode cX3_dayGoes 79 = .ok (.getfield 3, 3) := dk_180 0 3 (dk_at dksX3_dayGoes_3 7 rfl rfl)
theorem dX3_dayGoes_82 : decode cX3_dayGoes 82 = .ok (.getfield 148, 3) := dk_180 0 148 (dk_at dksX3_dayGoes_3 10 rfl rfl)
theorem dX3_dayGoes_85 : decode cX3_dayGoes 85 = .ok (.iload_n 1, 1) := dk_27 (dk_at dksX3_dayGoes_3 13 rfl rfl)
theorem dX3_dayGoes_86 : decode cX3_dayGoes 86 = .ok (.iaload, 1) := dk_46 (dk_at dksX3_dayGoes_3 14 rfl rfl)
theorem dX3_dayGoes_87 : decode cX3_dayGoes 87 = .ok (.aaload, 1) := dk_50 (dk_at dksX3_dayGoes_3 15 rfl rfl)
theorem dX3_dayGoes_88 : decode cX3_dayGoes 88 = .ok (.getfield 151, 3) := dk_180 0 151 (dk_at dksX3_dayGoes_3 16 rfl rfl)
theorem dX3_dayGoes_91 : decode cX3_dayGoes 91 = .ok (.ifCond .eq 25, 3) := dk_153 0 25 (dk_at dksX3_dayGoes_3 19 rfl rfl)
theorem dX3_dayGoes_94 : decode cX3_dayGoes 94 = .ok (.aload_n 0, 1) := dk_42 (dk_at dksX3_dayGoes_3 22 rfl rfl)
theorem dX3_dayGoes_95 : decode cX3_dayGoes 95 = .ok (.aload_n 0, 1) := dk_42 (dk_at dksX3_dayGoes_3 23 rfl rfl)
theorem dX3_dayGoes_96 : decode cX3_dayGoes 96 = .ok (.getfield 3, 3) := dk_180 0 3 (dk_at dksX3_dayGoes_4 0 rfl rfl)
theorem dX3_dayGoes_99 : decode cX3_dayGoes 99 = .ok (.getfield 148, 3) := dk_180 0 148 (dk_at dksX3_dayGoes_4 3 rfl rfl)
theorem dX3_dayGoes_102 : decode cX3_dayGoes 102 = .ok (.iload_n 1, 1) := dk_27 (dk_at dksX3_dayGoes_4 6 rfl rfl)
theorem dX3_dayGoes_103 : decode cX3_dayGoes 103 = .ok (.iaload, 1) := dk_46 (dk_at dksX3_dayGoes_4 7 rfl rfl)
theorem dX3_dayGoes_104 : decode cX3_dayGoes 104 = .ok (.aload_n 0, 1) := dk_42 (dk_at dksX3_dayGoes_4 8 rfl rfl)
theorem dX3_dayGoes_105 : decode cX3_dayGoes 105 = .ok (.getfield 3, 3) := dk_180 0 3 (dk_at dksX3_dayGoes_4 9 rfl rfl)
theorem dX3_dayGoes_108 : decode cX3_dayGoes 108 = .ok (.getfield 154, 3) := dk_180 0 154 (dk_at dksX3_dayGoes_4 12 rfl rfl)
theorem dX3_dayGoes_111 : decode cX3_dayGoes 111 = .ok (.iload_n 1, 1) := dk_27 (dk_at dksX3_dayGoes_4 15 rfl rfl)
theorem dX3_dayGoes_112 : decode cX3_dayGoes 112 = .ok (.iaload, 1) := dk_46 (dk_at dksX3_dayGoes_4 16 rfl rfl)
theorem dX3_dayGoes_113 : decode cX3_dayGoes 113 = .ok (.invokevirtual 157, 3) := dk_182 0 157 (dk_at dksX3_dayGoes_4 17 rfl rfl)
theorem dX3_dayGoes_116 : decode cX3_dayGoes 116 = .ok (.iinc 1 1, 3) := dk_132 1 1 (dk_at dksX3_dayGoes_4 20 rfl rfl)
theorem dX3_dayGoes_119 : decode cX3_dayGoes 119 = .ok (.goto (-59), 3) := dk_167 255 197 (dk_at dksX3_dayGoes_5 0 rfl rfl)
theorem dX3_dayGoes_122 : decode cX3_dayGoes 122 = .ok (.aload_n 0, 1) := dk_42 (dk_at dksX3_dayGoes_5 3 rfl rfl)
theorem dX3_dayGoes_123 : decode cX3_dayGoes 123 = .ok (.dup, 1) := dk_89 (dk_at dksX3_dayGoes_5 4 rfl rfl)
theorem dX3_dayGoes_124 : decode cX3_dayGoes 124 = .ok (.getfield 33, 3) := dk_180 0 33 (dk_at dksX3_dayGoes_5 5 rfl rfl)
theorem dX3_dayGoes_127 : decode cX3_dayGoes 127 = .ok (.iconst 1, 1) := dk_4 (dk_at dksX3_dayGoes_5 8 rfl rfl)
theorem dX3_dayGoes_128 : decode cX3_dayGoes 128 = .ok (.iadd, 1) := dk_96 (dk_at dksX3_dayGoes_5 9 rfl rfl)
theorem dX3_dayGoes_129 : decode cX3_dayGoes 129 = .ok (.putfield 33, 3) := dk_181 0 33 (dk_at dksX3_dayGoes_5 10 rfl rfl)
theorem dX3_dayGoes_132 : decode cX3_dayGoes 132 = .ok (.return_, 1) := dk_177 (dk_at dksX3_dayGoes_5 13 rfl rfl)
abbrev cX3_stops : ByteArray := prog_11_method_8_code
def yX3_stops : MethodName := ⟨RX3, "stops", "(II)V"⟩
def dkwX3_stops_9 : List UInt8 := [42, 21, 8, 27, 21, 4, 28, 21, 5, 182, 0, 135, 132, 8, 1, 167, 255, 162, 177]
abbrev dktX3_stops_9 : List UInt8 := dkwX3_stops_9 ++ []
def dkwX3_stops_8 : List UInt8 := [46, 42, 180, 0, 21, 27, 46, 96, 163, 0, 28, 45, 25, 9, 180, 0, 54, 182, 0, 132, 28, 164, 0, 15]
abbrev dktX3_stops_8 : List UInt8 := dkwX3_stops_8 ++ dktX3_stops_9
def dkwX3_stops_7 : List UInt8 := [160, 0, 60, 42, 180, 0, 25, 21, 8, 46, 2, 160, 0, 49, 25, 9, 180, 0, 126, 45, 180, 0, 129, 28]
abbrev dktX3_stops_7 : List UInt8 := dkwX3_stops_7 ++ dktX3_stops_8
def dkwX3_stops_6 : List UInt8 := [180, 0, 17, 21, 8, 50, 58, 9, 25, 9, 180, 0, 47, 153, 0, 70, 25, 9, 180, 0, 51, 21, 4]
abbrev dktX3_stops_6 : List UInt8 := dkwX3_stops_6 ++ dktX3_stops_7
def dkwX3_stops_5 : List UInt8 := [184, 0, 119, 181, 0, 116, 42, 27, 21, 4, 182, 0, 122, 3, 54, 8, 21, 8, 16, 12, 162, 0, 93, 42]
abbrev dktX3_stops_5 : List UInt8 := dkwX3_stops_5 ++ dktX3_stops_6
def dkwX3_stops_4 : List UInt8 := [21, 6, 96, 21, 7, 100, 17, 0, 240, 184, 0, 113, 79, 42, 42, 180, 0, 116, 42, 180, 0, 21, 27, 46]
abbrev dktX3_stops_4 : List UInt8 := dkwX3_stops_4 ++ dktX3_stops_5
def dkwX3_stops_3 : List UInt8 := [180, 0, 3, 16, 99, 16, 60, 182, 0, 110, 54, 7, 42, 180, 0, 21, 27, 42, 180, 0, 21, 27, 46]
abbrev dktX3_stops_3 : List UInt8 := dkwX3_stops_3 ++ dktX3_stops_4
def dkwX3_stops_2 : List UInt8 := [180, 0, 33, 21, 5, 182, 0, 74, 87, 42, 180, 0, 3, 16, 100, 16, 60, 182, 0, 110, 54, 6, 42]
abbrev dktX3_stops_2 : List UInt8 := dkwX3_stops_2 ++ dktX3_stops_3
def dkwX3_stops_1 : List UInt8 := [42, 180, 0, 3, 180, 0, 66, 27, 21, 4, 28, 42, 180, 0, 21, 27, 46, 42, 21, 4, 182, 0, 70, 42]
abbrev dktX3_stops_1 : List UInt8 := dkwX3_stops_1 ++ dktX3_stops_2
def dkwX3_stops_0 : List UInt8 := [42, 180, 0, 3, 180, 0, 97, 27, 50, 78, 45, 180, 0, 101, 28, 46, 54, 4, 42, 182, 0, 106, 54, 5]
abbrev dktX3_stops_0 : List UInt8 := dkwX3_stops_0 ++ dktX3_stops_1
theorem dksX3_stops_0 : cX3_stops.data.toList.drop 0 = dktX3_stops_0 := by decide +kernel
theorem dksX3_stops_1 : cX3_stops.data.toList.drop 24 = dktX3_stops_1 := dk_seg dksX3_stops_0 24 rfl rfl
theorem dksX3_stops_2 : cX3_stops.data.toList.drop 48 = dktX3_stops_2 := dk_seg dksX3_stops_1 24 rfl rfl
theorem dksX3_stops_3 : cX3_stops.data.toList.drop 71 = dktX3_stops_3 := dk_seg dksX3_stops_2 23 rfl rfl
theorem dksX3_stops_4 : cX3_stops.data.toList.drop 94 = dktX3_stops_4 := dk_seg dksX3_stops_3 23 rfl rfl
theorem dksX3_stops_5 : cX3_stops.data.toList.drop 118 = dktX3_stops_5 := dk_seg dksX3_stops_4 24 rfl rfl
theorem dksX3_stops_6 : cX3_stops.data.toList.drop 142 = dktX3_stops_6 := dk_seg dksX3_stops_5 24 rfl rfl
theorem dksX3_stops_7 : cX3_stops.data.toList.drop 165 = dktX3_stops_7 := dk_seg dksX3_stops_6 23 rfl rfl
theorem dksX3_stops_8 : cX3_stops.data.toList.drop 189 = dktX3_stops_8 := dk_seg dksX3_stops_7 24 rfl rfl
theorem dksX3_stops_9 : cX3_stops.data.toList.drop 213 = dktX3_stops_9 := dk_seg dksX3_stops_8 24 rfl rfl
theorem dX3_stops_0 : decode cX3_stops 0 = .ok (.aload_n 0, 1) := dk_42 (dk_at dksX3_stops_0 0 rfl rfl)
theorem dX3_stops_1 : decode cX3_stops 1 = .ok (.getfield 3, 3) := dk_180 0 3 (dk_at dksX3_stops_0 1 rfl rfl)
theorem dX3_stops_4 : decode cX3_stops 4 = .ok (.getfield 97, 3) := dk_180 0 97 (dk_at dksX3_stops_0 4 rfl rfl)
theorem dX3_stops_7 : decode cX3_stops 7 = .ok (.iload_n 1, 1) := dk_27 (dk_at dksX3_stops_0 7 rfl rfl)
theorem dX3_stops_8 : decode cX3_stops 8 = .ok (.aaload, 1) := dk_50 (dk_at dksX3_stops_0 8 rfl rfl)
theorem dX3_stops_9 : decode cX3_stops 9 = .ok (.astore_n 3, 1) := dk_78 (dk_at dksX3_stops_0 9 rfl rfl)
theorem dX3_stops_10 : decode cX3_stops 10 = .ok (.aload_n 3, 1) := dk_45 (dk_at dksX3_stops_0 10 rfl rfl)
theorem dX3_stops_11 : decode cX3_stops 11 = .ok (.getfield 101, 3) := dk_180 0 101 (dk_at dksX3_stops_0 11 rfl rfl)
theorem dX3_stops_14 : decode cX3_stops 14 = .ok (.iload_n 2, 1) := dk_28 (dk_at dksX3_stops_0 14 rfl rfl)
theorem dX3_stops_15 : decode cX3_stops 15 = .ok (.iaload, 1) := dk_46 (dk_at dksX3_stops_0 15 rfl rfl)
theorem dX3_stops_16 : decode cX3_stops 16 = .ok (.istore 4, 2) := dk_54 4 (dk_at dksX3_stops_0 16 rfl rfl)
theorem dX3_stops_18 : decode cX3_stops 18 = .ok (.aload_n 0, 1) := dk_42 (dk_at dksX3_stops_0 18 rfl rfl)
theorem dX3_stops_19 : decode cX3_stops 19 = .ok (.invokevirtual 106, 3) := dk_182 0 106 (dk_at dksX3_stops_0 19 rfl rfl)
theorem dX3_stops_22 : decode cX3_stops 22 = .ok (.istore 5, 2) := dk_54 5 (dk_at dksX3_stops_0 22 rfl rfl)
theorem dX3_stops_24 : decode cX3_stops 24 = .ok (.aload_n 0, 1) := dk_42 (dk_at dksX3_stops_1 0 rfl rfl)
theorem dX3_stops_25 : decode cX3_stops 25 = .ok (.getfield 3, 3) := dk_180 0 3 (dk_at dksX3_stops_1 1 rfl rfl)
theorem dX3_stops_28 : decode cX3_stops 28 = .ok (.getfield 66, 3) := dk_180 0 66 (dk_at dksX3_stops_1 4 rfl rfl)
theorem dX3_stops_31 : decode cX3_stops 31 = .ok (.iload_n 1, 1) := dk_27 (dk_at dksX3_stops_1 7 rfl rfl)
theorem dX3_stops_32 : decode cX3_stops 32 = .ok (.iload 4, 2) := dk_21 4 (dk_at dksX3_stops_1 8 rfl rfl)
theorem dX3_stops_34 : decode cX3_stops 34 = .ok (.iload_n 2, 1) := dk_28 (dk_at dksX3_stops_1 10 rfl rfl)
theorem dX3_stops_35 : decode cX3_stops 35 = .ok (.aload_n 0, 1) := dk_42 (dk_at dksX3_stops_1 11 rfl rfl)
theorem dX3_stops_36 : decode cX3_stops 36 = .ok (.getfield 21, 3) := dk_180 0 21 (dk_at dksX3_stops_1 12 rfl rfl)
theorem dX3_stops_39 : decode cX3_stops 39 = .ok (.iload_n 1, 1) := dk_27 (dk_at dksX3_stops_1 15 rfl rfl)
theorem dX3_stops_40 : decode cX3_stops 40 = .ok (.iaload, 1) := dk_46 (dk_at dksX3_stops_1 16 rfl rfl)
theorem dX3_stops_41 : decode cX3_stops 41 = .ok (.aload_n 0, 1) := dk_42 (dk_at dksX3_stops_1 17 rfl rfl)
theorem dX3_stops_42 : decode cX3_stops 42 = .ok (.iload 4, 2) := dk_21 4 (dk_at dksX3_stops_1 18 rfl rfl)
theorem dX3_stops_44 : decode cX3_stops 44 = .ok (.invokevirtual 70, 3) := dk_182 0 70 (dk_at dksX3_stops_1 20 rfl rfl)
theorem dX3_stops_47 : decode cX3_stops 47 = .ok (.aload_n 0, 1) := dk_42 (dk_at dksX3_stops_1 23 rfl rfl)
theorem dX3_stops_48 : decode cX3_stops 48 = .ok (.getfield 33, 3) := dk_180 0 33 (dk_at dksX3_stops_2 0 rfl rfl)
theorem dX3_stops_51 : decode cX3_stops 51 = .ok (.iload 5, 2) := dk_21 5 (dk_at dksX3_stops_2 3 rfl rfl)
theorem dX3_stops_53 : decode cX3_stops 53 = .ok (.invokevirtual 74, 3) := dk_182 0 74 (dk_at dksX3_stops_2 5 rfl rfl)
theorem dX3_stops_56 : decode cX3_stops 56 = .ok (.pop, 1) := dk_87 (dk_at dksX3_stops_2 8 rfl rfl)
theorem dX3_stops_57 : decode cX3_stops 57 = .ok (.aload_n 0, 1) := dk_42 (dk_at dksX3_stops_2 9 rfl rfl)
theorem dX3_stops_58 : decode cX3_stops 58 = .ok (.getfield 3, 3) := dk_180 0 3 (dk_at dksX3_stops_2 10 rfl rfl)
theorem dX3_stops_61 : decode cX3_stops 61 = .ok (.bipush 100, 2) := dk_16 100 (dk_at dksX3_stops_2 13 rfl rfl)
theorem dX3_stops_63 : decode cX3_stops 63 = .ok (.bipush 60, 2) := dk_16 60 (dk_at dksX3_stops_2 15 rfl rfl)
theorem dX3_stops_65 : decode cX3_stops 65 = .ok (.invokevirtual 110, 3) := dk_182 0 110 (dk_at dksX3_stops_2 17 rfl rfl)
theorem dX3_stops_68 : decode cX3_stops 68 = .ok (.istore 6, 2) := dk_54 6 (dk_at dksX3_stops_2 20 rfl rfl)
theorem dX3_stops_70 : decode cX3_stops 70 = .ok (.aload_n 0, 1) := dk_42 (dk_at dksX3_stops_2 22 rfl rfl)
theorem dX3_stops_71 : decode cX3_stops 71 = .ok (.getfield 3, 3) := dk_180 0 3 (dk_at dksX3_stops_3 0 rfl rfl)
theorem dX3_stops_74 : decode cX3_stops 74 = .ok (.bipush 99, 2) := dk_16 99 (dk_at dksX3_stops_3 3 rfl rfl)
theorem dX3_stops_76 : decode cX3_stops 76 = .ok (.bipush 60, 2) := dk_16 60 (dk_at dksX3_stops_3 5 rfl rfl)
theorem dX3_stops_78 : decode cX3_stops 78 = .ok (.invokevirtual 110, 3) := dk_182 0 110 (dk_at dksX3_stops_3 7 rfl rfl)
theorem dX3_stops_81 : decode cX3_stops 81 = .ok (.istore 7, 2) := dk_54 7 (dk_at dksX3_stops_3 10 rfl rfl)
theorem dX3_stops_83 : decode cX3_stops 83 = .ok (.aload_n 0, 1) := dk_42 (dk_at dksX3_stops_3 12 rfl rfl)
theorem dX3_stops_84 : decode cX3_stops 84 = .ok (.getfield 21, 3) := dk_180 0 21 (dk_at dksX3_stops_3 13 rfl rfl)
theorem dX3_stops_87 : decode cX3_stops 87 = .ok (.iload_n 1, 1) := dk_27 (dk_at dksX3_stops_3 16 rfl rfl)
theorem dX3_stops_88 : decode cX3_stops 88 = .ok (.aload_n 0, 1) := dk_42 (dk_at dksX3_stops_3 17 rfl rfl)
theorem dX3_stops_89 : decode cX3_stops 89 = .ok (.getfield 21, 3) := dk_180 0 21 (dk_at dksX3_stops_3 18 rfl rfl)
theorem dX3_stops_92 : decode cX3_stops 92 = .ok (.iload_n 1, 1) := dk_27 (dk_at dksX3_stops_3 21 rfl rfl)
theorem dX3_stops_93 : decode cX3_stops 93 = .ok (.iaload, 1) := dk_46 (dk_at dksX3_stops_3 22 rfl rfl)
theorem dX3_stops_94 : decode cX3_stops 94 = .ok (.iload 6, 2) := dk_21 6 (dk_at dksX3_stops_4 0 rfl rfl)
theorem dX3_stops_96 : decode cX3_stops 96 = .ok (.iadd, 1) := dk_96 (dk_at dksX3_stops_4 2 rfl rfl)
theorem dX3_stops_97 : decode cX3_stops 97 = .ok (.iload 7, 2) := dk_21 7 (dk_at dksX3_stops_4 3 rfl rfl)
theorem dX3_stops_99 : decode cX3_stops 99 = .ok (.isub, 1) := dk_100 (dk_at dksX3_stops_4 5 rfl rfl)
theorem dX3_stops_100 : decode cX3_stops 100 = .ok (.sipush 240, 3) := dk_17 0 240 (dk_at dksX3_stops_4 6 rfl rfl)
theorem dX3_stops_103 : decode cX3_stops 103 = .ok (.invokestatic 113, 3) := dk_184 0 113 (dk_at dksX3_stops_4 9 rfl rfl)
theorem dX3_stops_106 : decode cX3_stops 106 = .ok (.iastore, 1) := dk_79 (dk_at dksX3_stops_4 12 rfl rfl)
theorem dX3_stops_107 : decode cX3_stops 107 = .ok (.aload_n 0, 1) := dk_42 (dk_at dksX3_stops_4 13 rfl rfl)
theorem dX3_stops_108 : decode cX3_stops 108 = .ok (.aload_n 0, 1) := dk_42 (dk_at dksX3_stops_4 14 rfl rfl)
theorem dX3_stops_109 : decode cX3_stops 109 = .ok (.getfield 116, 3) := dk_180 0 116 (dk_at dksX3_stops_4 15 rfl rfl)
theorem dX3_stops_112 : decode cX3_stops 112 = .ok (.aload_n 0, 1) := dk_42 (dk_at dksX3_stops_4 18 rfl rfl)
theorem dX3_stops_113 : decode cX3_stops 113 = .ok (.getfield 21, 3) := dk_180 0 21 (dk_at dksX3_stops_4 19 rfl rfl)
theorem dX3_stops_116 : decode cX3_stops 116 = .ok (.iload_n 1, 1) := dk_27 (dk_at dksX3_stops_4 22 rfl rfl)
theorem dX3_stops_117 : decode cX3_stops 117 = .ok (.iaload, 1) := dk_46 (dk_at dksX3_stops_4 23 rfl rfl)
theorem dX3_stops_118 : decode cX3_stops 118 = .ok (.invokestatic 119, 3) := dk_184 0 119 (dk_at dksX3_stops_5 0 rfl rfl)
theorem dX3_stops_121 : decode cX3_stops 121 = .ok (.putfield 116, 3) := dk_181 0 116 (dk_at dksX3_stops_5 3 rfl rfl)
theorem dX3_stops_124 : decode cX3_stops 124 = .ok (.aload_n 0, 1) := dk_42 (dk_at dksX3_stops_5 6 rfl rfl)
theorem dX3_stops_125 : decode cX3_stops 125 = .ok (.iload_n 1, 1) := dk_27 (dk_at dksX3_stops_5 7 rfl rfl)
theorem dX3_stops_126 : decode cX3_stops 126 = .ok (.iload 4, 2) := dk_21 4 (dk_at dksX3_stops_5 8 rfl rfl)
theorem dX3_stops_128 : decode cX3_stops 128 = .ok (.invokevirtual 122, 3) := dk_182 0 122 (dk_at dksX3_stops_5 10 rfl rfl)
theorem dX3_stops_131 : decode cX3_stops 131 = .ok (.iconst 0, 1) := dk_3 (dk_at dksX3_stops_5 13 rfl rfl)
theorem dX3_stops_132 : decode cX3_stops 132 = .ok (.istore 8, 2) := dk_54 8 (dk_at dksX3_stops_5 14 rfl rfl)
theorem dX3_stops_134 : decode cX3_stops 134 = .ok (.iload 8, 2) := dk_21 8 (dk_at dksX3_stops_5 16 rfl rfl)
theorem dX3_stops_136 : decode cX3_stops 136 = .ok (.bipush 12, 2) := dk_16 12 (dk_at dksX3_stops_5 18 rfl rfl)
theorem dX3_stops_138 : decode cX3_stops 138 = .ok (.if_icmp .ge 93, 3) := dk_162 0 93 (dk_at dksX3_stops_5 20 rfl rfl)
theorem dX3_stops_141 : decode cX3_stops 141 = .ok (.aload_n 0, 1) := dk_42 (dk_at dksX3_stops_5 23 rfl rfl)
theorem dX3_stops_142 : decode cX3_stops 142 = .ok (.getfield 17, 3) := dk_180 0 17 (dk_at dksX3_stops_6 0 rfl rfl)
theorem dX3_stops_145 : decode cX3_stops 145 = .ok (.iload 8, 2) := dk_21 8 (dk_at dksX3_stops_6 3 rfl rfl)
theorem dX3_stops_147 : decode cX3_stops 147 = .ok (.aaload, 1) := dk_50 (dk_at dksX3_stops_6 5 rfl rfl)
theorem dX3_stops_148 : decode cX3_stops 148 = .ok (.astore 9, 2) := dk_58 9 (dk_at dksX3_stops_6 6 rfl rfl)
theorem dX3_stops_150 : decode cX3_stops 150 = .ok (.aload 9, 2) := dk_25 9 (dk_at dksX3_stops_6 8 rfl rfl)
theorem dX3_stops_152 : decode cX3_stops 152 = .ok (.getfield 47, 3) := dk_180 0 47 (dk_at dksX3_stops_6 10 rfl rfl)
theorem dX3_stops_155 : decode cX3_stops 155 = .ok (.ifCond .eq 70, 3) := dk_153 0 70 (dk_at dksX3_stops_6 13 rfl rfl)
theorem dX3_stops_158 : decode cX3_stops 158 = .ok (.aload 9, 2) := dk_25 9 (dk_at dksX3_stops_6 16 rfl rfl)
theorem dX3_stops_160 : decode cX3_stops 160 = .ok (.getfield 51, 3) := dk_180 0 51 (dk_at dksX3_stops_6 18 rfl rfl)
theorem dX3_stops_163 : decode cX3_stops 163 = .ok (.iload 4, 2) := dk_21 4 (dk_at dksX3_stops_6 21 rfl rfl)
theorem dX3_stops_165 : decode cX3_stops 165 = .ok (.if_icmp .ne 60, 3) := dk_160 0 60 (dk_at dksX3_stops_7 0 rfl rfl)
theorem dX3_stops_168 : decode cX3_stops 168 = .ok (.aload_n 0, 1) := dk_42 (dk_at dksX3_stops_7 3 rfl rfl)
theorem dX3_stops_169 : decode cX3_stops 169 = .ok (.getfield 25, 3) := dk_180 0 25 (dk_at dksX3_stops_7 4 rfl rfl)
theorem dX3_stops_172 : decode cX3_stops 172 = .ok (.iload 8, 2) := dk_21 8 (dk_at dksX3_stops_7 7 rfl rfl)
theorem dX3_stops_174 : decode cX3_stops 174 = .ok (.iaload, 1) := dk_46 (dk_at dksX3_stops_7 9 rfl rfl)
theorem dX3_stops_175 : decode cX3_stops 175 = .ok (.iconst (-1), 1) := dk_2 (dk_at dksX3_stops_7 10 rfl rfl)
theorem dX3_stops_176 : decode cX3_stops 176 = .ok (.if_icmp .ne 49, 3) := dk_160 0 49 (dk_at dksX3_stops_7 11 rfl rfl)
theorem dX3_stops_179 : decode cX3_stops 179 = .ok (.aload 9, 2) := dk_25 9 (dk_at dksX3_stops_7 14 rfl rfl)
theorem dX3_stops_181 : decode cX3_stops 181 = .ok (.getfield 126, 3) := dk_180 0 126 (dk_at dksX3_stops_7 16 rfl rfl)
theorem dX3_stops_184 : decode cX3_stops 184 = .ok (.aload_n 3, 1) := dk_45 (dk_at dksX3_stops_7 19 rfl rfl)
theorem dX3_stops_185 : decode cX3_stops 185 = .ok (.getfield 129, 3) := dk_180 0 129 (dk_at dksX3_stops_7 20 rfl rfl)
theorem dX3_stops_188 : decode cX3_stops 188 = .ok (.iload_n 2, 1) := dk_28 (dk_at dksX3_stops_7 23 rfl rfl)
theorem dX3_stops_189 : decode cX3_stops 189 = .ok (.iaload, 1) := dk_46 (dk_at dksX3_stops_8 0 rfl rfl)
theorem dX3_stops_190 : decode cX3_stops 190 = .ok (.aload_n 0, 1) := dk_42 (dk_at dksX3_stops_8 1 rfl rfl)
theorem dX3_stops_191 : decode cX3_stops 191 = .ok (.getfield 21, 3) := dk_180 0 21 (dk_at dksX3_stops_8 2 rfl rfl)
theorem dX3_stops_194 : decode cX3_stops 194 = .ok (.iload_n 1, 1) := dk_27 (dk_at dksX3_stops_8 5 rfl rfl)
theorem dX3_stops_195 : decode cX3_stops 195 = .ok (.iaload, 1) := dk_46 (dk_at dksX3_stops_8 6 rfl rfl)
theorem dX3_stops_196 : decode cX3_stops 196 = .ok (.iadd, 1) := dk_96 (dk_at dksX3_stops_8 7 rfl rfl)
theorem dX3_stops_197 : decode cX3_stops 197 = .ok (.if_icmp .gt 28, 3) := dk_163 0 28 (dk_at dksX3_stops_8 8 rfl rfl)
theorem dX3_stops_200 : decode cX3_stops 200 = .ok (.aload_n 3, 1) := dk_45 (dk_at dksX3_stops_8 11 rfl rfl)
theorem dX3_stops_201 : decode cX3_stops 201 = .ok (.aload 9, 2) := dk_25 9 (dk_at dksX3_stops_8 12 rfl rfl)
theorem dX3_stops_203 : decode cX3_stops 203 = .ok (.getfield 54, 3) := dk_180 0 54 (dk_at dksX3_stops_8 14 rfl rfl)
theorem dX3_stops_206 : decode cX3_stops 206 = .ok (.invokevirtual 132, 3) := dk_182 0 132 (dk_at dksX3_stops_8 17 rfl rfl)
theorem dX3_stops_209 : decode cX3_stops 209 = .ok (.iload_n 2, 1) := dk_28 (dk_at dksX3_stops_8 20 rfl rfl)
theorem dX3_stops_210 : decode cX3_stops 210 = .ok (.if_icmp .le 15, 3) := dk_164 0 15 (dk_at dksX3_stops_8 21 rfl rfl)
theorem dX3_stops_213 : decode cX3_stops 213 = .ok (.aload_n 0, 1) := dk_42 (dk_at dksX3_stops_9 0 rfl rfl)
theorem dX3_stops_214 : decode cX3_stops 214 = .ok (.iload 8, 2) := dk_21 8 (dk_at dksX3_stops_9 1 rfl rfl)
theorem dX3_stops_216 : decode cX3_stops 216 = .ok (.iload_n 1, 1) := dk_27 (dk_at dksX3_stops_9 3 rfl rfl)
theorem dX3_stops_217 : decode cX3_stops 217 = .ok (.iload 4, 2) := dk_21 4 (dk_at dksX3_stops_9 4 rfl rfl)
theorem dX3_stops_219 : decode cX3_stops 219 = .ok (.iload_n 2, 1) := dk_28 (dk_at dksX3_stops_9 6 rfl rfl)
theorem dX3_stops_220 : decode cX3_stops 220 = .ok (.iload 5, 2) := dk_21 5 (dk_at dksX3_stops_9 7 rfl rfl)
theorem dX3_stops_222 : decode cX3_stops 222 = .ok (.invokevirtual 135, 3) := dk_182 0 135 (dk_at dksX3_stops_9 9 rfl rfl)
theorem dX3_stops_225 : decode cX3_stops 225 = .ok (.iinc 8 1, 3) := dk_132 8 1 (dk_at dksX3_stops_9 12 rfl rfl)
theorem dX3_stops_228 : decode cX3_stops 228 = .ok (.goto (-94), 3) := dk_167 255 162 (dk_at dksX3_stops_9 15 rfl rfl)
theorem dX3_stops_231 : decode cX3_stops 231 = .ok (.return_, 1) := dk_177 (dk_at dksX3_stops_9 18 rfl rfl)
abbrev cX3_draw : ByteArray := prog_11_method_4_code
def yX3_draw : MethodName := ⟨RX3, "draw", "()I"⟩
def dkwX3_draw_1 : List UInt8 := [16, 10, 112, 172]
abbrev dktX3_draw_1 : List UInt8 := dkwX3_draw_1 ++ []
def dkwX3_draw_0 : List UInt8 := [42, 17, 98, 85, 42, 180, 0, 37, 104, 17, 54, 25, 96, 18, 46, 112, 181, 0, 37, 42, 180, 0, 37]
abbrev dktX3_draw_0 : List UInt8 := dkwX3_draw_0 ++ dktX3_draw_1
theorem dksX3_draw_0 : cX3_draw.data.toList.drop 0 = dktX3_draw_0 := by decide +kernel
theorem dksX3_draw_1 : cX3_draw.data.toList.drop 23 = dktX3_draw_1 := dk_seg dksX3_draw_0 23 rfl rfl
theorem dX3_draw_0 : decode cX3_draw 0 = .ok (.aload_n 0, 1) := dk_42 (dk_at dksX3_draw_0 0 rfl rfl)
theorem dX3_draw_1 : decode cX3_draw 1 = .ok (.sipush 25173, 3) := dk_17 98 85 (dk_at dksX3_draw_0 1 rfl rfl)
theorem dX3_draw_4 : decode cX3_draw 4 = .ok (.aload_n 0, 1) := dk_42 (dk_at dksX3_draw_0 4 rfl rfl)
theorem dX3_draw_5 : decode cX3_draw 5 = .ok (.getfield 37, 3) := dk_180 0 37 (dk_at dksX3_draw_0 5 rfl rfl)
theorem dX3_draw_8 : decode cX3_draw 8 = .ok (.imul, 1) := dk_104 (dk_at dksX3_draw_0 8 rfl rfl)
theorem dX3_draw_9 : decode cX3_draw 9 = .ok (.sipush 13849, 3) := dk_17 54 25 (dk_at dksX3_draw_0 9 rfl rfl)
theorem dX3_draw_12 : decode cX3_draw 12 = .ok (.iadd, 1) := dk_96 (dk_at dksX3_draw_0 12 rfl rfl)
theorem dX3_draw_13 : decode cX3_draw 13 = .ok (.ldc 46, 2) := dk_18 46 (dk_at dksX3_draw_0 13 rfl rfl)
theorem dX3_draw_15 : decode cX3_draw 15 = .ok (.irem, 1) := dk_112 (dk_at dksX3_draw_0 15 rfl rfl)
theorem dX3_draw_16 : decode cX3_draw 16 = .ok (.putfield 37, 3) := dk_181 0 37 (dk_at dksX3_draw_0 16 rfl rfl)
theorem dX3_draw_19 : decode cX3_draw 19 = .ok (.aload_n 0, 1) := dk_42 (dk_at dksX3_draw_0 19 rfl rfl)
theorem dX3_draw_20 : decode cX3_draw 20 = .ok (.getfield 37, 3) := dk_180 0 37 (dk_at dksX3_draw_0 20 rfl rfl)
theorem dX3_draw_23 : decode cX3_draw 23 = .ok (.bipush 10, 2) := dk_16 10 (dk_at dksX3_draw_1 0 rfl rfl)
theorem dX3_draw_25 : decode cX3_draw 25 = .ok (.irem, 1) := dk_112 (dk_at dksX3_draw_1 2 rfl rfl)
theorem dX3_draw_26 : decode cX3_draw 26 = .ok (.ireturn, 1) := dk_172 (dk_at dksX3_draw_1 3 rfl rfl)
abbrev cX3_waiting : ByteArray := prog_11_method_5_code
def yX3_waiting : MethodName := ⟨RX3, "waiting", "(I)I"⟩
def dkwX3_waiting_2 : List UInt8 := [167, 0, 4, 3, 96, 61, 132, 3, 1, 167, 255, 204, 28, 172]
abbrev dktX3_waiting_2 : List UInt8 := dkwX3_waiting_2 ++ []
def dkwX3_waiting_1 : List UInt8 := [180, 0, 17, 29, 50, 180, 0, 51, 27, 160, 0, 17, 42, 180, 0, 25, 29, 46, 2, 160, 0, 7, 4]
abbrev dktX3_waiting_1 : List UInt8 := dkwX3_waiting_1 ++ dktX3_waiting_2
def dkwX3_waiting_0 : List UInt8 := [3, 61, 3, 62, 29, 16, 12, 162, 0, 52, 28, 42, 180, 0, 17, 29, 50, 180, 0, 47, 153, 0, 30, 42]
abbrev dktX3_waiting_0 : List UInt8 := dkwX3_waiting_0 ++ dktX3_waiting_1
theorem dksX3_waiting_0 : cX3_waiting.data.toList.drop 0 = dktX3_waiting_0 := by decide +kernel
theorem dksX3_waiting_1 : cX3_waiting.data.toList.drop 24 = dktX3_waiting_1 := dk_seg dksX3_waiting_0 24 rfl rfl
theorem dksX3_waiting_2 : cX3_waiting.data.toList.drop 47 = dktX3_waiting_2 := dk_seg dksX3_waiting_1 23 rfl rfl
theorem dX3_waiting_0 : decode cX3_waiting 0 = .ok (.iconst 0, 1) := dk_3 (dk_at dksX3_waiting_0 0 rfl rfl)
theorem dX3_waiting_1 : decode cX3_waiting 1 = .ok (.istore_n 2, 1) := dk_61 (dk_at dksX3_waiting_0 1 rfl rfl)
theorem dX3_waiting_2 : decode cX3_waiting 2 = .ok (.iconst 0, 1) := dk_3 (dk_at dksX3_waiting_0 2 rfl rfl)
theorem dX3_waiting_3 : decode cX3_waiting 3 = .ok (.istore_n 3, 1) := dk_62 (dk_at dksX3_waiting_0 3 rfl rfl)
theorem dX3_waiting_4 : decode cX3_waiting 4 = .ok (.iload_n 3, 1) := dk_29 (dk_at dksX3_waiting_0 4 rfl rfl)
theorem dX3_waiting_5 : decode cX3_waiting 5 = .ok (.bipush 12, 2) := dk_16 12 (dk_at dksX3_waiting_0 5 rfl rfl)
theorem dX3_waiting_7 : decode cX3_waiting 7 = .ok (.if_icmp .ge 52, 3) := dk_162 0 52 (dk_at dksX3_waiting_0 7 rfl rfl)
theorem dX3_waiting_10 : decode cX3_waiting 10 = .ok (.iload_n 2, 1) := dk_28 (dk_at dksX3_waiting_0 10 rfl rfl)
theorem dX3_waiting_11 : decode cX3_waiting 11 = .ok (.aload_n 0, 1) := dk_42 (dk_at dksX3_waiting_0 11 rfl rfl)
theorem dX3_waiting_12 : decode cX3_waiting 12 = .ok (.getfield 17, 3) := dk_180 0 17 (dk_at dksX3_waiting_0 12 rfl rfl)
theorem dX3_waiting_15 : decode cX3_waiting 15 = .ok (.iload_n 3, 1) := dk_29 (dk_at dksX3_waiting_0 15 rfl rfl)
theorem dX3_waiting_16 : decode cX3_waiting 16 = .ok (.aaload, 1) := dk_50 (dk_at dksX3_waiting_0 16 rfl rfl)
theorem dX3_waiting_17 : decode cX3_waiting 17 = .ok (.getfield 47, 3) := dk_180 0 47 (dk_at dksX3_waiting_0 17 rfl rfl)
theorem dX3_waiting_20 : decode cX3_waiting 20 = .ok (.ifCond .eq 30, 3) := dk_153 0 30 (dk_at dksX3_waiting_0 20 rfl rfl)
theorem dX3_waiting_23 : decode cX3_waiting 23 = .ok (.aload_n 0, 1) := dk_42 (dk_at dksX3_waiting_0 23 rfl rfl)
theorem dX3_waiting_24 : decode cX3_waiting 24 = .ok (.getfield 17, 3) := dk_180 0 17 (dk_at dksX3_waiting_1 0 rfl rfl)
theorem dX3_waiting_27 : decode cX3_waiting 27 = .ok (.iload_n 3, 1) := dk_29 (dk_at dksX3_waiting_1 3 rfl rfl)
theorem dX3_waiting_28 : decode cX3_waiting 28 = .ok (.aaload, 1) := dk_50 (dk_at dksX3_waiting_1 4 rfl rfl)
theorem dX3_waiting_29 : decode cX3_waiting 29 = .ok (.getfield 51, 3) := dk_180 0 51 (dk_at dksX3_waiting_1 5 rfl rfl)
theorem dX3_waiting_32 : decode cX3_waiting 32 = .ok (.iload_n 1, 1) := dk_27 (dk_at dksX3_waiting_1 8 rfl rfl)
theorem dX3_waiting_33 : decode cX3_waiting 33 = .ok (.if_icmp .ne 17, 3) := dk_160 0 17 (dk_at dksX3_waiting_1 9 rfl rfl)
theorem dX3_waiting_36 : decode cX3_waiting 36 = .ok (.aload_n 0, 1) := dk_42 (dk_at dksX3_waiting_1 12 rfl rfl)
theorem dX3_waiting_37 : decode cX3_waiting 37 = .ok (.getfield 25, 3) := dk_180 0 25 (dk_at dksX3_waiting_1 13 rfl rfl)
theorem dX3_waiting_40 : decode cX3_waiting 40 = .ok (.iload_n 3, 1) := dk_29 (dk_at dksX3_waiting_1 16 rfl rfl)
theorem dX3_waiting_41 : decode cX3_waiting 41 = .ok (.iaload, 1) := dk_46 (dk_at dksX3_waiting_1 17 rfl rfl)
theorem dX3_waiting_42 : decode cX3_waiting 42 = .ok (.iconst (-1), 1) := dk_2 (dk_at dksX3_waiting_1 18 rfl rfl)
theorem dX3_waiting_43 : decode cX3_waiting 43 = .ok (.if_icmp .ne 7, 3) := dk_160 0 7 (dk_at dksX3_waiting_1 19 rfl rfl)
theorem dX3_waiting_46 : decode cX3_waiting 46 = .ok (.iconst 1, 1) := dk_4 (dk_at dksX3_waiting_1 22 rfl rfl)
theorem dX3_waiting_47 : decode cX3_waiting 47 = .ok (.goto 4, 3) := dk_167 0 4 (dk_at dksX3_waiting_2 0 rfl rfl)
theorem dX3_waiting_50 : decode cX3_waiting 50 = .ok (.iconst 0, 1) := dk_3 (dk_at dksX3_waiting_2 3 rfl rfl)
theorem dX3_waiting_51 : decode cX3_waiting 51 = .ok (.iadd, 1) := dk_96 (dk_at dksX3_waiting_2 4 rfl rfl)
theorem dX3_waiting_52 : decode cX3_waiting 52 = .ok (.istore_n 2, 1) := dk_61 (dk_at dksX3_waiting_2 5 rfl rfl)
theorem dX3_waiting_53 : decode cX3_waiting 53 = .ok (.iinc 3 1, 3) := dk_132 3 1 (dk_at dksX3_waiting_2 6 rfl rfl)
theorem dX3_waiting_56 : decode cX3_waiting 56 = .ok (.goto (-52), 3) := dk_167 255 204 (dk_at dksX3_waiting_2 9 rfl rfl)
theorem dX3_waiting_59 : decode cX3_waiting 59 = .ok (.iload_n 2, 1) := dk_28 (dk_at dksX3_waiting_2 12 rfl rfl)
theorem dX3_waiting_60 : decode cX3_waiting 60 = .ok (.ireturn, 1) := dk_172 (dk_at dksX3_waiting_2 13 rfl rfl)
abbrev cX3_arrives : ByteArray := prog_11_method_6_code
def yX3_arrives : MethodName := ⟨RX3, "arrives", "(II)V"⟩
def dkwX3_arrives_3 : List UInt8 := [181, 0, 40, 42, 89, 180, 0, 63, 4, 96, 181, 0, 63, 132, 3, 1, 167, 255, 173, 177]
abbrev dktX3_arrives_3 : List UInt8 := dkwX3_arrives_3 ++ []
def dkwX3_arrives_2 : List UInt8 := [180, 0, 25, 29, 16, 48, 79, 25, 4, 17, 39, 15, 25, 4, 180, 0, 40, 4, 96, 184, 0, 57]
abbrev dktX3_arrives_2 : List UInt8 := dkwX3_arrives_2 ++ dktX3_arrives_3
def dkwX3_arrives_1 : List UInt8 := [42, 180, 0, 25, 29, 46, 27, 160, 0, 51, 25, 4, 180, 0, 54, 28, 159, 0, 6, 167, 0, 39, 42]
abbrev dktX3_arrives_1 : List UInt8 := dkwX3_arrives_1 ++ dktX3_arrives_2
def dkwX3_arrives_0 : List UInt8 := [3, 62, 29, 16, 12, 162, 0, 83, 42, 180, 0, 17, 29, 50, 58, 4, 25, 4, 180, 0, 47, 153, 0, 61]
abbrev dktX3_arrives_0 : List UInt8 := dkwX3_arrives_0 ++ dktX3_arrives_1
theorem dksX3_arrives_0 : cX3_arrives.data.toList.drop 0 = dktX3_arrives_0 := by decide +kernel
theorem dksX3_arrives_1 : cX3_arrives.data.toList.drop 24 = dktX3_arrives_1 := dk_seg dksX3_arrives_0 24 rfl rfl
theorem dksX3_arrives_2 : cX3_arrives.data.toList.drop 47 = dktX3_arrives_2 := dk_seg dksX3_arrives_1 23 rfl rfl
theorem dksX3_arrives_3 : cX3_arrives.data.toList.drop 69 = dktX3_arrives_3 := dk_seg dksX3_arrives_2 22 rfl rfl
theorem dX3_arrives_0 : decode cX3_arrives 0 = .ok (.iconst 0, 1) := dk_3 (dk_at dksX3_arrives_0 0 rfl rfl)
theorem dX3_arrives_1 : decode cX3_arrives 1 = .ok (.istore_n 3, 1) := dk_62 (dk_at dksX3_arrives_0 1 rfl rfl)
theorem dX3_arrives_2 : decode cX3_arrives 2 = .ok (.iload_n 3, 1) := dk_29 (dk_at dksX3_arrives_0 2 rfl rfl)
theorem dX3_arrives_3 : decode cX3_arrives 3 = .ok (.bipush 12, 2) := dk_16 12 (dk_at dksX3_arrives_0 3 rfl rfl)
theorem dX3_arrives_5 : decode cX3_arrives 5 = .ok (.if_icmp .ge 83, 3) := dk_162 0 83 (dk_at dksX3_arrives_0 5 rfl rfl)
theorem dX3_arrives_8 : decode cX3_arrives 8 = .ok (.aload_n 0, 1) := dk_42 (dk_at dksX3_arrives_0 8 rfl rfl)
theorem dX3_arrives_9 : decode cX3_arrives 9 = .ok (.getfield 17, 3) := dk_180 0 17 (dk_at dksX3_arrives_0 9 rfl rfl)
theorem dX3_arrives_12 : decode cX3_arrives 12 = .ok (.iload_n 3, 1) := dk_29 (dk_at dksX3_arrives_0 12 rfl rfl)
theorem dX3_arrives_13 : decode cX3_arrives 13 = .ok (.aaload, 1) := dk_50 (dk_at dksX3_arrives_0 13 rfl rfl)
theorem dX3_arrives_14 : decode cX3_arrives 14 = .ok (.astore 4, 2) := dk_58 4 (dk_at dksX3_arrives_0 14 rfl rfl)
theorem dX3_arrives_16 : decode cX3_arrives 16 = .ok (.aload 4, 2) := dk_25 4 (dk_at dksX3_arrives_0 16 rfl rfl)
theorem dX3_arrives_18 : decode cX3_arrives 18 = .ok (.getfield 47, 3) := dk_180 0 47 (dk_at dksX3_arrives_0 18 rfl rfl)
theorem dX3_arrives_21 : decode cX3_arrives 21 = .ok (.ifCond .eq 61, 3) := dk_153 0 61 (dk_at dksX3_arrives_0 21 rfl rfl)
theorem dX3_arrives_24 : decode cX3_arrives 24 = .ok (.aload_n 0, 1) := dk_42 (dk_at dksX3_arrives_1 0 rfl rfl)
theorem dX3_arrives_25 : decode cX3_arrives 25 = .ok (.getfield 25, 3) := dk_180 0 25 (dk_at dksX3_arrives_1 1 rfl rfl)
theorem dX3_arrives_28 : decode cX3_arrives 28 = .ok (.iload_n 3, 1) := dk_29 (dk_at dksX3_arrives_1 4 rfl rfl)
theorem dX3_arrives_29 : decode cX3_arrives 29 = .ok (.iaload, 1) := dk_46 (dk_at dksX3_arrives_1 5 rfl rfl)
theorem dX3_arrives_30 : decode cX3_arrives 30 = .ok (.iload_n 1, 1) := dk_27 (dk_at dksX3_arrives_1 6 rfl rfl)
theorem dX3_arrives_31 : decode cX3_arrives 31 = .ok (.if_icmp .ne 51, 3) := dk_160 0 51 (dk_at dksX3_arrives_1 7 rfl rfl)
theorem dX3_arrives_34 : decode cX3_arrives 34 = .ok (.aload 4, 2) := dk_25 4 (dk_at dksX3_arrives_1 10 rfl rfl)
theorem dX3_arrives_36 : decode cX3_arrives 36 = .ok (.getfield 54, 3) := dk_180 0 54 (dk_at dksX3_arrives_1 12 rfl rfl)
theorem dX3_arrives_39 : decode cX3_arrives 39 = .ok (.iload_n 2, 1) := dk_28 (dk_at dksX3_arrives_1 15 rfl rfl)
theorem dX3_arrives_40 : decode cX3_arrives 40 = .ok (.if_icmp .eq 6, 3) := dk_159 0 6 (dk_at dksX3_arrives_1 16 rfl rfl)
theorem dX3_arrives_43 : decode cX3_arrives 43 = .ok (.goto 39, 3) := dk_167 0 39 (dk_at dksX3_arrives_1 19 rfl rfl)
theorem dX3_arrives_46 : decode cX3_arrives 46 = .ok (.aload_n 0, 1) := dk_42 (dk_at dksX3_arrives_1 22 rfl rfl)
theorem dX3_arrives_47 : decode cX3_arrives 47 = .ok (.getfield 25, 3) := dk_180 0 25 (dk_at dksX3_arrives_2 0 rfl rfl)
theorem dX3_arrives_50 : decode cX3_arrives 50 = .ok (.iload_n 3, 1) := dk_29 (dk_at dksX3_arrives_2 3 rfl rfl)
theorem dX3_arrives_51 : decode cX3_arrives 51 = .ok (.bipush 48, 2) := dk_16 48 (dk_at dksX3_arrives_2 4 rfl rfl)
theorem dX3_arrives_53 : decode cX3_arrives 53 = .ok (.iastore, 1) := dk_79 (dk_at dksX3_arrives_2 6 rfl rfl)
theorem dX3_arrives_54 : decode cX3_arrives 54 = .ok (.aload 4, 2) := dk_25 4 (dk_at dksX3_arrives_2 7 rfl rfl)
theorem dX3_arrives_56 : decode cX3_arrives 56 = .ok (.sipush 9999, 3) := dk_17 39 15 (dk_at dksX3_arrives_2 9 rfl rfl)
theorem dX3_arrives_59 : decode cX3_arrives 59 = .ok (.aload 4, 2) := dk_25 4 (dk_at dksX3_arrives_2 12 rfl rfl)
theorem dX3_arrives_61 : decode cX3_arrives 61 = .ok (.getfield 40, 3) := dk_180 0 40 (dk_at dksX3_arrives_2 14 rfl rfl)
theorem dX3_arrives_64 : decode cX3_arrives 64 = .ok (.iconst 1, 1) := dk_4 (dk_at dksX3_arrives_2 17 rfl rfl)
theorem dX3_arrives_65 : decode cX3_arrives 65 = .ok (.iadd, 1) := dk_96 (dk_at dksX3_arrives_2 18 rfl rfl)
theorem dX3_arrives_66 : decode cX3_arrives 66 = .ok (.invokestatic 57, 3) := dk_184 0 57 (dk_at dksX3_arrives_2 19 rfl rfl)
theorem dX3_arrives_69 : decode cX3_arrives 69 = .ok (.putfield 40, 3) := dk_181 0 40 (dk_at dksX3_arrives_3 0 rfl rfl)
theorem dX3_arrives_72 : decode cX3_arrives 72 = .ok (.aload_n 0, 1) := dk_42 (dk_at dksX3_arrives_3 3 rfl rfl)
theorem dX3_arrives_73 : decode cX3_arrives 73 = .ok (.dup, 1) := dk_89 (dk_at dksX3_arrives_3 4 rfl rfl)
theorem dX3_arrives_74 : decode cX3_arrives 74 = .ok (.getfield 63, 3) := dk_180 0 63 (dk_at dksX3_arrives_3 5 rfl rfl)
theorem dX3_arrives_77 : decode cX3_arrives 77 = .ok (.iconst 1, 1) := dk_4 (dk_at dksX3_arrives_3 8 rfl rfl)
theorem dX3_arrives_78 : decode cX3_arrives 78 = .ok (.iadd, 1) := dk_96 (dk_at dksX3_arrives_3 9 rfl rfl)
theorem dX3_arrives_79 : decode cX3_arrives 79 = .ok (.putfield 63, 3) := dk_181 0 63 (dk_at dksX3_arrives_3 10 rfl rfl)
theorem dX3_arrives_82 : decode cX3_arrives 82 = .ok (.iinc 3 1, 3) := dk_132 3 1 (dk_at dksX3_arrives_3 13 rfl rfl)
theorem dX3_arrives_85 : decode cX3_arrives 85 = .ok (.goto (-83), 3) := dk_167 255 173 (dk_at dksX3_arrives_3 16 rfl rfl)
theorem dX3_arrives_88 : decode cX3_arrives 88 = .ok (.return_, 1) := dk_177 (dk_at dksX3_arrives_3 19 rfl rfl)
abbrev cX3_boards : ByteArray := prog_11_method_7_code
def yX3_boards : MethodName := ⟨RX3, "boards", "(IIIII)V"⟩
def dkwX3_boards_4 : List UInt8 := [96, 181, 0, 94, 167, 0, 10, 42, 180, 0, 25, 27, 28, 79, 177]
abbrev dktX3_boards_4 : List UInt8 := dkwX3_boards_4 ++ []
def dkwX3_boards_3 : List UInt8 := [25, 6, 17, 39, 15, 25, 6, 180, 0, 43, 4, 96, 184, 0, 57, 181, 0, 43, 42, 89, 180, 0, 94, 4]
abbrev dktX3_boards_3 : List UInt8 := dkwX3_boards_3 ++ dktX3_boards_4
def dkwX3_boards_2 : List UInt8 := [87, 42, 180, 0, 3, 180, 0, 84, 16, 109, 42, 180, 0, 3, 180, 0, 66, 182, 0, 88, 153, 0, 34]
abbrev dktX3_boards_2 : List UInt8 := dkwX3_boards_2 ++ dktX3_boards_3
def dkwX3_boards_1 : List UInt8 := [46, 42, 29, 182, 0, 70, 42, 180, 0, 33, 21, 5, 182, 0, 74, 27, 25, 6, 180, 0, 43, 182, 0, 80]
abbrev dktX3_boards_1 : List UInt8 := dkwX3_boards_1 ++ dktX3_boards_2
def dkwX3_boards_0 : List UInt8 := [42, 180, 0, 17, 27, 50, 58, 6, 42, 180, 0, 3, 180, 0, 66, 28, 29, 21, 4, 42, 180, 0, 21, 28]
abbrev dktX3_boards_0 : List UInt8 := dkwX3_boards_0 ++ dktX3_boards_1
theorem dksX3_boards_0 : cX3_boards.data.toList.drop 0 = dktX3_boards_0 := by decide +kernel
theorem dksX3_boards_1 : cX3_boards.data.toList.drop 24 = dktX3_boards_1 := dk_seg dksX3_boards_0 24 rfl rfl
theorem dksX3_boards_2 : cX3_boards.data.toList.drop 48 = dktX3_boards_2 := dk_seg dksX3_boards_1 24 rfl rfl
theorem dksX3_boards_3 : cX3_boards.data.toList.drop 71 = dktX3_boards_3 := dk_seg dksX3_boards_2 23 rfl rfl
theorem dksX3_boards_4 : cX3_boards.data.toList.drop 95 = dktX3_boards_4 := dk_seg dksX3_boards_3 24 rfl rfl
theorem dX3_boards_0 : decode cX3_boards 0 = .ok (.aload_n 0, 1) := dk_42 (dk_at dksX3_boards_0 0 rfl rfl)
theorem dX3_boards_1 : decode cX3_boards 1 = .ok (.getfield 17, 3) := dk_180 0 17 (dk_at dksX3_boards_0 1 rfl rfl)
theorem dX3_boards_4 : decode cX3_boards 4 = .ok (.iload_n 1, 1) := dk_27 (dk_at dksX3_boards_0 4 rfl rfl)
theorem dX3_boards_5 : decode cX3_boards 5 = .ok (.aaload, 1) := dk_50 (dk_at dksX3_boards_0 5 rfl rfl)
theorem dX3_boards_6 : decode cX3_boards 6 = .ok (.astore 6, 2) := dk_58 6 (dk_at dksX3_boards_0 6 rfl rfl)
theorem dX3_boards_8 : decode cX3_boards 8 = .ok (.aload_n 0, 1) := dk_42 (dk_at dksX3_boards_0 8 rfl rfl)
theorem dX3_boards_9 : decode cX3_boards 9 = .ok (.getfield 3, 3) := dk_180 0 3 (dk_at dksX3_boards_0 9 rfl rfl)
theorem dX3_boards_12 : decode cX3_boards 12 = .ok (.getfield 66, 3) := dk_180 0 66 (dk_at dksX3_boards_0 12 rfl rfl)
theorem dX3_boards_15 : decode cX3_boards 15 = .ok (.iload_n 2, 1) := dk_28 (dk_at dksX3_boards_0 15 rfl rfl)
theorem dX3_boards_16 : decode cX3_boards 16 = .ok (.iload_n 3, 1) := dk_29 (dk_at dksX3_boards_0 16 rfl rfl)
theorem dX3_boards_17 : decode cX3_boards 17 = .ok (.iload 4, 2) := dk_21 4 (dk_at dksX3_boards_0 17 rfl rfl)
theorem dX3_boards_19 : decode cX3_boards 19 = .ok (.aload_n 0, 1) := dk_42 (dk_at dksX3_boards_0 19 rfl rfl)
theorem dX3_boards_20 : decode cX3_boards 20 = .ok (.getfield 21, 3) := dk_180 0 21 (dk_at dksX3_boards_0 20 rfl rfl)
theorem dX3_boards_23 : decode cX3_boards 23 = .ok (.iload_n 2, 1) := dk_28 (dk_at dksX3_boards_0 23 rfl rfl)
theorem dX3_boards_24 : decode cX3_boards 24 = .ok (.iaload, 1) := dk_46 (dk_at dksX3_boards_1 0 rfl rfl)
theorem dX3_boards_25 : decode cX3_boards 25 = .ok (.aload_n 0, 1) := dk_42 (dk_at dksX3_boards_1 1 rfl rfl)
theorem dX3_boards_26 : decode cX3_boards 26 = .ok (.iload_n 3, 1) := dk_29 (dk_at dksX3_boards_1 2 rfl rfl)
theorem dX3_boards_27 : decode cX3_boards 27 = .ok (.invokevirtual 70, 3) := dk_182 0 70 (dk_at dksX3_boards_1 3 rfl rfl)
theorem dX3_boards_30 : decode cX3_boards 30 = .ok (.aload_n 0, 1) := dk_42 (dk_at dksX3_boards_1 6 rfl rfl)
theorem dX3_boards_31 : decode cX3_boards 31 = .ok (.getfield 33, 3) := dk_180 0 33 (dk_at dksX3_boards_1 7 rfl rfl)
theorem dX3_boards_34 : decode cX3_boards 34 = .ok (.iload 5, 2) := dk_21 5 (dk_at dksX3_boards_1 10 rfl rfl)
theorem dX3_boards_36 : decode cX3_boards 36 = .ok (.invokevirtual 74, 3) := dk_182 0 74 (dk_at dksX3_boards_1 12 rfl rfl)
theorem dX3_boards_39 : decode cX3_boards 39 = .ok (.iload_n 1, 1) := dk_27 (dk_at dksX3_boards_1 15 rfl rfl)
theorem dX3_boards_40 : decode cX3_boards 40 = .ok (.aload 6, 2) := dk_25 6 (dk_at dksX3_boards_1 16 rfl rfl)
theorem dX3_boards_42 : decode cX3_boards 42 = .ok (.getfield 43, 3) := dk_180 0 43 (dk_at dksX3_boards_1 18 rfl rfl)
theorem dX3_boards_45 : decode cX3_boards 45 = .ok (.invokevirtual 80, 3) := dk_182 0 80 (dk_at dksX3_boards_1 21 rfl rfl)
theorem dX3_boards_48 : decode cX3_boards 48 = .ok (.pop, 1) := dk_87 (dk_at dksX3_boards_2 0 rfl rfl)
theorem dX3_boards_49 : decode cX3_boards 49 = .ok (.aload_n 0, 1) := dk_42 (dk_at dksX3_boards_2 1 rfl rfl)
theorem dX3_boards_50 : decode cX3_boards 50 = .ok (.getfield 3, 3) := dk_180 0 3 (dk_at dksX3_boards_2 2 rfl rfl)
theorem dX3_boards_53 : decode cX3_boards 53 = .ok (.getfield 84, 3) := dk_180 0 84 (dk_at dksX3_boards_2 5 rfl rfl)
theorem dX3_boards_56 : decode cX3_boards 56 = .ok (.bipush 109, 2) := dk_16 109 (dk_at dksX3_boards_2 8 rfl rfl)
theorem dX3_boards_58 : decode cX3_boards 58 = .ok (.aload_n 0, 1) := dk_42 (dk_at dksX3_boards_2 10 rfl rfl)
theorem dX3_boards_59 : decode cX3_boards 59 = .ok (.getfield 3, 3) := dk_180 0 3 (dk_at dksX3_boards_2 11 rfl rfl)
theorem dX3_boards_62 : decode cX3_boards 62 = .ok (.getfield 66, 3) := dk_180 0 66 (dk_at dksX3_boards_2 14 rfl rfl)
theorem dX3_boards_65 : decode cX3_boards 65 = .ok (.invokevirtual 88, 3) := dk_182 0 88 (dk_at dksX3_boards_2 17 rfl rfl)
theorem dX3_boards_68 : decode cX3_boards 68 = .ok (.ifCond .eq 34, 3) := dk_153 0 34 (dk_at dksX3_boards_2 20 rfl rfl)
theorem dX3_boards_71 : decode cX3_boards 71 = .ok (.aload 6, 2) := dk_25 6 (dk_at dksX3_boards_3 0 rfl rfl)
theorem dX3_boards_73 : decode cX3_boards 73 = .ok (.sipush 9999, 3) := dk_17 39 15 (dk_at dksX3_boards_3 2 rfl rfl)
theorem dX3_boards_76 : decode cX3_boards 76 = .ok (.aload 6, 2) := dk_25 6 (dk_at dksX3_boards_3 5 rfl rfl)
theorem dX3_boards_78 : decode cX3_boards 78 = .ok (.getfield 43, 3) := dk_180 0 43 (dk_at dksX3_boards_3 7 rfl rfl)
theorem dX3_boards_81 : decode cX3_boards 81 = .ok (.iconst 1, 1) := dk_4 (dk_at dksX3_boards_3 10 rfl rfl)
theorem dX3_boards_82 : decode cX3_boards 82 = .ok (.iadd, 1) := dk_96 (dk_at dksX3_boards_3 11 rfl rfl)
theorem dX3_boards_83 : decode cX3_boards 83 = .ok (.invokestatic 57, 3) := dk_184 0 57 (dk_at dksX3_boards_3 12 rfl rfl)
theorem dX3_boards_86 : decode cX3_boards 86 = .ok (.putfield 43, 3) := dk_181 0 43 (dk_at dksX3_boards_3 15 rfl rfl)
theorem dX3_boards_89 : decode cX3_boards 89 = .ok (.aload_n 0, 1) := dk_42 (dk_at dksX3_boards_3 18 rfl rfl)
theorem dX3_boards_90 : decode cX3_boards 90 = .ok (.dup, 1) := dk_89 (dk_at dksX3_boards_3 19 rfl rfl)
theorem dX3_boards_91 : decode cX3_boards 91 = .ok (.getfield 94, 3) := dk_180 0 94 (dk_at dksX3_boards_3 20 rfl rfl)
theorem dX3_boards_94 : decode cX3_boards 94 = .ok (.iconst 1, 1) := dk_4 (dk_at dksX3_boards_3 23 rfl rfl)
theorem dX3_boards_95 : decode cX3_boards 95 = .ok (.iadd, 1) := dk_96 (dk_at dksX3_boards_4 0 rfl rfl)
theorem dX3_boards_96 : decode cX3_boards 96 = .ok (.putfield 94, 3) := dk_181 0 94 (dk_at dksX3_boards_4 1 rfl rfl)
theorem dX3_boards_99 : decode cX3_boards 99 = .ok (.goto 10, 3) := dk_167 0 10 (dk_at dksX3_boards_4 4 rfl rfl)
theorem dX3_boards_102 : decode cX3_boards 102 = .ok (.aload_n 0, 1) := dk_42 (dk_at dksX3_boards_4 7 rfl rfl)
theorem dX3_boards_103 : decode cX3_boards 103 = .ok (.getfield 25, 3) := dk_180 0 25 (dk_at dksX3_boards_4 8 rfl rfl)
theorem dX3_boards_106 : decode cX3_boards 106 = .ok (.iload_n 1, 1) := dk_27 (dk_at dksX3_boards_4 11 rfl rfl)
theorem dX3_boards_107 : decode cX3_boards 107 = .ok (.iload_n 2, 1) := dk_28 (dk_at dksX3_boards_4 12 rfl rfl)
theorem dX3_boards_108 : decode cX3_boards 108 = .ok (.iastore, 1) := dk_79 (dk_at dksX3_boards_4 13 rfl rfl)
theorem dX3_boards_109 : decode cX3_boards 109 = .ok (.return_, 1) := dk_177 (dk_at dksX3_boards_4 14 rfl rfl)
abbrev cX3_takes : ByteArray := prog_11_method_2_code
def yX3_takes : MethodName := ⟨RX3, "takes", "(LMissedTrains$Platform;)LMissedTrains$Platform;"⟩
def dkwX3_takes_1 : List UInt8 := [132, 2, 1, 167, 255, 232, 42, 43, 180, 0, 33, 181, 0, 33, 42, 43, 180, 0, 37, 181, 0, 37, 42, 176]
abbrev dktX3_takes_1 : List UInt8 := dkwX3_takes_1 ++ []
def dkwX3_takes_0 : List UInt8 := [3, 61, 28, 16, 12, 162, 0, 24, 42, 180, 0, 17, 28, 50, 43, 180, 0, 17, 28, 50, 182, 0, 29]
abbrev dktX3_takes_0 : List UInt8 := dkwX3_takes_0 ++ dktX3_takes_1
theorem dksX3_takes_0 : cX3_takes.data.toList.drop 0 = dktX3_takes_0 := by decide +kernel
theorem dksX3_takes_1 : cX3_takes.data.toList.drop 23 = dktX3_takes_1 := dk_seg dksX3_takes_0 23 rfl rfl
theorem dX3_takes_0 : decode cX3_takes 0 = .ok (.iconst 0, 1) := dk_3 (dk_at dksX3_takes_0 0 rfl rfl)
theorem dX3_takes_1 : decode cX3_takes 1 = .ok (.istore_n 2, 1) := dk_61 (dk_at dksX3_takes_0 1 rfl rfl)
theorem dX3_takes_2 : decode cX3_takes 2 = .ok (.iload_n 2, 1) := dk_28 (dk_at dksX3_takes_0 2 rfl rfl)
theorem dX3_takes_3 : decode cX3_takes 3 = .ok (.bipush 12, 2) := dk_16 12 (dk_at dksX3_takes_0 3 rfl rfl)
theorem dX3_takes_5 : decode cX3_takes 5 = .ok (.if_icmp .ge 24, 3) := dk_162 0 24 (dk_at dksX3_takes_0 5 rfl rfl)
theorem dX3_takes_8 : decode cX3_takes 8 = .ok (.aload_n 0, 1) := dk_42 (dk_at dksX3_takes_0 8 rfl rfl)
theorem dX3_takes_9 : decode cX3_takes 9 = .ok (.getfield 17, 3) := dk_180 0 17 (dk_at dksX3_takes_0 9 rfl rfl)
theorem dX3_takes_12 : decode cX3_takes 12 = .ok (.iload_n 2, 1) := dk_28 (dk_at dksX3_takes_0 12 rfl rfl)
theorem dX3_takes_13 : decode cX3_takes 13 = .ok (.aaload, 1) := dk_50 (dk_at dksX3_takes_0 13 rfl rfl)
theorem dX3_takes_14 : decode cX3_takes 14 = .ok (.aload_n 1, 1) := dk_43 (dk_at dksX3_takes_0 14 rfl rfl)
theorem dX3_takes_15 : decode cX3_takes 15 = .ok (.getfield 17, 3) := dk_180 0 17 (dk_at dksX3_takes_0 15 rfl rfl)
theorem dX3_takes_18 : decode cX3_takes 18 = .ok (.iload_n 2, 1) := dk_28 (dk_at dksX3_takes_0 18 rfl rfl)
theorem dX3_takes_19 : decode cX3_takes 19 = .ok (.aaload, 1) := dk_50 (dk_at dksX3_takes_0 19 rfl rfl)
theorem dX3_takes_20 : decode cX3_takes 20 = .ok (.invokevirtual 29, 3) := dk_182 0 29 (dk_at dksX3_takes_0 20 rfl rfl)
theorem dX3_takes_23 : decode cX3_takes 23 = .ok (.iinc 2 1, 3) := dk_132 2 1 (dk_at dksX3_takes_1 0 rfl rfl)
theorem dX3_takes_26 : decode cX3_takes 26 = .ok (.goto (-24), 3) := dk_167 255 232 (dk_at dksX3_takes_1 3 rfl rfl)
theorem dX3_takes_29 : decode cX3_takes 29 = .ok (.aload_n 0, 1) := dk_42 (dk_at dksX3_takes_1 6 rfl rfl)
theorem dX3_takes_30 : decode cX3_takes 30 = .ok (.aload_n 1, 1) := dk_43 (dk_at dksX3_takes_1 7 rfl rfl)
theorem dX3_takes_31 : decode cX3_takes 31 = .ok (.getfield 33, 3) := dk_180 0 33 (dk_at dksX3_takes_1 8 rfl rfl)
theorem dX3_takes_34 : decode cX3_takes 34 = .ok (.putfield 33, 3) := dk_181 0 33 (dk_at dksX3_takes_1 11 rfl rfl)
theorem dX3_takes_37 : decode cX3_takes 37 = .ok (.aload_n 0, 1) := dk_42 (dk_at dksX3_takes_1 14 rfl rfl)
theorem dX3_takes_38 : decode cX3_takes 38 = .ok (.aload_n 1, 1) := dk_43 (dk_at dksX3_takes_1 15 rfl rfl)
theorem dX3_takes_39 : decode cX3_takes 39 = .ok (.getfield 37, 3) := dk_180 0 37 (dk_at dksX3_takes_1 16 rfl rfl)
theorem dX3_takes_42 : decode cX3_takes 42 = .ok (.putfield 37, 3) := dk_181 0 37 (dk_at dksX3_takes_1 19 rfl rfl)
theorem dX3_takes_45 : decode cX3_takes 45 = .ok (.aload_n 0, 1) := dk_42 (dk_at dksX3_takes_1 22 rfl rfl)
theorem dX3_takes_46 : decode cX3_takes 46 = .ok (.areturn, 1) := dk_176 (dk_at dksX3_takes_1 23 rfl rfl)
abbrev cX3_isAgain : ByteArray := prog_11_method_3_code
def yX3_isAgain : MethodName := ⟨RX3, "isAgain", "(LMissedTrains$Platform;)V"⟩
def dkwX3_isAgain_2 : List UInt8 := [167, 255, 211, 42, 43, 180, 0, 33, 181, 0, 33, 42, 43, 180, 0, 37, 181, 0, 37, 177]
abbrev dktX3_isAgain_2 : List UInt8 := dkwX3_isAgain_2 ++ []
def dkwX3_isAgain_1 : List UInt8 := [181, 0, 40, 42, 180, 0, 17, 28, 50, 43, 180, 0, 17, 28, 50, 180, 0, 43, 181, 0, 43, 132, 2, 1]
abbrev dktX3_isAgain_1 : List UInt8 := dkwX3_isAgain_1 ++ dktX3_isAgain_2
def dkwX3_isAgain_0 : List UInt8 := [3, 61, 28, 16, 12, 162, 0, 45, 42, 180, 0, 17, 28, 50, 43, 180, 0, 17, 28, 50, 180, 0, 40]
abbrev dktX3_isAgain_0 : List UInt8 := dkwX3_isAgain_0 ++ dktX3_isAgain_1
theorem dksX3_isAgain_0 : cX3_isAgain.data.toList.drop 0 = dktX3_isAgain_0 := by decide +kernel
theorem dksX3_isAgain_1 : cX3_isAgain.data.toList.drop 23 = dktX3_isAgain_1 := dk_seg dksX3_isAgain_0 23 rfl rfl
theorem dksX3_isAgain_2 : cX3_isAgain.data.toList.drop 47 = dktX3_isAgain_2 := dk_seg dksX3_isAgain_1 24 rfl rfl
theorem dX3_isAgain_0 : decode cX3_isAgain 0 = .ok (.iconst 0, 1) := dk_3 (dk_at dksX3_isAgain_0 0 rfl rfl)
theorem dX3_isAgain_1 : decode cX3_isAgain 1 = .ok (.istore_n 2, 1) := dk_61 (dk_at dksX3_isAgain_0 1 rfl rfl)
theorem dX3_isAgain_2 : decode cX3_isAgain 2 = .ok (.iload_n 2, 1) := dk_28 (dk_at dksX3_isAgain_0 2 rfl rfl)
theorem dX3_isAgain_3 : decode cX3_isAgain 3 = .ok (.bipush 12, 2) := dk_16 12 (dk_at dksX3_isAgain_0 3 rfl rfl)
theorem dX3_isAgain_5 : decode cX3_isAgain 5 = .ok (.if_icmp .ge 45, 3) := dk_162 0 45 (dk_at dksX3_isAgain_0 5 rfl rfl)
theorem dX3_isAgain_8 : decode cX3_isAgain 8 = .ok (.aload_n 0, 1) := dk_42 (dk_at dksX3_isAgain_0 8 rfl rfl)
theorem dX3_isAgain_9 : decode cX3_isAgain 9 = .ok (.getfield 17, 3) := dk_180 0 17 (dk_at dksX3_isAgain_0 9 rfl rfl)
theorem dX3_isAgain_12 : decode cX3_isAgain 12 = .ok (.iload_n 2, 1) := dk_28 (dk_at dksX3_isAgain_0 12 rfl rfl)
theorem dX3_isAgain_13 : decode cX3_isAgain 13 = .ok (.aaload, 1) := dk_50 (dk_at dksX3_isAgain_0 13 rfl rfl)
theorem dX3_isAgain_14 : decode cX3_isAgain 14 = .ok (.aload_n 1, 1) := dk_43 (dk_at dksX3_isAgain_0 14 rfl rfl)
theorem dX3_isAgain_15 : decode cX3_isAgain 15 = .ok (.getfield 17, 3) := dk_180 0 17 (dk_at dksX3_isAgain_0 15 rfl rfl)
theorem dX3_isAgain_18 : decode cX3_isAgain 18 = .ok (.iload_n 2, 1) := dk_28 (dk_at dksX3_isAgain_0 18 rfl rfl)
theorem dX3_isAgain_19 : decode cX3_isAgain 19 = .ok (.aaload, 1) := dk_50 (dk_at dksX3_isAgain_0 19 rfl rfl)
theorem dX3_isAgain_20 : decode cX3_isAgain 20 = .ok (.getfield 40, 3) := dk_180 0 40 (dk_at dksX3_isAgain_0 20 rfl rfl)
theorem dX3_isAgain_23 : decode cX3_isAgain 23 = .ok (.putfield 40, 3) := dk_181 0 40 (dk_at dksX3_isAgain_1 0 rfl rfl)
theorem dX3_isAgain_26 : decode cX3_isAgain 26 = .ok (.aload_n 0, 1) := dk_42 (dk_at dksX3_isAgain_1 3 rfl rfl)
theorem dX3_isAgain_27 : decode cX3_isAgain 27 = .ok (.getfield 17, 3) := dk_180 0 17 (dk_at dksX3_isAgain_1 4 rfl rfl)
theorem dX3_isAgain_30 : decode cX3_isAgain 30 = .ok (.iload_n 2, 1) := dk_28 (dk_at dksX3_isAgain_1 7 rfl rfl)
theorem dX3_isAgain_31 : decode cX3_isAgain 31 = .ok (.aaload, 1) := dk_50 (dk_at dksX3_isAgain_1 8 rfl rfl)
theorem dX3_isAgain_32 : decode cX3_isAgain 32 = .ok (.aload_n 1, 1) := dk_43 (dk_at dksX3_isAgain_1 9 rfl rfl)
theorem dX3_isAgain_33 : decode cX3_isAgain 33 = .ok (.getfield 17, 3) := dk_180 0 17 (dk_at dksX3_isAgain_1 10 rfl rfl)
theorem dX3_isAgain_36 : decode cX3_isAgain 36 = .ok (.iload_n 2, 1) := dk_28 (dk_at dksX3_isAgain_1 13 rfl rfl)
theorem dX3_isAgain_37 : decode cX3_isAgain 37 = .ok (.aaload, 1) := dk_50 (dk_at dksX3_isAgain_1 14 rfl rfl)
theorem dX3_isAgain_38 : decode cX3_isAgain 38 = .ok (.getfield 43, 3) := dk_180 0 43 (dk_at dksX3_isAgain_1 15 rfl rfl)
theorem dX3_isAgain_41 : decode cX3_isAgain 41 = .ok (.putfield 43, 3) := dk_181 0 43 (dk_at dksX3_isAgain_1 18 rfl rfl)
theorem dX3_isAgain_44 : decode cX3_isAgain 44 = .ok (.iinc 2 1, 3) := dk_132 2 1 (dk_at dksX3_isAgain_1 21 rfl rfl)
theorem dX3_isAgain_47 : decode cX3_isAgain 47 = .ok (.goto (-45), 3) := dk_167 255 211 (dk_at dksX3_isAgain_2 0 rfl rfl)
theorem dX3_isAgain_50 : decode cX3_isAgain 50 = .ok (.aload_n 0, 1) := dk_42 (dk_at dksX3_isAgain_2 3 rfl rfl)
theorem dX3_isAgain_51 : decode cX3_isAgain 51 = .ok (.aload_n 1, 1) := dk_43 (dk_at dksX3_isAgain_2 4 rfl rfl)
theorem dX3_isAgain_52 : decode cX3_isAgain 52 = .ok (.getfield 33, 3) := dk_180 0 33 (dk_at dksX3_isAgain_2 5 rfl rfl)
theorem dX3_isAgain_55 : decode cX3_isAgain 55 = .ok (.putfield 33, 3) := dk_181 0 33 (dk_at dksX3_isAgain_2 8 rfl rfl)
theorem dX3_isAgain_58 : decode cX3_isAgain 58 = .ok (.aload_n 0, 1) := dk_42 (dk_at dksX3_isAgain_2 11 rfl rfl)
theorem dX3_isAgain_59 : decode cX3_isAgain 59 = .ok (.aload_n 1, 1) := dk_43 (dk_at dksX3_isAgain_2 12 rfl rfl)
theorem dX3_isAgain_60 : decode cX3_isAgain 60 = .ok (.getfield 37, 3) := dk_180 0 37 (dk_at dksX3_isAgain_2 13 rfl rfl)
theorem dX3_isAgain_63 : decode cX3_isAgain 63 = .ok (.putfield 37, 3) := dk_181 0 37 (dk_at dksX3_isAgain_2 16 rfl rfl)
theorem dX3_isAgain_66 : decode cX3_isAgain 66 = .ok (.return_, 1) := dk_177 (dk_at dksX3_isAgain_2 19 rfl rfl)
theorem q105 : (Jvm.Cond.initialized "MissedTrains$Platform") ∈ lw_all := lw_g (lw_at lw_m1 4 rfl) rfl
theorem q182 : (Jvm.Cond.instantiable "MissedTrains$Platform" (9 : Nat)) ∈ lw_all := lw_g (lw_at lw_m1 81 rfl) rfl
theorem q184 : (Jvm.Cond.instanceMethod ({ cls := "MissedTrains$Platform", name := "<init>", desc := "(LMissedTrains;)V" } : Jvm.MethodName)) ∈ lw_all := lw_g (lw_at lw_m1 83 rfl) rfl
theorem q185 : (Jvm.Cond.code ({ cls := "MissedTrains$Platform", name := "<init>", desc := "(LMissedTrains;)V" } : Jvm.MethodName) prog_11_method_1_code (3 : Nat) (Option.none : Option Jvm.ClassFile.FieldType)) ∈ lw_all := lw_g (lw_at lw_m1 84 rfl) rfl
theorem q186 : (Jvm.Cond.methodLink "MissedTrains$Platform" (9 : Nat) ({ cls := "java/lang/Object", name := "<init>", desc := "()V" } : Jvm.MethodName)) ∈ lw_all := lw_g (lw_at lw_m1 85 rfl) rfl
theorem q187 : (Jvm.Cond.classLink "MissedTrains$Platform" (15 : Nat) "MissedTrains$Person") ∈ lw_all := lw_g (lw_at lw_m1 86 rfl) rfl
theorem q190 : (Jvm.Cond.methodLinkNest "MissedTrains$Platform" (28 : Nat) ({ cls := "MissedTrains$Person", name := "<init>", desc := "()V" } : Jvm.MethodName) "MissedTrains") ∈ lw_tbl := lw_at lw_m1 89 rfl
theorem q195 : (Jvm.Cond.fieldLinkNest "MissedTrains$Platform" (51 : Nat) "MissedTrains$Person" "from" "I" "MissedTrains") ∈ lw_tbl := lw_at lw_m1 94 rfl
theorem q198 : (Jvm.Cond.fieldLinkNest "MissedTrains$Platform" (54 : Nat) "MissedTrains$Person" "to" "I" "MissedTrains") ∈ lw_tbl := lw_at lw_m1 97 rfl
theorem q201 : (Jvm.Cond.fieldLinkNest "MissedTrains$Platform" (126 : Nat) "MissedTrains$Person" "minute" "I" "MissedTrains") ∈ lw_tbl := lw_at lw_m1 100 rfl
theorem q204 : (Jvm.Cond.fieldLinkNest "MissedTrains$Platform" (40 : Nat) "MissedTrains$Person" "arrived" "I" "MissedTrains") ∈ lw_tbl := lw_at lw_m1 103 rfl
theorem q207 : (Jvm.Cond.fieldLinkNest "MissedTrains$Platform" (43 : Nat) "MissedTrains$Person" "missed" "I" "MissedTrains") ∈ lw_tbl := lw_at lw_m1 106 rfl
theorem q210 : (Jvm.Cond.fieldLinkNest "MissedTrains$Platform" (47 : Nat) "MissedTrains$Person" "isTold" "Z" "MissedTrains") ∈ lw_tbl := lw_at lw_m1 109 rfl
theorem q225 : (Jvm.Cond.fieldLink "MissedTrains$Platform" (17 : Nat) "MissedTrains$Platform" "people" "[LMissedTrains$Person;") ∈ lw_all := lw_g (lw_at lw_m1 124 rfl) rfl
theorem q227 : (Jvm.Cond.fieldLink "MissedTrains$Platform" (21 : Nat) "MissedTrains$Platform" "late" "[I") ∈ lw_all := lw_g (lw_at lw_m1 126 rfl) rfl
theorem q228 : (Jvm.Cond.fieldLink "MissedTrains$Platform" (25 : Nat) "MissedTrains$Platform" "rides" "[I") ∈ lw_all := lw_g (lw_at lw_m1 127 rfl) rfl
theorem q229 : (Jvm.Cond.fieldLink "MissedTrains$Platform" (33 : Nat) "MissedTrains$Platform" "day" "I") ∈ lw_all := lw_g (lw_at lw_m1 128 rfl) rfl
theorem q231 : (Jvm.Cond.fieldLink "MissedTrains$Platform" (37 : Nat) "MissedTrains$Platform" "x" "I") ∈ lw_all := lw_g (lw_at lw_m1 130 rfl) rfl
theorem q233 : (Jvm.Cond.fieldLink "MissedTrains$Platform" (63 : Nat) "MissedTrains$Platform" "arrivals" "I") ∈ lw_all := lw_g (lw_at lw_m1 132 rfl) rfl
theorem q235 : (Jvm.Cond.fieldLink "MissedTrains$Platform" (94 : Nat) "MissedTrains$Platform" "misses" "I") ∈ lw_all := lw_g (lw_at lw_m1 134 rfl) rfl
theorem q237 : (Jvm.Cond.fieldLink "MissedTrains$Platform" (116 : Nat) "MissedTrains$Platform" "worst" "I") ∈ lw_all := lw_g (lw_at lw_m1 136 rfl) rfl
theorem q239 : (Jvm.Cond.fieldLink "MissedTrains$Platform" (3 : Nat) "MissedTrains$Platform" "this$0" "LMissedTrains;") ∈ lw_all := lw_g (lw_at lw_m1 138 rfl) rfl
theorem q240 : (Jvm.Cond.laysFinal "MissedTrains$Platform" "MissedTrains$Platform" "people" "[LMissedTrains$Person;") ∈ lw_all := lw_g (lw_at lw_m1 139 rfl) rfl
theorem q241 : (Jvm.Cond.soleField "MissedTrains$Platform" "people") ∈ lw_all := lw_g (lw_at lw_m1 140 rfl) rfl
theorem q242 : (Jvm.Cond.laysFinal "MissedTrains$Platform" "MissedTrains$Platform" "late" "[I") ∈ lw_all := lw_g (lw_at lw_m1 141 rfl) rfl
theorem q243 : (Jvm.Cond.soleField "MissedTrains$Platform" "late") ∈ lw_all := lw_g (lw_at lw_m1 142 rfl) rfl
theorem q244 : (Jvm.Cond.laysFinal "MissedTrains$Platform" "MissedTrains$Platform" "rides" "[I") ∈ lw_all := lw_g (lw_at lw_m1 143 rfl) rfl
theorem q245 : (Jvm.Cond.soleField "MissedTrains$Platform" "rides") ∈ lw_all := lw_g (lw_at lw_m1 144 rfl) rfl
theorem q246 : (Jvm.Cond.lays "MissedTrains$Platform" "MissedTrains$Platform" "day" "I") ∈ lw_all := lw_g (lw_at lw_m1 145 rfl) rfl
theorem q247 : (Jvm.Cond.soleField "MissedTrains$Platform" "day") ∈ lw_all := lw_g (lw_at lw_m1 146 rfl) rfl
theorem q248 : (Jvm.Cond.lays "MissedTrains$Platform" "MissedTrains$Platform" "x" "I") ∈ lw_all := lw_g (lw_at lw_m1 147 rfl) rfl
theorem q249 : (Jvm.Cond.soleField "MissedTrains$Platform" "x") ∈ lw_all := lw_g (lw_at lw_m1 148 rfl) rfl
theorem q250 : (Jvm.Cond.lays "MissedTrains$Platform" "MissedTrains$Platform" "arrivals" "I") ∈ lw_all := lw_g (lw_at lw_m1 149 rfl) rfl
theorem q251 : (Jvm.Cond.soleField "MissedTrains$Platform" "arrivals") ∈ lw_all := lw_g (lw_at lw_m1 150 rfl) rfl
theorem q252 : (Jvm.Cond.lays "MissedTrains$Platform" "MissedTrains$Platform" "misses" "I") ∈ lw_all := lw_g (lw_at lw_m1 151 rfl) rfl
theorem q253 : (Jvm.Cond.soleField "MissedTrains$Platform" "misses") ∈ lw_all := lw_g (lw_at lw_m1 152 rfl) rfl
theorem q254 : (Jvm.Cond.lays "MissedTrains$Platform" "MissedTrains$Platform" "worst" "I") ∈ lw_all := lw_g (lw_at lw_m1 153 rfl) rfl
theorem q255 : (Jvm.Cond.soleField "MissedTrains$Platform" "worst") ∈ lw_all := lw_g (lw_at lw_m1 154 rfl) rfl
theorem q256 : (Jvm.Cond.laysFinal "MissedTrains$Platform" "MissedTrains$Platform" "this$0" "LMissedTrains;") ∈ lw_all := lw_g (lw_at lw_m1 155 rfl) rfl
theorem q257 : (Jvm.Cond.soleField "MissedTrains$Platform" "this$0") ∈ lw_all := lw_g (lw_at lw_m1 156 rfl) rfl
theorem q258 : (Jvm.Cond.superclass "MissedTrains$Platform" "java/lang/Object") ∈ lw_all := lw_g (lw_at lw_m1 157 rfl) rfl
theorem q297 : (Jvm.Cond.fieldLinkNest "MissedTrains$Platform" (101 : Nat) "MissedTrains$Train" "stations" "[I" "MissedTrains") ∈ lw_tbl := lw_at lw_m1 196 rfl
theorem q302 : (Jvm.Cond.fieldLinkNest "MissedTrains$Platform" (129 : Nat) "MissedTrains$Train" "minutes" "[I" "MissedTrains") ∈ lw_tbl := lw_at lw_m1 201 rfl
theorem q308 : (Jvm.Cond.fieldLinkNest "MissedTrains$Platform" (142 : Nat) "MissedTrains$Train" "putLate" "I" "MissedTrains") ∈ lw_tbl := lw_at lw_m1 207 rfl
theorem q312 : (Jvm.Cond.fieldLinkNest "MissedTrains$Platform" (151 : Nat) "MissedTrains$Train" "runs" "Z" "MissedTrains") ∈ lw_tbl := lw_at lw_m1 211 rfl
theorem q329 : (Jvm.Cond.fieldLinkNest "MissedTrains$Platform" (97 : Nat) "MissedTrains" "trains" "[LMissedTrains$Train;" "MissedTrains") ∈ lw_tbl := lw_at lw_m1 228 rfl
theorem q331 : (Jvm.Cond.fieldLinkNest "MissedTrains$Platform" (148 : Nat) "MissedTrains" "eventTrain" "[I" "MissedTrains") ∈ lw_tbl := lw_at lw_m1 230 rfl
theorem q333 : (Jvm.Cond.fieldLinkNest "MissedTrains$Platform" (154 : Nat) "MissedTrains" "eventStop" "[I" "MissedTrains") ∈ lw_tbl := lw_at lw_m1 232 rfl
theorem q336 : (Jvm.Cond.fieldLinkNest "MissedTrains$Platform" (139 : Nat) "MissedTrains" "many" "I" "MissedTrains") ∈ lw_tbl := lw_at lw_m1 235 rfl
theorem q338 : (Jvm.Cond.fieldLinkNest "MissedTrains$Platform" (145 : Nat) "MissedTrains" "events" "I" "MissedTrains") ∈ lw_tbl := lw_at lw_m1 237 rfl
theorem q340 : (Jvm.Cond.fieldLinkNest "MissedTrains$Platform" (66 : Nat) "MissedTrains" "moment" "LMissedTrains$Moment;" "MissedTrains") ∈ lw_tbl := lw_at lw_m1 239 rfl
theorem q348 : (Jvm.Cond.fieldLinkNest "MissedTrains$Platform" (84 : Nat) "MissedTrains" "law" "LMissedTrains$Text;" "MissedTrains") ∈ lw_tbl := lw_at lw_m2 7 rfl
theorem q911 : (Jvm.Cond.instanceMethod ({ cls := "MissedTrains$Platform", name := "goes", desc := "(I)LMissedTrains$Platform;" } : Jvm.MethodName)) ∈ lw_all := lw_g (lw_at lw_m4 90 rfl) rfl
theorem q912 : (Jvm.Cond.selects "MissedTrains$Platform" ({ cls := "MissedTrains$Platform", name := "goes", desc := "(I)LMissedTrains$Platform;" } : Jvm.MethodName) ({ cls := "MissedTrains$Platform", name := "goes", desc := "(I)LMissedTrains$Platform;" } : Jvm.MethodName)) ∈ lw_all := lw_g (lw_at lw_m4 91 rfl) rfl
theorem q913 : (Jvm.Cond.code ({ cls := "MissedTrains$Platform", name := "goes", desc := "(I)LMissedTrains$Platform;" } : Jvm.MethodName) prog_11_method_10_code (3 : Nat) (Option.some (Jvm.ClassFile.FieldType.object "MissedTrains$Platform"))) ∈ lw_all := lw_g (lw_at lw_m4 92 rfl) rfl
theorem q914 : (Jvm.Cond.methodLink "MissedTrains$Platform" (160 : Nat) ({ cls := "MissedTrains$Platform", name := "dayGoes", desc := "()V" } : Jvm.MethodName)) ∈ lw_all := lw_g (lw_at lw_m4 93 rfl) rfl
theorem q915 : (Jvm.Cond.privateMethod ({ cls := "MissedTrains$Platform", name := "dayGoes", desc := "()V" } : Jvm.MethodName)) ∈ lw_tbl := lw_at lw_m4 94 rfl
theorem q916 : (Jvm.Cond.instanceMethod ({ cls := "MissedTrains$Platform", name := "dayGoes", desc := "()V" } : Jvm.MethodName)) ∈ lw_all := lw_g (lw_at lw_m4 95 rfl) rfl
theorem q917 : (Jvm.Cond.code ({ cls := "MissedTrains$Platform", name := "dayGoes", desc := "()V" } : Jvm.MethodName) prog_11_method_9_code (2 : Nat) (Option.none : Option Jvm.ClassFile.FieldType)) ∈ lw_all := lw_g (lw_at lw_m4 96 rfl) rfl
theorem q918 : (Jvm.Cond.methodLink "MissedTrains$Platform" (157 : Nat) ({ cls := "MissedTrains$Platform", name := "stops", desc := "(II)V" } : Jvm.MethodName)) ∈ lw_all := lw_g (lw_at lw_m4 97 rfl) rfl
theorem q919 : (Jvm.Cond.privateMethod ({ cls := "MissedTrains$Platform", name := "stops", desc := "(II)V" } : Jvm.MethodName)) ∈ lw_tbl := lw_at lw_m4 98 rfl
theorem q920 : (Jvm.Cond.instanceMethod ({ cls := "MissedTrains$Platform", name := "stops", desc := "(II)V" } : Jvm.MethodName)) ∈ lw_all := lw_g (lw_at lw_m4 99 rfl) rfl
theorem q921 : (Jvm.Cond.code ({ cls := "MissedTrains$Platform", name := "stops", desc := "(II)V" } : Jvm.MethodName) prog_11_method_8_code (10 : Nat) (Option.none : Option Jvm.ClassFile.FieldType)) ∈ lw_all := lw_g (lw_at lw_m4 100 rfl) rfl
theorem q922 : (Jvm.Cond.methodLink "MissedTrains$Platform" (106 : Nat) ({ cls := "MissedTrains$Platform", name := "draw", desc := "()I" } : Jvm.MethodName)) ∈ lw_all := lw_g (lw_at lw_m4 101 rfl) rfl
theorem q923 : (Jvm.Cond.privateMethod ({ cls := "MissedTrains$Platform", name := "draw", desc := "()I" } : Jvm.MethodName)) ∈ lw_tbl := lw_at lw_m4 102 rfl
theorem q924 : (Jvm.Cond.instanceMethod ({ cls := "MissedTrains$Platform", name := "draw", desc := "()I" } : Jvm.MethodName)) ∈ lw_all := lw_g (lw_at lw_m4 103 rfl) rfl
theorem q925 : (Jvm.Cond.code ({ cls := "MissedTrains$Platform", name := "draw", desc := "()I" } : Jvm.MethodName) prog_11_method_4_code (1 : Nat) (Option.some Jvm.ClassFile.FieldType.int)) ∈ lw_all := lw_g (lw_at lw_m4 104 rfl) rfl
theorem q926 : (Jvm.Cond.constant "MissedTrains$Platform" (46 : Nat) (65536 : Int32)) ∈ lw_all := lw_g (lw_at lw_m4 105 rfl) rfl
theorem q927 : (Jvm.Cond.methodLink "MissedTrains$Platform" (70 : Nat) ({ cls := "MissedTrains$Platform", name := "waiting", desc := "(I)I" } : Jvm.MethodName)) ∈ lw_all := lw_g (lw_at lw_m4 106 rfl) rfl
theorem q928 : (Jvm.Cond.privateMethod ({ cls := "MissedTrains$Platform", name := "waiting", desc := "(I)I" } : Jvm.MethodName)) ∈ lw_tbl := lw_at lw_m4 107 rfl
theorem q929 : (Jvm.Cond.instanceMethod ({ cls := "MissedTrains$Platform", name := "waiting", desc := "(I)I" } : Jvm.MethodName)) ∈ lw_all := lw_g (lw_at lw_m4 108 rfl) rfl
theorem q930 : (Jvm.Cond.code ({ cls := "MissedTrains$Platform", name := "waiting", desc := "(I)I" } : Jvm.MethodName) prog_11_method_5_code (4 : Nat) (Option.some Jvm.ClassFile.FieldType.int)) ∈ lw_all := lw_g (lw_at lw_m4 109 rfl) rfl
theorem q931 : (Jvm.Cond.methodLink "MissedTrains$Platform" (74 : Nat) ({ cls := "MissedTrains$Moment", name := "of", desc := "(IIIIIII)LMissedTrains$Moment;" } : Jvm.MethodName)) ∈ lw_all := lw_g (lw_at lw_m4 110 rfl) rfl
theorem q935 : (Jvm.Cond.methodLinkNest "MissedTrains$Platform" (110 : Nat) ({ cls := "MissedTrains", name := "tells", desc := "(II)I" } : Jvm.MethodName) "MissedTrains") ∈ lw_tbl := lw_at lw_m4 114 rfl
theorem q992 : (Jvm.Cond.methodLinkNest "MissedTrains$Platform" (113 : Nat) ({ cls := "MissedTrains", name := "held", desc := "(II)I" } : Jvm.MethodName) "MissedTrains") ∈ lw_tbl := lw_at lw_m4 171 rfl
theorem q993 : (Jvm.Cond.methodLink "MissedTrains$Platform" (119 : Nat) ({ cls := "java/lang/Math", name := "max", desc := "(II)I" } : Jvm.MethodName)) ∈ lw_all := lw_g (lw_at lw_m4 172 rfl) rfl
theorem q994 : (Jvm.Cond.methodLink "MissedTrains$Platform" (122 : Nat) ({ cls := "MissedTrains$Platform", name := "arrives", desc := "(II)V" } : Jvm.MethodName)) ∈ lw_all := lw_g (lw_at lw_m4 173 rfl) rfl
theorem q995 : (Jvm.Cond.privateMethod ({ cls := "MissedTrains$Platform", name := "arrives", desc := "(II)V" } : Jvm.MethodName)) ∈ lw_tbl := lw_at lw_m4 174 rfl
theorem q996 : (Jvm.Cond.instanceMethod ({ cls := "MissedTrains$Platform", name := "arrives", desc := "(II)V" } : Jvm.MethodName)) ∈ lw_all := lw_g (lw_at lw_m4 175 rfl) rfl
theorem q997 : (Jvm.Cond.code ({ cls := "MissedTrains$Platform", name := "arrives", desc := "(II)V" } : Jvm.MethodName) prog_11_method_6_code (5 : Nat) (Option.none : Option Jvm.ClassFile.FieldType)) ∈ lw_all := lw_g (lw_at lw_m4 176 rfl) rfl
theorem q998 : (Jvm.Cond.methodLink "MissedTrains$Platform" (57 : Nat) ({ cls := "java/lang/Math", name := "min", desc := "(II)I" } : Jvm.MethodName)) ∈ lw_all := lw_g (lw_at lw_m4 177 rfl) rfl
theorem q999 : (Jvm.Cond.methodLink "MissedTrains$Platform" (132 : Nat) ({ cls := "MissedTrains$Train", name := "stopAt", desc := "(I)I" } : Jvm.MethodName)) ∈ lw_all := lw_g (lw_at lw_m4 178 rfl) rfl
theorem q1000 : (Jvm.Cond.methodLink "MissedTrains$Platform" (135 : Nat) ({ cls := "MissedTrains$Platform", name := "boards", desc := "(IIIII)V" } : Jvm.MethodName)) ∈ lw_all := lw_g (lw_at lw_m4 179 rfl) rfl
theorem q1001 : (Jvm.Cond.privateMethod ({ cls := "MissedTrains$Platform", name := "boards", desc := "(IIIII)V" } : Jvm.MethodName)) ∈ lw_tbl := lw_at lw_m4 180 rfl
theorem q1002 : (Jvm.Cond.instanceMethod ({ cls := "MissedTrains$Platform", name := "boards", desc := "(IIIII)V" } : Jvm.MethodName)) ∈ lw_all := lw_g (lw_at lw_m4 181 rfl) rfl
theorem q1003 : (Jvm.Cond.code ({ cls := "MissedTrains$Platform", name := "boards", desc := "(IIIII)V" } : Jvm.MethodName) prog_11_method_7_code (7 : Nat) (Option.none : Option Jvm.ClassFile.FieldType)) ∈ lw_all := lw_g (lw_at lw_m4 182 rfl) rfl
theorem q1004 : (Jvm.Cond.methodLink "MissedTrains$Platform" (80 : Nat) ({ cls := "MissedTrains$Moment", name := "with", desc := "(II)LMissedTrains$Moment;" } : Jvm.MethodName)) ∈ lw_all := lw_g (lw_at lw_m4 183 rfl) rfl
theorem q1008 : (Jvm.Cond.methodLink "MissedTrains$Platform" (88 : Nat) ({ cls := "MissedTrains$Text", name := "says", desc := "(ILMissedTrains$Asked;)Z" } : Jvm.MethodName)) ∈ lw_all := lw_g (lw_at lw_m4 187 rfl) rfl
theorem q1021 : (Jvm.Cond.instanceMethod ({ cls := "MissedTrains$Platform", name := "takes", desc := "(LMissedTrains$Platform;)LMissedTrains$Platform;" } : Jvm.MethodName)) ∈ lw_all := lw_g (lw_at lw_m4 200 rfl) rfl
theorem q1022 : (Jvm.Cond.selects "MissedTrains$Platform" ({ cls := "MissedTrains$Platform", name := "takes", desc := "(LMissedTrains$Platform;)LMissedTrains$Platform;" } : Jvm.MethodName) ({ cls := "MissedTrains$Platform", name := "takes", desc := "(LMissedTrains$Platform;)LMissedTrains$Platform;" } : Jvm.MethodName)) ∈ lw_all := lw_g (lw_at lw_m4 201 rfl) rfl
theorem q1023 : (Jvm.Cond.code ({ cls := "MissedTrains$Platform", name := "takes", desc := "(LMissedTrains$Platform;)LMissedTrains$Platform;" } : Jvm.MethodName) prog_11_method_2_code (3 : Nat) (Option.some (Jvm.ClassFile.FieldType.object "MissedTrains$Platform"))) ∈ lw_all := lw_g (lw_at lw_m4 202 rfl) rfl
theorem q1024 : (Jvm.Cond.methodLink "MissedTrains$Platform" (29 : Nat) ({ cls := "MissedTrains$Person", name := "takes", desc := "(LMissedTrains$Person;)V" } : Jvm.MethodName)) ∈ lw_all := lw_g (lw_at lw_m4 203 rfl) rfl
theorem q1199 : (Jvm.Cond.instanceMethod ({ cls := "MissedTrains$Platform", name := "isAgain", desc := "(LMissedTrains$Platform;)V" } : Jvm.MethodName)) ∈ lw_all := lw_g (lw_at lw_m5 138 rfl) rfl
theorem q1200 : (Jvm.Cond.selects "MissedTrains$Platform" ({ cls := "MissedTrains$Platform", name := "isAgain", desc := "(LMissedTrains$Platform;)V" } : Jvm.MethodName) ({ cls := "MissedTrains$Platform", name := "isAgain", desc := "(LMissedTrains$Platform;)V" } : Jvm.MethodName)) ∈ lw_all := lw_g (lw_at lw_m5 139 rfl) rfl
theorem q1201 : (Jvm.Cond.code ({ cls := "MissedTrains$Platform", name := "isAgain", desc := "(LMissedTrains$Platform;)V" } : Jvm.MethodName) prog_11_method_3_code (3 : Nat) (Option.none : Option Jvm.ClassFile.FieldType)) ∈ lw_all := lw_g (lw_at lw_m5 140 rfl) rfl
theorem in_X3 : ∀ w ∈ wsX30, w ∈ lw_all := lw_in wsX30 [240, 242, 244, 246, 248, 250, 252, 254, 256] (by decide +kernel) (by decide +kernel)
/-! MissedTrains$Person -/
set_option maxRecDepth 100000
def RX4 : String := "MissedTrains$Person"
def TX4 : u_T := fun k => match k with
  | 0 => ("MissedTrains$Person", "from", "I", false)
  | 1 => ("MissedTrains$Person", "to", "I", false)
  | 2 => ("MissedTrains$Person", "minute", "I", false)
  | 3 => ("MissedTrains$Person", "arrived", "I", false)
  | 4 => ("MissedTrains$Person", "missed", "I", false)
  | _ => ("MissedTrains$Person", "isTold", "Z", false)
def tyX4 : Nat → FieldType := fun k => match k with
  | 0 => .int
  | 1 => .int
  | 2 => .int
  | 3 => .int
  | 4 => .int
  | _ => .boolean
abbrev wsX40 : List Cond := u_ws RX4 TX4 6
theorem nmX4 : ∀ a, a < 6 → ∀ b, b < 6 → a ≠ b → (TX4 a).2.1 ≠ (TX4 b).2.1 := by decide +kernel
theorem tyX4_ok : ∀ k, k < 6 → parseFieldDescriptor (TX4 k).2.2.1 = some (tyX4 k) := by decide +kernel
abbrev cX4_init : ByteArray := prog_10_method_1_code
def yX4_init : MethodName := ⟨RX4, "<init>", "()V"⟩
theorem dX4_init_0 : decode cX4_init 0 = .ok (.aload_n 0, 1) := by decide +kernel
theorem dX4_init_1 : decode cX4_init 1 = .ok (.invokespecial 1, 3) := by decide +kernel
theorem dX4_init_4 : decode cX4_init 4 = .ok (.return_, 1) := by decide +kernel
abbrev cX4_takes : ByteArray := prog_10_method_2_code
def yX4_takes : MethodName := ⟨RX4, "takes", "(LMissedTrains$Person;)V"⟩
def dkwX4_takes_2 : List UInt8 := [177]
abbrev dktX4_takes_2 : List UInt8 := dkwX4_takes_2 ++ []
def dkwX4_takes_1 : List UInt8 := [42, 43, 180, 0, 19, 181, 0, 19, 42, 43, 180, 0, 22, 181, 0, 22, 42, 43, 180, 0, 25, 181, 0, 25]
abbrev dktX4_takes_1 : List UInt8 := dkwX4_takes_1 ++ dktX4_takes_2
def dkwX4_takes_0 : List UInt8 := [42, 43, 180, 0, 7, 181, 0, 7, 42, 43, 180, 0, 13, 181, 0, 13, 42, 43, 180, 0, 16, 181, 0, 16]
abbrev dktX4_takes_0 : List UInt8 := dkwX4_takes_0 ++ dktX4_takes_1
theorem dksX4_takes_0 : cX4_takes.data.toList.drop 0 = dktX4_takes_0 := by decide +kernel
theorem dksX4_takes_1 : cX4_takes.data.toList.drop 24 = dktX4_takes_1 := dk_seg dksX4_takes_0 24 rfl rfl
theorem dksX4_takes_2 : cX4_takes.data.toList.drop 48 = dktX4_takes_2 := dk_seg dksX4_takes_1 24 rfl rfl
theorem dX4_takes_0 : decode cX4_takes 0 = .ok (.aload_n 0, 1) := dk_42 (dk_at dksX4_takes_0 0 rfl rfl)
theorem dX4_takes_1 : decode cX4_takes 1 = .ok (.aload_n 1, 1) := dk_43 (dk_at dksX4_takes_0 1 rfl rfl)
theorem dX4_takes_2 : decode cX4_takes 2 = .ok (.getfield 7, 3) := dk_180 0 7 (dk_at dksX4_takes_0 2 rfl rfl)
theorem dX4_takes_5 : decode cX4_takes 5 = .ok (.putfield 7, 3) := dk_181 0 7 (dk_at dksX4_takes_0 5 rfl rfl)
theorem dX4_takes_8 : decode cX4_takes 8 = .ok (.aload_n 0, 1) := dk_42 (dk_at dksX4_takes_0 8 rfl rfl)
theorem dX4_takes_9 : decode cX4_takes 9 = .ok (.aload_n 1, 1) := dk_43 (dk_at dksX4_takes_0 9 rfl rfl)
theorem dX4_takes_10 : decode cX4_takes 10 = .ok (.getfield 13, 3) := dk_180 0 13 (dk_at dksX4_takes_0 10 rfl rfl)
theorem dX4_takes_13 : decode cX4_takes 13 = .ok (.putfield 13, 3) := dk_181 0 13 (dk_at dksX4_takes_0 13 rfl rfl)
theorem dX4_takes_16 : decode cX4_takes 16 = .ok (.aload_n 0, 1) := dk_42 (dk_at dksX4_takes_0 16 rfl rfl)
theorem dX4_takes_17 : decode cX4_takes 17 = .ok (.aload_n 1, 1) := dk_43 (dk_at dksX4_takes_0 17 rfl rfl)
theorem dX4_takes_18 : decode cX4_takes 18 = .ok (.getfield 16, 3) := dk_180 0 16 (dk_at dksX4_takes_0 18 rfl rfl)
theorem dX4_takes_21 : decode cX4_takes 21 = .ok (.putfield 16, 3) := dk_181 0 16 (dk_at dksX4_takes_0 21 rfl rfl)
theorem dX4_takes_24 : decode cX4_takes 24 = .ok (.aload_n 0, 1) := dk_42 (dk_at dksX4_takes_1 0 rfl rfl)
theorem dX4_takes_25 : decode cX4_takes 25 = .ok (.aload_n 1, 1) := dk_43 (dk_at dksX4_takes_1 1 rfl rfl)
theorem dX4_takes_26 : decode cX4_takes 26 = .ok (.getfield 19, 3) := dk_180 0 19 (dk_at dksX4_takes_1 2 rfl rfl)
theorem dX4_takes_29 : decode cX4_takes 29 = .ok (.putfield 19, 3) := dk_181 0 19 (dk_at dksX4_takes_1 5 rfl rfl)
theorem dX4_takes_32 : decode cX4_takes 32 = .ok (.aload_n 0, 1) := dk_42 (dk_at dksX4_takes_1 8 rfl rfl)
theorem dX4_takes_33 : decode cX4_takes 33 = .ok (.aload_n 1, 1) := dk_43 (dk_at dksX4_takes_1 9 rfl rfl)
theorem dX4_takes_34 : decode cX4_takes 34 = .ok (.getfield 22, 3) := dk_180 0 22 (dk_at dksX4_takes_1 10 rfl rfl)
theorem dX4_takes_37 : decode cX4_takes 37 = .ok (.putfield 22, 3) := dk_181 0 22 (dk_at dksX4_takes_1 13 rfl rfl)
theorem dX4_takes_40 : decode cX4_takes 40 = .ok (.aload_n 0, 1) := dk_42 (dk_at dksX4_takes_1 16 rfl rfl)
theorem dX4_takes_41 : decode cX4_takes 41 = .ok (.aload_n 1, 1) := dk_43 (dk_at dksX4_takes_1 17 rfl rfl)
theorem dX4_takes_42 : decode cX4_takes 42 = .ok (.getfield 25, 3) := dk_180 0 25 (dk_at dksX4_takes_1 18 rfl rfl)
theorem dX4_takes_45 : decode cX4_takes 45 = .ok (.putfield 25, 3) := dk_181 0 25 (dk_at dksX4_takes_1 21 rfl rfl)
theorem dX4_takes_48 : decode cX4_takes 48 = .ok (.return_, 1) := dk_177 (dk_at dksX4_takes_2 0 rfl rfl)
theorem q106 : (Jvm.Cond.initialized "MissedTrains$Person") ∈ lw_all := lw_g (lw_at lw_m1 5 rfl) rfl
theorem q189 : (Jvm.Cond.instantiable "MissedTrains$Person" (6 : Nat)) ∈ lw_all := lw_g (lw_at lw_m1 88 rfl) rfl
theorem q191 : (Jvm.Cond.instanceMethod ({ cls := "MissedTrains$Person", name := "<init>", desc := "()V" } : Jvm.MethodName)) ∈ lw_all := lw_g (lw_at lw_m1 90 rfl) rfl
theorem q192 : (Jvm.Cond.code ({ cls := "MissedTrains$Person", name := "<init>", desc := "()V" } : Jvm.MethodName) prog_10_method_1_code (1 : Nat) (Option.none : Option Jvm.ClassFile.FieldType)) ∈ lw_all := lw_g (lw_at lw_m1 91 rfl) rfl
theorem q193 : (Jvm.Cond.methodLink "MissedTrains$Person" (1 : Nat) ({ cls := "java/lang/Object", name := "<init>", desc := "()V" } : Jvm.MethodName)) ∈ lw_all := lw_g (lw_at lw_m1 92 rfl) rfl
theorem q194 : (Jvm.Cond.fieldLink "MissedTrains$Person" (7 : Nat) "MissedTrains$Person" "from" "I") ∈ lw_all := lw_g (lw_at lw_m1 93 rfl) rfl
theorem q197 : (Jvm.Cond.fieldLink "MissedTrains$Person" (13 : Nat) "MissedTrains$Person" "to" "I") ∈ lw_all := lw_g (lw_at lw_m1 96 rfl) rfl
theorem q200 : (Jvm.Cond.fieldLink "MissedTrains$Person" (16 : Nat) "MissedTrains$Person" "minute" "I") ∈ lw_all := lw_g (lw_at lw_m1 99 rfl) rfl
theorem q203 : (Jvm.Cond.fieldLink "MissedTrains$Person" (19 : Nat) "MissedTrains$Person" "arrived" "I") ∈ lw_all := lw_g (lw_at lw_m1 102 rfl) rfl
theorem q206 : (Jvm.Cond.fieldLink "MissedTrains$Person" (22 : Nat) "MissedTrains$Person" "missed" "I") ∈ lw_all := lw_g (lw_at lw_m1 105 rfl) rfl
theorem q209 : (Jvm.Cond.fieldLink "MissedTrains$Person" (25 : Nat) "MissedTrains$Person" "isTold" "Z") ∈ lw_all := lw_g (lw_at lw_m1 108 rfl) rfl
theorem q212 : (Jvm.Cond.lays "MissedTrains$Person" "MissedTrains$Person" "from" "I") ∈ lw_all := lw_g (lw_at lw_m1 111 rfl) rfl
theorem q213 : (Jvm.Cond.soleField "MissedTrains$Person" "from") ∈ lw_all := lw_g (lw_at lw_m1 112 rfl) rfl
theorem q214 : (Jvm.Cond.lays "MissedTrains$Person" "MissedTrains$Person" "to" "I") ∈ lw_all := lw_g (lw_at lw_m1 113 rfl) rfl
theorem q215 : (Jvm.Cond.soleField "MissedTrains$Person" "to") ∈ lw_all := lw_g (lw_at lw_m1 114 rfl) rfl
theorem q216 : (Jvm.Cond.lays "MissedTrains$Person" "MissedTrains$Person" "minute" "I") ∈ lw_all := lw_g (lw_at lw_m1 115 rfl) rfl
theorem q217 : (Jvm.Cond.soleField "MissedTrains$Person" "minute") ∈ lw_all := lw_g (lw_at lw_m1 116 rfl) rfl
theorem q218 : (Jvm.Cond.lays "MissedTrains$Person" "MissedTrains$Person" "arrived" "I") ∈ lw_all := lw_g (lw_at lw_m1 117 rfl) rfl
theorem q219 : (Jvm.Cond.soleField "MissedTrains$Person" "arrived") ∈ lw_all := lw_g (lw_at lw_m1 118 rfl) rfl
theorem q220 : (Jvm.Cond.lays "MissedTrains$Person" "MissedTrains$Person" "missed" "I") ∈ lw_all := lw_g (lw_at lw_m1 119 rfl) rfl
theorem q221 : (Jvm.Cond.soleField "MissedTrains$Person" "missed") ∈ lw_all := lw_g (lw_at lw_m1 120 rfl) rfl
theorem q222 : (Jvm.Cond.lays "MissedTrains$Person" "MissedTrains$Person" "isTold" "Z") ∈ lw_all := lw_g (lw_at lw_m1 121 rfl) rfl
theorem q223 : (Jvm.Cond.soleField "MissedTrains$Person" "isTold") ∈ lw_all := lw_g (lw_at lw_m1 122 rfl) rfl
theorem q224 : (Jvm.Cond.superclass "MissedTrains$Person" "java/lang/Object") ∈ lw_all := lw_g (lw_at lw_m1 123 rfl) rfl
theorem q1025 : (Jvm.Cond.instanceMethod ({ cls := "MissedTrains$Person", name := "takes", desc := "(LMissedTrains$Person;)V" } : Jvm.MethodName)) ∈ lw_all := lw_g (lw_at lw_m4 204 rfl) rfl
theorem q1026 : (Jvm.Cond.selects "MissedTrains$Person" ({ cls := "MissedTrains$Person", name := "takes", desc := "(LMissedTrains$Person;)V" } : Jvm.MethodName) ({ cls := "MissedTrains$Person", name := "takes", desc := "(LMissedTrains$Person;)V" } : Jvm.MethodName)) ∈ lw_all := lw_g (lw_at lw_m4 205 rfl) rfl
theorem q1027 : (Jvm.Cond.code ({ cls := "MissedTrains$Person", name := "takes", desc := "(LMissedTrains$Person;)V" } : Jvm.MethodName) prog_10_method_2_code (2 : Nat) (Option.none : Option Jvm.ClassFile.FieldType)) ∈ lw_all := lw_g (lw_at lw_m4 206 rfl) rfl
theorem in_X4 : ∀ w ∈ wsX40, w ∈ lw_all := lw_in wsX40 [212, 214, 216, 218, 220, 222] (by decide +kernel) (by decide +kernel)
/-! MissedTrains$Text -/
set_option maxRecDepth 100000
def RX5 : String := "MissedTrains$Text"
def TX5 : u_T := fun k => match k with
  | 0 => ("MissedTrains$Text", "letters", "[I", true)
  | 1 => ("MissedTrains$Text", "sums", "[LMissedTrains$Sum;", true)
  | 2 => ("MissedTrains$Text", "conditions", "[LMissedTrains$Condition;", true)
  | _ => ("MissedTrains$Text", "many", "I", false)
def tyX5 : Nat → FieldType := fun k => match k with
  | 0 => .array .int
  | 1 => .array (.object "MissedTrains$Sum")
  | 2 => .array (.object "MissedTrains$Condition")
  | _ => .int
abbrev wsX50 : List Cond := u_ws RX5 TX5 4
theorem nmX5 : ∀ a, a < 4 → ∀ b, b < 4 → a ≠ b → (TX5 a).2.1 ≠ (TX5 b).2.1 := by decide +kernel
theorem tyX5_ok : ∀ k, k < 4 → parseFieldDescriptor (TX5 k).2.2.1 = some (tyX5 k) := by decide +kernel
abbrev cX5_init : ByteArray := prog_18_method_1_code
def yX5_init : MethodName := ⟨RX5, "<init>", "()V"⟩
def dkwX5_init_1 : List UInt8 := [189, 0, 21, 181, 0, 23, 177]
abbrev dktX5_init_1 : List UInt8 := dkwX5_init_1 ++ []
def dkwX5_init_0 : List UInt8 := [42, 183, 0, 3, 42, 16, 16, 188, 10, 181, 0, 9, 42, 16, 16, 189, 0, 15, 181, 0, 17, 42, 16, 16]
abbrev dktX5_init_0 : List UInt8 := dkwX5_init_0 ++ dktX5_init_1
theorem dksX5_init_0 : cX5_init.data.toList.drop 0 = dktX5_init_0 := by decide +kernel
theorem dksX5_init_1 : cX5_init.data.toList.drop 24 = dktX5_init_1 := dk_seg dksX5_init_0 24 rfl rfl
theorem dX5_init_0 : decode cX5_init 0 = .ok (.aload_n 0, 1) := dk_42 (dk_at dksX5_init_0 0 rfl rfl)
theorem dX5_init_1 : decode cX5_init 1 = .ok (.invokespecial 3, 3) := dk_183 0 3 (dk_at dksX5_init_0 1 rfl rfl)
theorem dX5_init_4 : decode cX5_init 4 = .ok (.aload_n 0, 1) := dk_42 (dk_at dksX5_init_0 4 rfl rfl)
theorem dX5_init_5 : decode cX5_init 5 = .ok (.bipush 16, 2) := dk_16 16 (dk_at dksX5_init_0 5 rfl rfl)
theorem dX5_init_7 : decode cX5_init 7 = .ok (.newarray .int, 2) := dk_188_10 (dk_at dksX5_init_0 7 rfl rfl)
theorem dX5_init_9 : decode cX5_init 9 = .ok (.putfield 9, 3) := dk_181 0 9 (dk_at dksX5_init_0 9 rfl rfl)
theorem dX5_init_12 : decode cX5_init 12 = .ok (.aload_n 0, 1) := dk_42 (dk_at dksX5_init_0 12 rfl rfl)
theorem dX5_init_13 : decode cX5_init 13 = .ok (.bipush 16, 2) := dk_16 16 (dk_at dksX5_init_0 13 rfl rfl)
theorem dX5_init_15 : decode cX5_init 15 = .ok (.anewarray 15, 3) := dk_189 0 15 (dk_at dksX5_init_0 15 rfl rfl)
theorem dX5_init_18 : decode cX5_init 18 = .ok (.putfield 17, 3) := dk_181 0 17 (dk_at dksX5_init_0 18 rfl rfl)
theorem dX5_init_21 : decode cX5_init 21 = .ok (.aload_n 0, 1) := dk_42 (dk_at dksX5_init_0 21 rfl rfl)
theorem dX5_init_22 : decode cX5_init 22 = .ok (.bipush 16, 2) := dk_16 16 (dk_at dksX5_init_0 22 rfl rfl)
theorem dX5_init_24 : decode cX5_init 24 = .ok (.anewarray 21, 3) := dk_189 0 21 (dk_at dksX5_init_1 0 rfl rfl)
theorem dX5_init_27 : decode cX5_init 27 = .ok (.putfield 23, 3) := dk_181 0 23 (dk_at dksX5_init_1 3 rfl rfl)
theorem dX5_init_30 : decode cX5_init 30 = .ok (.return_, 1) := dk_177 (dk_at dksX5_init_1 6 rfl rfl)
abbrev cX5_tells : ByteArray := prog_18_method_2_code
def yX5_tells : MethodName := ⟨RX5, "tells", "(ILMissedTrains$Asked;)I"⟩
def dkwX5_tells_2 : List UInt8 := [167, 255, 210, 3, 172]
abbrev dktX5_tells_2 : List UInt8 := dkwX5_tells_2 ++ []
def dkwX5_tells_1 : List UInt8 := [29, 50, 44, 182, 0, 31, 4, 160, 0, 14, 42, 180, 0, 17, 29, 50, 44, 182, 0, 35, 172, 132, 3, 1]
abbrev dktX5_tells_1 : List UInt8 := dkwX5_tells_1 ++ dktX5_tells_2
def dkwX5_tells_0 : List UInt8 := [3, 62, 29, 42, 180, 0, 27, 162, 0, 44, 42, 180, 0, 9, 29, 46, 27, 160, 0, 28, 42, 180, 0, 23]
abbrev dktX5_tells_0 : List UInt8 := dkwX5_tells_0 ++ dktX5_tells_1
theorem dksX5_tells_0 : cX5_tells.data.toList.drop 0 = dktX5_tells_0 := by decide +kernel
theorem dksX5_tells_1 : cX5_tells.data.toList.drop 24 = dktX5_tells_1 := dk_seg dksX5_tells_0 24 rfl rfl
theorem dksX5_tells_2 : cX5_tells.data.toList.drop 48 = dktX5_tells_2 := dk_seg dksX5_tells_1 24 rfl rfl
theorem dX5_tells_0 : decode cX5_tells 0 = .ok (.iconst 0, 1) := dk_3 (dk_at dksX5_tells_0 0 rfl rfl)
theorem dX5_tells_1 : decode cX5_tells 1 = .ok (.istore_n 3, 1) := dk_62 (dk_at dksX5_tells_0 1 rfl rfl)
theorem dX5_tells_2 : decode cX5_tells 2 = .ok (.iload_n 3, 1) := dk_29 (dk_at dksX5_tells_0 2 rfl rfl)
theorem dX5_tells_3 : decode cX5_tells 3 = .ok (.aload_n 0, 1) := dk_42 (dk_at dksX5_tells_0 3 rfl rfl)
theorem dX5_tells_4 : decode cX5_tells 4 = .ok (.getfield 27, 3) := dk_180 0 27 (dk_at dksX5_tells_0 4 rfl rfl)
theorem dX5_tells_7 : decode cX5_tells 7 = .ok (.if_icmp .ge 44, 3) := dk_162 0 44 (dk_at dksX5_tells_0 7 rfl rfl)
theorem dX5_tells_10 : decode cX5_tells 10 = .ok (.aload_n 0, 1) := dk_42 (dk_at dksX5_tells_0 10 rfl rfl)
theorem dX5_tells_11 : decode cX5_tells 11 = .ok (.getfield 9, 3) := dk_180 0 9 (dk_at dksX5_tells_0 11 rfl rfl)
theorem dX5_tells_14 : decode cX5_tells 14 = .ok (.iload_n 3, 1) := dk_29 (dk_at dksX5_tells_0 14 rfl rfl)
theorem dX5_tells_15 : decode cX5_tells 15 = .ok (.iaload, 1) := dk_46 (dk_at dksX5_tells_0 15 rfl rfl)
theorem dX5_tells_16 : decode cX5_tells 16 = .ok (.iload_n 1, 1) := dk_27 (dk_at dksX5_tells_0 16 rfl rfl)
theorem dX5_tells_17 : decode cX5_tells 17 = .ok (.if_icmp .ne 28, 3) := dk_160 0 28 (dk_at dksX5_tells_0 17 rfl rfl)
theorem dX5_tells_20 : decode cX5_tells 20 = .ok (.aload_n 0, 1) := dk_42 (dk_at dksX5_tells_0 20 rfl rfl)
theorem dX5_tells_21 : decode cX5_tells 21 = .ok (.getfield 23, 3) := dk_180 0 23 (dk_at dksX5_tells_0 21 rfl rfl)
theorem dX5_tells_24 : decode cX5_tells 24 = .ok (.iload_n 3, 1) := dk_29 (dk_at dksX5_tells_1 0 rfl rfl)
theorem dX5_tells_25 : decode cX5_tells 25 = .ok (.aaload, 1) := dk_50 (dk_at dksX5_tells_1 1 rfl rfl)
theorem dX5_tells_26 : decode cX5_tells 26 = .ok (.aload_n 2, 1) := dk_44 (dk_at dksX5_tells_1 2 rfl rfl)
theorem dX5_tells_27 : decode cX5_tells 27 = .ok (.invokevirtual 31, 3) := dk_182 0 31 (dk_at dksX5_tells_1 3 rfl rfl)
theorem dX5_tells_30 : decode cX5_tells 30 = .ok (.iconst 1, 1) := dk_4 (dk_at dksX5_tells_1 6 rfl rfl)
theorem dX5_tells_31 : decode cX5_tells 31 = .ok (.if_icmp .ne 14, 3) := dk_160 0 14 (dk_at dksX5_tells_1 7 rfl rfl)
theorem dX5_tells_34 : decode cX5_tells 34 = .ok (.aload_n 0, 1) := dk_42 (dk_at dksX5_tells_1 10 rfl rfl)
theorem dX5_tells_35 : decode cX5_tells 35 = .ok (.getfield 17, 3) := dk_180 0 17 (dk_at dksX5_tells_1 11 rfl rfl)
theorem dX5_tells_38 : decode cX5_tells 38 = .ok (.iload_n 3, 1) := dk_29 (dk_at dksX5_tells_1 14 rfl rfl)
theorem dX5_tells_39 : decode cX5_tells 39 = .ok (.aaload, 1) := dk_50 (dk_at dksX5_tells_1 15 rfl rfl)
theorem dX5_tells_40 : decode cX5_tells 40 = .ok (.aload_n 2, 1) := dk_44 (dk_at dksX5_tells_1 16 rfl rfl)
theorem dX5_tells_41 : decode cX5_tells 41 = .ok (.invokevirtual 35, 3) := dk_182 0 35 (dk_at dksX5_tells_1 17 rfl rfl)
theorem dX5_tells_44 : decode cX5_tells 44 = .ok (.ireturn, 1) := dk_172 (dk_at dksX5_tells_1 20 rfl rfl)
theorem dX5_tells_45 : decode cX5_tells 45 = .ok (.iinc 3 1, 3) := dk_132 3 1 (dk_at dksX5_tells_1 21 rfl rfl)
theorem dX5_tells_48 : decode cX5_tells 48 = .ok (.goto (-46), 3) := dk_167 255 210 (dk_at dksX5_tells_2 0 rfl rfl)
theorem dX5_tells_51 : decode cX5_tells 51 = .ok (.iconst 0, 1) := dk_3 (dk_at dksX5_tells_2 3 rfl rfl)
theorem dX5_tells_52 : decode cX5_tells 52 = .ok (.ireturn, 1) := dk_172 (dk_at dksX5_tells_2 4 rfl rfl)
abbrev cX5_says : ByteArray := prog_18_method_3_code
def yX5_says : MethodName := ⟨RX5, "says", "(ILMissedTrains$Asked;)Z"⟩
def dkwX5_says_1 : List UInt8 := [29, 50, 44, 182, 0, 31, 4, 160, 0, 5, 4, 172, 132, 3, 1, 167, 255, 219, 3, 172]
abbrev dktX5_says_1 : List UInt8 := dkwX5_says_1 ++ []
def dkwX5_says_0 : List UInt8 := [3, 62, 29, 42, 180, 0, 27, 162, 0, 35, 42, 180, 0, 9, 29, 46, 27, 160, 0, 19, 42, 180, 0, 23]
abbrev dktX5_says_0 : List UInt8 := dkwX5_says_0 ++ dktX5_says_1
theorem dksX5_says_0 : cX5_says.data.toList.drop 0 = dktX5_says_0 := by decide +kernel
theorem dksX5_says_1 : cX5_says.data.toList.drop 24 = dktX5_says_1 := dk_seg dksX5_says_0 24 rfl rfl
theorem dX5_says_0 : decode cX5_says 0 = .ok (.iconst 0, 1) := dk_3 (dk_at dksX5_says_0 0 rfl rfl)
theorem dX5_says_1 : decode cX5_says 1 = .ok (.istore_n 3, 1) := dk_62 (dk_at dksX5_says_0 1 rfl rfl)
theorem dX5_says_2 : decode cX5_says 2 = .ok (.iload_n 3, 1) := dk_29 (dk_at dksX5_says_0 2 rfl rfl)
theorem dX5_says_3 : decode cX5_says 3 = .ok (.aload_n 0, 1) := dk_42 (dk_at dksX5_says_0 3 rfl rfl)
theorem dX5_says_4 : decode cX5_says 4 = .ok (.getfield 27, 3) := dk_180 0 27 (dk_at dksX5_says_0 4 rfl rfl)
theorem dX5_says_7 : decode cX5_says 7 = .ok (.if_icmp .ge 35, 3) := dk_162 0 35 (dk_at dksX5_says_0 7 rfl rfl)
theorem dX5_says_10 : decode cX5_says 10 = .ok (.aload_n 0, 1) := dk_42 (dk_at dksX5_says_0 10 rfl rfl)
theorem dX5_says_11 : decode cX5_says 11 = .ok (.getfield 9, 3) := dk_180 0 9 (dk_at dksX5_says_0 11 rfl rfl)
theorem dX5_says_14 : decode cX5_says 14 = .ok (.iload_n 3, 1) := dk_29 (dk_at dksX5_says_0 14 rfl rfl)
theorem dX5_says_15 : decode cX5_says 15 = .ok (.iaload, 1) := dk_46 (dk_at dksX5_says_0 15 rfl rfl)
theorem dX5_says_16 : decode cX5_says 16 = .ok (.iload_n 1, 1) := dk_27 (dk_at dksX5_says_0 16 rfl rfl)
theorem dX5_says_17 : decode cX5_says 17 = .ok (.if_icmp .ne 19, 3) := dk_160 0 19 (dk_at dksX5_says_0 17 rfl rfl)
theorem dX5_says_20 : decode cX5_says 20 = .ok (.aload_n 0, 1) := dk_42 (dk_at dksX5_says_0 20 rfl rfl)
theorem dX5_says_21 : decode cX5_says 21 = .ok (.getfield 23, 3) := dk_180 0 23 (dk_at dksX5_says_0 21 rfl rfl)
theorem dX5_says_24 : decode cX5_says 24 = .ok (.iload_n 3, 1) := dk_29 (dk_at dksX5_says_1 0 rfl rfl)
theorem dX5_says_25 : decode cX5_says 25 = .ok (.aaload, 1) := dk_50 (dk_at dksX5_says_1 1 rfl rfl)
theorem dX5_says_26 : decode cX5_says 26 = .ok (.aload_n 2, 1) := dk_44 (dk_at dksX5_says_1 2 rfl rfl)
theorem dX5_says_27 : decode cX5_says 27 = .ok (.invokevirtual 31, 3) := dk_182 0 31 (dk_at dksX5_says_1 3 rfl rfl)
theorem dX5_says_30 : decode cX5_says 30 = .ok (.iconst 1, 1) := dk_4 (dk_at dksX5_says_1 6 rfl rfl)
theorem dX5_says_31 : decode cX5_says 31 = .ok (.if_icmp .ne 5, 3) := dk_160 0 5 (dk_at dksX5_says_1 7 rfl rfl)
theorem dX5_says_34 : decode cX5_says 34 = .ok (.iconst 1, 1) := dk_4 (dk_at dksX5_says_1 10 rfl rfl)
theorem dX5_says_35 : decode cX5_says 35 = .ok (.ireturn, 1) := dk_172 (dk_at dksX5_says_1 11 rfl rfl)
theorem dX5_says_36 : decode cX5_says 36 = .ok (.iinc 3 1, 3) := dk_132 3 1 (dk_at dksX5_says_1 12 rfl rfl)
theorem dX5_says_39 : decode cX5_says 39 = .ok (.goto (-37), 3) := dk_167 255 219 (dk_at dksX5_says_1 15 rfl rfl)
theorem dX5_says_42 : decode cX5_says 42 = .ok (.iconst 0, 1) := dk_3 (dk_at dksX5_says_1 18 rfl rfl)
theorem dX5_says_43 : decode cX5_says 43 = .ok (.ireturn, 1) := dk_172 (dk_at dksX5_says_1 19 rfl rfl)
theorem q107 : (Jvm.Cond.initialized "MissedTrains$Text") ∈ lw_all := lw_g (lw_at lw_m1 6 rfl) rfl
theorem q260 : (Jvm.Cond.instantiable "MissedTrains$Text" (4 : Nat)) ∈ lw_all := lw_g (lw_at lw_m1 159 rfl) rfl
theorem q262 : (Jvm.Cond.instanceMethod ({ cls := "MissedTrains$Text", name := "<init>", desc := "()V" } : Jvm.MethodName)) ∈ lw_all := lw_g (lw_at lw_m1 161 rfl) rfl
theorem q263 : (Jvm.Cond.code ({ cls := "MissedTrains$Text", name := "<init>", desc := "()V" } : Jvm.MethodName) prog_18_method_1_code (1 : Nat) (Option.none : Option Jvm.ClassFile.FieldType)) ∈ lw_all := lw_g (lw_at lw_m1 162 rfl) rfl
theorem q264 : (Jvm.Cond.methodLink "MissedTrains$Text" (3 : Nat) ({ cls := "java/lang/Object", name := "<init>", desc := "()V" } : Jvm.MethodName)) ∈ lw_all := lw_g (lw_at lw_m1 163 rfl) rfl
theorem q265 : (Jvm.Cond.classLink "MissedTrains$Text" (15 : Nat) "MissedTrains$Sum") ∈ lw_all := lw_g (lw_at lw_m1 164 rfl) rfl
theorem q267 : (Jvm.Cond.classLink "MissedTrains$Text" (21 : Nat) "MissedTrains$Condition") ∈ lw_all := lw_g (lw_at lw_m1 166 rfl) rfl
theorem q269 : (Jvm.Cond.fieldLink "MissedTrains$Text" (9 : Nat) "MissedTrains$Text" "letters" "[I") ∈ lw_all := lw_g (lw_at lw_m1 168 rfl) rfl
theorem q271 : (Jvm.Cond.fieldLink "MissedTrains$Text" (17 : Nat) "MissedTrains$Text" "sums" "[LMissedTrains$Sum;") ∈ lw_all := lw_g (lw_at lw_m1 170 rfl) rfl
theorem q273 : (Jvm.Cond.fieldLink "MissedTrains$Text" (23 : Nat) "MissedTrains$Text" "conditions" "[LMissedTrains$Condition;") ∈ lw_all := lw_g (lw_at lw_m1 172 rfl) rfl
theorem q275 : (Jvm.Cond.fieldLink "MissedTrains$Text" (27 : Nat) "MissedTrains$Text" "many" "I") ∈ lw_all := lw_g (lw_at lw_m1 174 rfl) rfl
theorem q278 : (Jvm.Cond.laysFinal "MissedTrains$Text" "MissedTrains$Text" "letters" "[I") ∈ lw_all := lw_g (lw_at lw_m1 177 rfl) rfl
theorem q279 : (Jvm.Cond.soleField "MissedTrains$Text" "letters") ∈ lw_all := lw_g (lw_at lw_m1 178 rfl) rfl
theorem q280 : (Jvm.Cond.laysFinal "MissedTrains$Text" "MissedTrains$Text" "sums" "[LMissedTrains$Sum;") ∈ lw_all := lw_g (lw_at lw_m1 179 rfl) rfl
theorem q281 : (Jvm.Cond.soleField "MissedTrains$Text" "sums") ∈ lw_all := lw_g (lw_at lw_m1 180 rfl) rfl
theorem q282 : (Jvm.Cond.laysFinal "MissedTrains$Text" "MissedTrains$Text" "conditions" "[LMissedTrains$Condition;") ∈ lw_all := lw_g (lw_at lw_m1 181 rfl) rfl
theorem q283 : (Jvm.Cond.soleField "MissedTrains$Text" "conditions") ∈ lw_all := lw_g (lw_at lw_m1 182 rfl) rfl
theorem q284 : (Jvm.Cond.lays "MissedTrains$Text" "MissedTrains$Text" "many" "I") ∈ lw_all := lw_g (lw_at lw_m1 183 rfl) rfl
theorem q285 : (Jvm.Cond.soleField "MissedTrains$Text" "many") ∈ lw_all := lw_g (lw_at lw_m1 184 rfl) rfl
theorem q286 : (Jvm.Cond.superclass "MissedTrains$Text" "java/lang/Object") ∈ lw_all := lw_g (lw_at lw_m1 185 rfl) rfl
theorem q940 : (Jvm.Cond.instanceMethod ({ cls := "MissedTrains$Text", name := "tells", desc := "(ILMissedTrains$Asked;)I" } : Jvm.MethodName)) ∈ lw_all := lw_g (lw_at lw_m4 119 rfl) rfl
theorem q941 : (Jvm.Cond.selects "MissedTrains$Text" ({ cls := "MissedTrains$Text", name := "tells", desc := "(ILMissedTrains$Asked;)I" } : Jvm.MethodName) ({ cls := "MissedTrains$Text", name := "tells", desc := "(ILMissedTrains$Asked;)I" } : Jvm.MethodName)) ∈ lw_all := lw_g (lw_at lw_m4 120 rfl) rfl
theorem q942 : (Jvm.Cond.code ({ cls := "MissedTrains$Text", name := "tells", desc := "(ILMissedTrains$Asked;)I" } : Jvm.MethodName) prog_18_method_2_code (4 : Nat) (Option.some Jvm.ClassFile.FieldType.int)) ∈ lw_all := lw_g (lw_at lw_m4 121 rfl) rfl
theorem q943 : (Jvm.Cond.methodLink "MissedTrains$Text" (31 : Nat) ({ cls := "MissedTrains$Condition", name := "holds", desc := "(LMissedTrains$Asked;)I" } : Jvm.MethodName)) ∈ lw_all := lw_g (lw_at lw_m4 122 rfl) rfl
theorem q979 : (Jvm.Cond.methodLink "MissedTrains$Text" (35 : Nat) ({ cls := "MissedTrains$Sum", name := "told", desc := "(LMissedTrains$Asked;)I" } : Jvm.MethodName)) ∈ lw_all := lw_g (lw_at lw_m4 158 rfl) rfl
theorem q1009 : (Jvm.Cond.instanceMethod ({ cls := "MissedTrains$Text", name := "says", desc := "(ILMissedTrains$Asked;)Z" } : Jvm.MethodName)) ∈ lw_all := lw_g (lw_at lw_m4 188 rfl) rfl
theorem q1010 : (Jvm.Cond.selects "MissedTrains$Text" ({ cls := "MissedTrains$Text", name := "says", desc := "(ILMissedTrains$Asked;)Z" } : Jvm.MethodName) ({ cls := "MissedTrains$Text", name := "says", desc := "(ILMissedTrains$Asked;)Z" } : Jvm.MethodName)) ∈ lw_all := lw_g (lw_at lw_m4 189 rfl) rfl
theorem q1011 : (Jvm.Cond.code ({ cls := "MissedTrains$Text", name := "says", desc := "(ILMissedTrains$Asked;)Z" } : Jvm.MethodName) prog_18_method_3_code (4 : Nat) (Option.some Jvm.ClassFile.FieldType.boolean)) ∈ lw_all := lw_g (lw_at lw_m4 190 rfl) rfl
theorem in_X5 : ∀ w ∈ wsX50, w ∈ lw_all := lw_in wsX50 [278, 280, 282, 284] (by decide +kernel) (by decide +kernel)
/-! MissedTrains$Train -/
set_option maxRecDepth 100000
def RX6 : String := "MissedTrains$Train"
def TX6 : u_T := fun k => match k with
  | 0 => ("MissedTrains$Train", "stations", "[I", true)
  | 1 => ("MissedTrains$Train", "minutes", "[I", true)
  | 2 => ("MissedTrains$Train", "many", "I", false)
  | 3 => ("MissedTrains$Train", "putLate", "I", false)
  | _ => ("MissedTrains$Train", "runs", "Z", false)
def tyX6 : Nat → FieldType := fun k => match k with
  | 0 => .array .int
  | 1 => .array .int
  | 2 => .int
  | 3 => .int
  | _ => .boolean
abbrev wsX60 : List Cond := u_ws RX6 TX6 5
theorem nmX6 : ∀ a, a < 5 → ∀ b, b < 5 → a ≠ b → (TX6 a).2.1 ≠ (TX6 b).2.1 := by decide +kernel
theorem tyX6_ok : ∀ k, k < 5 → parseFieldDescriptor (TX6 k).2.2.1 = some (tyX6 k) := by decide +kernel
abbrev cX6_init : ByteArray := prog_19_method_1_code
def yX6_init : MethodName := ⟨RX6, "<init>", "()V"⟩
def dkwX6_init_1 : List UInt8 := [181, 0, 18, 177]
abbrev dktX6_init_1 : List UInt8 := dkwX6_init_1 ++ []
def dkwX6_init_0 : List UInt8 := [42, 183, 0, 3, 42, 16, 8, 188, 10, 181, 0, 9, 42, 16, 8, 188, 10, 181, 0, 15, 42, 4]
abbrev dktX6_init_0 : List UInt8 := dkwX6_init_0 ++ dktX6_init_1
theorem dksX6_init_0 : cX6_init.data.toList.drop 0 = dktX6_init_0 := by decide +kernel
theorem dksX6_init_1 : cX6_init.data.toList.drop 22 = dktX6_init_1 := dk_seg dksX6_init_0 22 rfl rfl
theorem dX6_init_0 : decode cX6_init 0 = .ok (.aload_n 0, 1) := dk_42 (dk_at dksX6_init_0 0 rfl rfl)
theorem dX6_init_1 : decode cX6_init 1 = .ok (.invokespecial 3, 3) := dk_183 0 3 (dk_at dksX6_init_0 1 rfl rfl)
theorem dX6_init_4 : decode cX6_init 4 = .ok (.aload_n 0, 1) := dk_42 (dk_at dksX6_init_0 4 rfl rfl)
theorem dX6_init_5 : decode cX6_init 5 = .ok (.bipush 8, 2) := dk_16 8 (dk_at dksX6_init_0 5 rfl rfl)
theorem dX6_init_7 : decode cX6_init 7 = .ok (.newarray .int, 2) := dk_188_10 (dk_at dksX6_init_0 7 rfl rfl)
theorem dX6_init_9 : decode cX6_init 9 = .ok (.putfield 9, 3) := dk_181 0 9 (dk_at dksX6_init_0 9 rfl rfl)
theorem dX6_init_12 : decode cX6_init 12 = .ok (.aload_n 0, 1) := dk_42 (dk_at dksX6_init_0 12 rfl rfl)
theorem dX6_init_13 : decode cX6_init 13 = .ok (.bipush 8, 2) := dk_16 8 (dk_at dksX6_init_0 13 rfl rfl)
theorem dX6_init_15 : decode cX6_init 15 = .ok (.newarray .int, 2) := dk_188_10 (dk_at dksX6_init_0 15 rfl rfl)
theorem dX6_init_17 : decode cX6_init 17 = .ok (.putfield 15, 3) := dk_181 0 15 (dk_at dksX6_init_0 17 rfl rfl)
theorem dX6_init_20 : decode cX6_init 20 = .ok (.aload_n 0, 1) := dk_42 (dk_at dksX6_init_0 20 rfl rfl)
theorem dX6_init_21 : decode cX6_init 21 = .ok (.iconst 1, 1) := dk_4 (dk_at dksX6_init_0 21 rfl rfl)
theorem dX6_init_22 : decode cX6_init 22 = .ok (.putfield 18, 3) := dk_181 0 18 (dk_at dksX6_init_1 0 rfl rfl)
theorem dX6_init_25 : decode cX6_init 25 = .ok (.return_, 1) := dk_177 (dk_at dksX6_init_1 3 rfl rfl)
abbrev cX6_stopAt : ByteArray := prog_19_method_3_code
def yX6_stopAt : MethodName := ⟨RX6, "stopAt", "(I)I"⟩
def dkwX6_stopAt_1 : List UInt8 := [132, 2, 1, 167, 255, 233, 2, 172]
abbrev dktX6_stopAt_1 : List UInt8 := dkwX6_stopAt_1 ++ []
def dkwX6_stopAt_0 : List UInt8 := [3, 61, 28, 42, 180, 0, 22, 162, 0, 21, 42, 180, 0, 9, 28, 46, 27, 160, 0, 5, 28, 172]
abbrev dktX6_stopAt_0 : List UInt8 := dkwX6_stopAt_0 ++ dktX6_stopAt_1
theorem dksX6_stopAt_0 : cX6_stopAt.data.toList.drop 0 = dktX6_stopAt_0 := by decide +kernel
theorem dksX6_stopAt_1 : cX6_stopAt.data.toList.drop 22 = dktX6_stopAt_1 := dk_seg dksX6_stopAt_0 22 rfl rfl
theorem dX6_stopAt_0 : decode cX6_stopAt 0 = .ok (.iconst 0, 1) := dk_3 (dk_at dksX6_stopAt_0 0 rfl rfl)
theorem dX6_stopAt_1 : decode cX6_stopAt 1 = .ok (.istore_n 2, 1) := dk_61 (dk_at dksX6_stopAt_0 1 rfl rfl)
theorem dX6_stopAt_2 : decode cX6_stopAt 2 = .ok (.iload_n 2, 1) := dk_28 (dk_at dksX6_stopAt_0 2 rfl rfl)
theorem dX6_stopAt_3 : decode cX6_stopAt 3 = .ok (.aload_n 0, 1) := dk_42 (dk_at dksX6_stopAt_0 3 rfl rfl)
theorem dX6_stopAt_4 : decode cX6_stopAt 4 = .ok (.getfield 22, 3) := dk_180 0 22 (dk_at dksX6_stopAt_0 4 rfl rfl)
theorem dX6_stopAt_7 : decode cX6_stopAt 7 = .ok (.if_icmp .ge 21, 3) := dk_162 0 21 (dk_at dksX6_stopAt_0 7 rfl rfl)
theorem dX6_stopAt_10 : decode cX6_stopAt 10 = .ok (.aload_n 0, 1) := dk_42 (dk_at dksX6_stopAt_0 10 rfl rfl)
theorem dX6_stopAt_11 : decode cX6_stopAt 11 = .ok (.getfield 9, 3) := dk_180 0 9 (dk_at dksX6_stopAt_0 11 rfl rfl)
theorem dX6_stopAt_14 : decode cX6_stopAt 14 = .ok (.iload_n 2, 1) := dk_28 (dk_at dksX6_stopAt_0 14 rfl rfl)
theorem dX6_stopAt_15 : decode cX6_stopAt 15 = .ok (.iaload, 1) := dk_46 (dk_at dksX6_stopAt_0 15 rfl rfl)
theorem dX6_stopAt_16 : decode cX6_stopAt 16 = .ok (.iload_n 1, 1) := dk_27 (dk_at dksX6_stopAt_0 16 rfl rfl)
theorem dX6_stopAt_17 : decode cX6_stopAt 17 = .ok (.if_icmp .ne 5, 3) := dk_160 0 5 (dk_at dksX6_stopAt_0 17 rfl rfl)
theorem dX6_stopAt_20 : decode cX6_stopAt 20 = .ok (.iload_n 2, 1) := dk_28 (dk_at dksX6_stopAt_0 20 rfl rfl)
theorem dX6_stopAt_21 : decode cX6_stopAt 21 = .ok (.ireturn, 1) := dk_172 (dk_at dksX6_stopAt_0 21 rfl rfl)
theorem dX6_stopAt_22 : decode cX6_stopAt 22 = .ok (.iinc 2 1, 3) := dk_132 2 1 (dk_at dksX6_stopAt_1 0 rfl rfl)
theorem dX6_stopAt_25 : decode cX6_stopAt 25 = .ok (.goto (-23), 3) := dk_167 255 233 (dk_at dksX6_stopAt_1 3 rfl rfl)
theorem dX6_stopAt_28 : decode cX6_stopAt 28 = .ok (.iconst (-1), 1) := dk_2 (dk_at dksX6_stopAt_1 6 rfl rfl)
theorem dX6_stopAt_29 : decode cX6_stopAt 29 = .ok (.ireturn, 1) := dk_172 (dk_at dksX6_stopAt_1 7 rfl rfl)
abbrev cX6_ends : ByteArray := prog_19_method_6_code
def yX6_ends : MethodName := ⟨RX6, "ends", "()I"⟩
def dkwX6_ends_0 : List UInt8 := [42, 180, 0, 15, 42, 180, 0, 22, 4, 100, 46, 172]
abbrev dktX6_ends_0 : List UInt8 := dkwX6_ends_0 ++ []
theorem dksX6_ends_0 : cX6_ends.data.toList.drop 0 = dktX6_ends_0 := by decide +kernel
theorem dX6_ends_0 : decode cX6_ends 0 = .ok (.aload_n 0, 1) := dk_42 (dk_at dksX6_ends_0 0 rfl rfl)
theorem dX6_ends_1 : decode cX6_ends 1 = .ok (.getfield 15, 3) := dk_180 0 15 (dk_at dksX6_ends_0 1 rfl rfl)
theorem dX6_ends_4 : decode cX6_ends 4 = .ok (.aload_n 0, 1) := dk_42 (dk_at dksX6_ends_0 4 rfl rfl)
theorem dX6_ends_5 : decode cX6_ends 5 = .ok (.getfield 22, 3) := dk_180 0 22 (dk_at dksX6_ends_0 5 rfl rfl)
theorem dX6_ends_8 : decode cX6_ends 8 = .ok (.iconst 1, 1) := dk_4 (dk_at dksX6_ends_0 8 rfl rfl)
theorem dX6_ends_9 : decode cX6_ends 9 = .ok (.isub, 1) := dk_100 (dk_at dksX6_ends_0 9 rfl rfl)
theorem dX6_ends_10 : decode cX6_ends 10 = .ok (.iaload, 1) := dk_46 (dk_at dksX6_ends_0 10 rfl rfl)
theorem dX6_ends_11 : decode cX6_ends 11 = .ok (.ireturn, 1) := dk_172 (dk_at dksX6_ends_0 11 rfl rfl)
abbrev cX6_takes : ByteArray := prog_19_method_2_code
def yX6_takes : MethodName := ⟨RX6, "takes", "(LMissedTrains$Train;I)V"⟩
def dkwX6_takes_2 : List UInt8 := [167, 255, 219, 42, 3, 181, 0, 26, 42, 4, 181, 0, 18, 177]
abbrev dktX6_takes_2 : List UInt8 := dkwX6_takes_2 ++ []
def dkwX6_takes_1 : List UInt8 := [180, 0, 9, 29, 46, 79, 42, 180, 0, 15, 29, 43, 180, 0, 15, 29, 46, 28, 96, 79, 132, 3, 1]
abbrev dktX6_takes_1 : List UInt8 := dkwX6_takes_1 ++ dktX6_takes_2
def dkwX6_takes_0 : List UInt8 := [42, 43, 180, 0, 22, 181, 0, 22, 3, 62, 29, 42, 180, 0, 22, 162, 0, 35, 42, 180, 0, 9, 29, 43]
abbrev dktX6_takes_0 : List UInt8 := dkwX6_takes_0 ++ dktX6_takes_1
theorem dksX6_takes_0 : cX6_takes.data.toList.drop 0 = dktX6_takes_0 := by decide +kernel
theorem dksX6_takes_1 : cX6_takes.data.toList.drop 24 = dktX6_takes_1 := dk_seg dksX6_takes_0 24 rfl rfl
theorem dksX6_takes_2 : cX6_takes.data.toList.drop 47 = dktX6_takes_2 := dk_seg dksX6_takes_1 23 rfl rfl
theorem dX6_takes_0 : decode cX6_takes 0 = .ok (.aload_n 0, 1) := dk_42 (dk_at dksX6_takes_0 0 rfl rfl)
theorem dX6_takes_1 : decode cX6_takes 1 = .ok (.aload_n 1, 1) := dk_43 (dk_at dksX6_takes_0 1 rfl rfl)
theorem dX6_takes_2 : decode cX6_takes 2 = .ok (.getfield 22, 3) := dk_180 0 22 (dk_at dksX6_takes_0 2 rfl rfl)
theorem dX6_takes_5 : decode cX6_takes 5 = .ok (.putfield 22, 3) := dk_181 0 22 (dk_at dksX6_takes_0 5 rfl rfl)
theorem dX6_takes_8 : decode cX6_takes 8 = .ok (.iconst 0, 1) := dk_3 (dk_at dksX6_takes_0 8 rfl rfl)
theorem dX6_takes_9 : decode cX6_takes 9 = .ok (.istore_n 3, 1) := dk_62 (dk_at dksX6_takes_0 9 rfl rfl)
theorem dX6_takes_10 : decode cX6_takes 10 = .ok (.iload_n 3, 1) := dk_29 (dk_at dksX6_takes_0 10 rfl rfl)
theorem dX6_takes_11 : decode cX6_takes 11 = .ok (.aload_n 0, 1) := dk_42 (dk_at dksX6_takes_0 11 rfl rfl)
theorem dX6_takes_12 : decode cX6_takes 12 = .ok (.getfield 22, 3) := dk_180 0 22 (dk_at dksX6_takes_0 12 rfl rfl)
theorem dX6_takes_15 : decode cX6_takes 15 = .ok (.if_icmp .ge 35, 3) := dk_162 0 35 (dk_at dksX6_takes_0 15 rfl rfl)
theorem dX6_takes_18 : decode cX6_takes 18 = .ok (.aload_n 0, 1) := dk_42 (dk_at dksX6_takes_0 18 rfl rfl)
theorem dX6_takes_19 : decode cX6_takes 19 = .ok (.getfield 9, 3) := dk_180 0 9 (dk_at dksX6_takes_0 19 rfl rfl)
theorem dX6_takes_22 : decode cX6_takes 22 = .ok (.iload_n 3, 1) := dk_29 (dk_at dksX6_takes_0 22 rfl rfl)
theorem dX6_takes_23 : decode cX6_takes 23 = .ok (.aload_n 1, 1) := dk_43 (dk_at dksX6_takes_0 23 rfl rfl)
theorem dX6_takes_24 : decode cX6_takes 24 = .ok (.getfield 9, 3) := dk_180 0 9 (dk_at dksX6_takes_1 0 rfl rfl)
theorem dX6_takes_27 : decode cX6_takes 27 = .ok (.iload_n 3, 1) := dk_29 (dk_at dksX6_takes_1 3 rfl rfl)
theorem dX6_takes_28 : decode cX6_takes 28 = .ok (.iaload, 1) := dk_46 (dk_at dksX6_takes_1 4 rfl rfl)
theorem dX6_takes_29 : decode cX6_takes 29 = .ok (.iastore, 1) := dk_79 (dk_at dksX6_takes_1 5 rfl rfl)
theorem dX6_takes_30 : decode cX6_takes 30 = .ok (.aload_n 0, 1) := dk_42 (dk_at dksX6_takes_1 6 rfl rfl)
theorem dX6_takes_31 : decode cX6_takes 31 = .ok (.getfield 15, 3) := dk_180 0 15 (dk_at dksX6_takes_1 7 rfl rfl)
theorem dX6_takes_34 : decode cX6_takes 34 = .ok (.iload_n 3, 1) := dk_29 (dk_at dksX6_takes_1 10 rfl rfl)
theorem dX6_takes_35 : decode cX6_takes 35 = .ok (.aload_n 1, 1) := dk_43 (dk_at dksX6_takes_1 11 rfl rfl)
theorem dX6_takes_36 : decode cX6_takes 36 = .ok (.getfield 15, 3) := dk_180 0 15 (dk_at dksX6_takes_1 12 rfl rfl)
theorem dX6_takes_39 : decode cX6_takes 39 = .ok (.iload_n 3, 1) := dk_29 (dk_at dksX6_takes_1 15 rfl rfl)
theorem dX6_takes_40 : decode cX6_takes 40 = .ok (.iaload, 1) := dk_46 (dk_at dksX6_takes_1 16 rfl rfl)
theorem dX6_takes_41 : decode cX6_takes 41 = .ok (.iload_n 2, 1) := dk_28 (dk_at dksX6_takes_1 17 rfl rfl)
theorem dX6_takes_42 : decode cX6_takes 42 = .ok (.iadd, 1) := dk_96 (dk_at dksX6_takes_1 18 rfl rfl)
theorem dX6_takes_43 : decode cX6_takes 43 = .ok (.iastore, 1) := dk_79 (dk_at dksX6_takes_1 19 rfl rfl)
theorem dX6_takes_44 : decode cX6_takes 44 = .ok (.iinc 3 1, 3) := dk_132 3 1 (dk_at dksX6_takes_1 20 rfl rfl)
theorem dX6_takes_47 : decode cX6_takes 47 = .ok (.goto (-37), 3) := dk_167 255 219 (dk_at dksX6_takes_2 0 rfl rfl)
theorem dX6_takes_50 : decode cX6_takes 50 = .ok (.aload_n 0, 1) := dk_42 (dk_at dksX6_takes_2 3 rfl rfl)
theorem dX6_takes_51 : decode cX6_takes 51 = .ok (.iconst 0, 1) := dk_3 (dk_at dksX6_takes_2 4 rfl rfl)
theorem dX6_takes_52 : decode cX6_takes 52 = .ok (.putfield 26, 3) := dk_181 0 26 (dk_at dksX6_takes_2 5 rfl rfl)
theorem dX6_takes_55 : decode cX6_takes 55 = .ok (.aload_n 0, 1) := dk_42 (dk_at dksX6_takes_2 8 rfl rfl)
theorem dX6_takes_56 : decode cX6_takes 56 = .ok (.iconst 1, 1) := dk_4 (dk_at dksX6_takes_2 9 rfl rfl)
theorem dX6_takes_57 : decode cX6_takes 57 = .ok (.putfield 18, 3) := dk_181 0 18 (dk_at dksX6_takes_2 10 rfl rfl)
theorem dX6_takes_60 : decode cX6_takes 60 = .ok (.return_, 1) := dk_177 (dk_at dksX6_takes_2 13 rfl rfl)
abbrev cX6_first : ByteArray := prog_19_method_4_code
def yX6_first : MethodName := ⟨RX6, "first", "()I"⟩
def dkwX6_first_0 : List UInt8 := [42, 180, 0, 9, 3, 46, 172]
abbrev dktX6_first_0 : List UInt8 := dkwX6_first_0 ++ []
theorem dksX6_first_0 : cX6_first.data.toList.drop 0 = dktX6_first_0 := by decide +kernel
theorem dX6_first_0 : decode cX6_first 0 = .ok (.aload_n 0, 1) := dk_42 (dk_at dksX6_first_0 0 rfl rfl)
theorem dX6_first_1 : decode cX6_first 1 = .ok (.getfield 9, 3) := dk_180 0 9 (dk_at dksX6_first_0 1 rfl rfl)
theorem dX6_first_4 : decode cX6_first 4 = .ok (.iconst 0, 1) := dk_3 (dk_at dksX6_first_0 4 rfl rfl)
theorem dX6_first_5 : decode cX6_first 5 = .ok (.iaload, 1) := dk_46 (dk_at dksX6_first_0 5 rfl rfl)
theorem dX6_first_6 : decode cX6_first 6 = .ok (.ireturn, 1) := dk_172 (dk_at dksX6_first_0 6 rfl rfl)
abbrev cX6_last : ByteArray := prog_19_method_5_code
def yX6_last : MethodName := ⟨RX6, "last", "()I"⟩
def dkwX6_last_0 : List UInt8 := [42, 180, 0, 9, 42, 180, 0, 22, 4, 100, 46, 172]
abbrev dktX6_last_0 : List UInt8 := dkwX6_last_0 ++ []
theorem dksX6_last_0 : cX6_last.data.toList.drop 0 = dktX6_last_0 := by decide +kernel
theorem dX6_last_0 : decode cX6_last 0 = .ok (.aload_n 0, 1) := dk_42 (dk_at dksX6_last_0 0 rfl rfl)
theorem dX6_last_1 : decode cX6_last 1 = .ok (.getfield 9, 3) := dk_180 0 9 (dk_at dksX6_last_0 1 rfl rfl)
theorem dX6_last_4 : decode cX6_last 4 = .ok (.aload_n 0, 1) := dk_42 (dk_at dksX6_last_0 4 rfl rfl)
theorem dX6_last_5 : decode cX6_last 5 = .ok (.getfield 22, 3) := dk_180 0 22 (dk_at dksX6_last_0 5 rfl rfl)
theorem dX6_last_8 : decode cX6_last 8 = .ok (.iconst 1, 1) := dk_4 (dk_at dksX6_last_0 8 rfl rfl)
theorem dX6_last_9 : decode cX6_last 9 = .ok (.isub, 1) := dk_100 (dk_at dksX6_last_0 9 rfl rfl)
theorem dX6_last_10 : decode cX6_last 10 = .ok (.iaload, 1) := dk_46 (dk_at dksX6_last_0 10 rfl rfl)
theorem dX6_last_11 : decode cX6_last 11 = .ok (.ireturn, 1) := dk_172 (dk_at dksX6_last_0 11 rfl rfl)
abbrev cX6_leaves : ByteArray := prog_19_method_7_code
def yX6_leaves : MethodName := ⟨RX6, "leaves", "(I)Z"⟩
def dkwX6_leaves_1 : List UInt8 := [180, 0, 22, 4, 100, 162, 0, 7, 4, 167, 0, 4, 3, 172]
abbrev dktX6_leaves_1 : List UInt8 := dkwX6_leaves_1 ++ []
def dkwX6_leaves_0 : List UInt8 := [42, 180, 0, 18, 153, 0, 30, 42, 27, 182, 0, 29, 2, 159, 0, 21, 42, 27, 182, 0, 29, 42]
abbrev dktX6_leaves_0 : List UInt8 := dkwX6_leaves_0 ++ dktX6_leaves_1
theorem dksX6_leaves_0 : cX6_leaves.data.toList.drop 0 = dktX6_leaves_0 := by decide +kernel
theorem dksX6_leaves_1 : cX6_leaves.data.toList.drop 22 = dktX6_leaves_1 := dk_seg dksX6_leaves_0 22 rfl rfl
theorem dX6_leaves_0 : decode cX6_leaves 0 = .ok (.aload_n 0, 1) := dk_42 (dk_at dksX6_leaves_0 0 rfl rfl)
theorem dX6_leaves_1 : decode cX6_leaves 1 = .ok (.getfield 18, 3) := dk_180 0 18 (dk_at dksX6_leaves_0 1 rfl rfl)
theorem dX6_leaves_4 : decode cX6_leaves 4 = .ok (.ifCond .eq 30, 3) := dk_153 0 30 (dk_at dksX6_leaves_0 4 rfl rfl)
theorem dX6_leaves_7 : decode cX6_leaves 7 = .ok (.aload_n 0, 1) := dk_42 (dk_at dksX6_leaves_0 7 rfl rfl)
theorem dX6_leaves_8 : decode cX6_leaves 8 = .ok (.iload_n 1, 1) := dk_27 (dk_at dksX6_leaves_0 8 rfl rfl)
theorem dX6_leaves_9 : decode cX6_leaves 9 = .ok (.invokevirtual 29, 3) := dk_182 0 29 (dk_at dksX6_leaves_0 9 rfl rfl)
theorem dX6_leaves_12 : decode cX6_leaves 12 = .ok (.iconst (-1), 1) := dk_2 (dk_at dksX6_leaves_0 12 rfl rfl)
theorem dX6_leaves_13 : decode cX6_leaves 13 = .ok (.if_icmp .eq 21, 3) := dk_159 0 21 (dk_at dksX6_leaves_0 13 rfl rfl)
theorem dX6_leaves_16 : decode cX6_leaves 16 = .ok (.aload_n 0, 1) := dk_42 (dk_at dksX6_leaves_0 16 rfl rfl)
theorem dX6_leaves_17 : decode cX6_leaves 17 = .ok (.iload_n 1, 1) := dk_27 (dk_at dksX6_leaves_0 17 rfl rfl)
theorem dX6_leaves_18 : decode cX6_leaves 18 = .ok (.invokevirtual 29, 3) := dk_182 0 29 (dk_at dksX6_leaves_0 18 rfl rfl)
theorem dX6_leaves_21 : decode cX6_leaves 21 = .ok (.aload_n 0, 1) := dk_42 (dk_at dksX6_leaves_0 21 rfl rfl)
theorem dX6_leaves_22 : decode cX6_leaves 22 = .ok (.getfield 22, 3) := dk_180 0 22 (dk_at dksX6_leaves_1 0 rfl rfl)
theorem dX6_leaves_25 : decode cX6_leaves 25 = .ok (.iconst 1, 1) := dk_4 (dk_at dksX6_leaves_1 3 rfl rfl)
theorem dX6_leaves_26 : decode cX6_leaves 26 = .ok (.isub, 1) := dk_100 (dk_at dksX6_leaves_1 4 rfl rfl)
theorem dX6_leaves_27 : decode cX6_leaves 27 = .ok (.if_icmp .ge 7, 3) := dk_162 0 7 (dk_at dksX6_leaves_1 5 rfl rfl)
theorem dX6_leaves_30 : decode cX6_leaves 30 = .ok (.iconst 1, 1) := dk_4 (dk_at dksX6_leaves_1 8 rfl rfl)
theorem dX6_leaves_31 : decode cX6_leaves 31 = .ok (.goto 4, 3) := dk_167 0 4 (dk_at dksX6_leaves_1 9 rfl rfl)
theorem dX6_leaves_34 : decode cX6_leaves 34 = .ok (.iconst 0, 1) := dk_3 (dk_at dksX6_leaves_1 12 rfl rfl)
theorem dX6_leaves_35 : decode cX6_leaves 35 = .ok (.ireturn, 1) := dk_172 (dk_at dksX6_leaves_1 13 rfl rfl)
abbrev cX6_minuteAt : ByteArray := prog_19_method_9_code
def yX6_minuteAt : MethodName := ⟨RX6, "minuteAt", "(I)I"⟩
def dkwX6_minuteAt_0 : List UInt8 := [42, 180, 0, 15, 42, 27, 182, 0, 29, 46, 172]
abbrev dktX6_minuteAt_0 : List UInt8 := dkwX6_minuteAt_0 ++ []
theorem dksX6_minuteAt_0 : cX6_minuteAt.data.toList.drop 0 = dktX6_minuteAt_0 := by decide +kernel
theorem dX6_minuteAt_0 : decode cX6_minuteAt 0 = .ok (.aload_n 0, 1) := dk_42 (dk_at dksX6_minuteAt_0 0 rfl rfl)
theorem dX6_minuteAt_1 : decode cX6_minuteAt 1 = .ok (.getfield 15, 3) := dk_180 0 15 (dk_at dksX6_minuteAt_0 1 rfl rfl)
theorem dX6_minuteAt_4 : decode cX6_minuteAt 4 = .ok (.aload_n 0, 1) := dk_42 (dk_at dksX6_minuteAt_0 4 rfl rfl)
theorem dX6_minuteAt_5 : decode cX6_minuteAt 5 = .ok (.iload_n 1, 1) := dk_27 (dk_at dksX6_minuteAt_0 5 rfl rfl)
theorem dX6_minuteAt_6 : decode cX6_minuteAt 6 = .ok (.invokevirtual 29, 3) := dk_182 0 29 (dk_at dksX6_minuteAt_0 6 rfl rfl)
theorem dX6_minuteAt_9 : decode cX6_minuteAt 9 = .ok (.iaload, 1) := dk_46 (dk_at dksX6_minuteAt_0 9 rfl rfl)
theorem dX6_minuteAt_10 : decode cX6_minuteAt 10 = .ok (.ireturn, 1) := dk_172 (dk_at dksX6_minuteAt_0 10 rfl rfl)
abbrev cX6_goes : ByteArray := prog_19_method_10_code
def yX6_goes : MethodName := ⟨RX6, "goes", "(II)Z"⟩
def dkwX6_goes_1 : List UInt8 := [182, 0, 29, 164, 0, 7, 4, 167, 0, 4, 3, 172]
abbrev dktX6_goes_1 : List UInt8 := dkwX6_goes_1 ++ []
def dkwX6_goes_0 : List UInt8 := [42, 180, 0, 18, 153, 0, 29, 42, 27, 182, 0, 29, 2, 159, 0, 20, 42, 28, 182, 0, 29, 42, 27]
abbrev dktX6_goes_0 : List UInt8 := dkwX6_goes_0 ++ dktX6_goes_1
theorem dksX6_goes_0 : cX6_goes.data.toList.drop 0 = dktX6_goes_0 := by decide +kernel
theorem dksX6_goes_1 : cX6_goes.data.toList.drop 23 = dktX6_goes_1 := dk_seg dksX6_goes_0 23 rfl rfl
theorem dX6_goes_0 : decode cX6_goes 0 = .ok (.aload_n 0, 1) := dk_42 (dk_at dksX6_goes_0 0 rfl rfl)
theorem dX6_goes_1 : decode cX6_goes 1 = .ok (.getfield 18, 3) := dk_180 0 18 (dk_at dksX6_goes_0 1 rfl rfl)
theorem dX6_goes_4 : decode cX6_goes 4 = .ok (.ifCond .eq 29, 3) := dk_153 0 29 (dk_at dksX6_goes_0 4 rfl rfl)
theorem dX6_goes_7 : decode cX6_goes 7 = .ok (.aload_n 0, 1) := dk_42 (dk_at dksX6_goes_0 7 rfl rfl)
theorem dX6_goes_8 : decode cX6_goes 8 = .ok (.iload_n 1, 1) := dk_27 (dk_at dksX6_goes_0 8 rfl rfl)
theorem dX6_goes_9 : decode cX6_goes 9 = .ok (.invokevirtual 29, 3) := dk_182 0 29 (dk_at dksX6_goes_0 9 rfl rfl)
theorem dX6_goes_12 : decode cX6_goes 12 = .ok (.iconst (-1), 1) := dk_2 (dk_at dksX6_goes_0 12 rfl rfl)
theorem dX6_goes_13 : decode cX6_goes 13 = .ok (.if_icmp .eq 20, 3) := dk_159 0 20 (dk_at dksX6_goes_0 13 rfl rfl)
theorem dX6_goes_16 : decode cX6_goes 16 = .ok (.aload_n 0, 1) := dk_42 (dk_at dksX6_goes_0 16 rfl rfl)
theorem dX6_goes_17 : decode cX6_goes 17 = .ok (.iload_n 2, 1) := dk_28 (dk_at dksX6_goes_0 17 rfl rfl)
theorem dX6_goes_18 : decode cX6_goes 18 = .ok (.invokevirtual 29, 3) := dk_182 0 29 (dk_at dksX6_goes_0 18 rfl rfl)
theorem dX6_goes_21 : decode cX6_goes 21 = .ok (.aload_n 0, 1) := dk_42 (dk_at dksX6_goes_0 21 rfl rfl)
theorem dX6_goes_22 : decode cX6_goes 22 = .ok (.iload_n 1, 1) := dk_27 (dk_at dksX6_goes_0 22 rfl rfl)
theorem dX6_goes_23 : decode cX6_goes 23 = .ok (.invokevirtual 29, 3) := dk_182 0 29 (dk_at dksX6_goes_1 0 rfl rfl)
theorem dX6_goes_26 : decode cX6_goes 26 = .ok (.if_icmp .le 7, 3) := dk_164 0 7 (dk_at dksX6_goes_1 3 rfl rfl)
theorem dX6_goes_29 : decode cX6_goes 29 = .ok (.iconst 1, 1) := dk_4 (dk_at dksX6_goes_1 6 rfl rfl)
theorem dX6_goes_30 : decode cX6_goes 30 = .ok (.goto 4, 3) := dk_167 0 4 (dk_at dksX6_goes_1 7 rfl rfl)
theorem dX6_goes_33 : decode cX6_goes 33 = .ok (.iconst 0, 1) := dk_3 (dk_at dksX6_goes_1 10 rfl rfl)
theorem dX6_goes_34 : decode cX6_goes 34 = .ok (.ireturn, 1) := dk_172 (dk_at dksX6_goes_1 11 rfl rfl)
abbrev cX6_comes : ByteArray := prog_19_method_8_code
def yX6_comes : MethodName := ⟨RX6, "comes", "(I)Z"⟩
def dkwX6_comes_0 : List UInt8 := [42, 180, 0, 18, 153, 0, 15, 42, 27, 182, 0, 29, 158, 0, 7, 4, 167, 0, 4, 3, 172]
abbrev dktX6_comes_0 : List UInt8 := dkwX6_comes_0 ++ []
theorem dksX6_comes_0 : cX6_comes.data.toList.drop 0 = dktX6_comes_0 := by decide +kernel
theorem dX6_comes_0 : decode cX6_comes 0 = .ok (.aload_n 0, 1) := dk_42 (dk_at dksX6_comes_0 0 rfl rfl)
theorem dX6_comes_1 : decode cX6_comes 1 = .ok (.getfield 18, 3) := dk_180 0 18 (dk_at dksX6_comes_0 1 rfl rfl)
theorem dX6_comes_4 : decode cX6_comes 4 = .ok (.ifCond .eq 15, 3) := dk_153 0 15 (dk_at dksX6_comes_0 4 rfl rfl)
theorem dX6_comes_7 : decode cX6_comes 7 = .ok (.aload_n 0, 1) := dk_42 (dk_at dksX6_comes_0 7 rfl rfl)
theorem dX6_comes_8 : decode cX6_comes 8 = .ok (.iload_n 1, 1) := dk_27 (dk_at dksX6_comes_0 8 rfl rfl)
theorem dX6_comes_9 : decode cX6_comes 9 = .ok (.invokevirtual 29, 3) := dk_182 0 29 (dk_at dksX6_comes_0 9 rfl rfl)
theorem dX6_comes_12 : decode cX6_comes 12 = .ok (.ifCond .le 7, 3) := dk_158 0 7 (dk_at dksX6_comes_0 12 rfl rfl)
theorem dX6_comes_15 : decode cX6_comes 15 = .ok (.iconst 1, 1) := dk_4 (dk_at dksX6_comes_0 15 rfl rfl)
theorem dX6_comes_16 : decode cX6_comes 16 = .ok (.goto 4, 3) := dk_167 0 4 (dk_at dksX6_comes_0 16 rfl rfl)
theorem dX6_comes_19 : decode cX6_comes 19 = .ok (.iconst 0, 1) := dk_3 (dk_at dksX6_comes_0 19 rfl rfl)
theorem dX6_comes_20 : decode cX6_comes 20 = .ok (.ireturn, 1) := dk_172 (dk_at dksX6_comes_0 20 rfl rfl)
theorem q108 : (Jvm.Cond.initialized "MissedTrains$Train") ∈ lw_all := lw_g (lw_at lw_m1 7 rfl) rfl
theorem q290 : (Jvm.Cond.instantiable "MissedTrains$Train" (5 : Nat)) ∈ lw_all := lw_g (lw_at lw_m1 189 rfl) rfl
theorem q292 : (Jvm.Cond.instanceMethod ({ cls := "MissedTrains$Train", name := "<init>", desc := "()V" } : Jvm.MethodName)) ∈ lw_all := lw_g (lw_at lw_m1 191 rfl) rfl
theorem q293 : (Jvm.Cond.code ({ cls := "MissedTrains$Train", name := "<init>", desc := "()V" } : Jvm.MethodName) prog_19_method_1_code (1 : Nat) (Option.none : Option Jvm.ClassFile.FieldType)) ∈ lw_all := lw_g (lw_at lw_m1 192 rfl) rfl
theorem q294 : (Jvm.Cond.methodLink "MissedTrains$Train" (3 : Nat) ({ cls := "java/lang/Object", name := "<init>", desc := "()V" } : Jvm.MethodName)) ∈ lw_all := lw_g (lw_at lw_m1 193 rfl) rfl
theorem q295 : (Jvm.Cond.fieldLink "MissedTrains$Train" (9 : Nat) "MissedTrains$Train" "stations" "[I") ∈ lw_all := lw_g (lw_at lw_m1 194 rfl) rfl
theorem q299 : (Jvm.Cond.fieldLink "MissedTrains$Train" (15 : Nat) "MissedTrains$Train" "minutes" "[I") ∈ lw_all := lw_g (lw_at lw_m1 198 rfl) rfl
theorem q303 : (Jvm.Cond.fieldLink "MissedTrains$Train" (22 : Nat) "MissedTrains$Train" "many" "I") ∈ lw_all := lw_g (lw_at lw_m1 202 rfl) rfl
theorem q307 : (Jvm.Cond.fieldLink "MissedTrains$Train" (26 : Nat) "MissedTrains$Train" "putLate" "I") ∈ lw_all := lw_g (lw_at lw_m1 206 rfl) rfl
theorem q310 : (Jvm.Cond.fieldLink "MissedTrains$Train" (18 : Nat) "MissedTrains$Train" "runs" "Z") ∈ lw_all := lw_g (lw_at lw_m1 209 rfl) rfl
theorem q314 : (Jvm.Cond.laysFinal "MissedTrains$Train" "MissedTrains$Train" "stations" "[I") ∈ lw_all := lw_g (lw_at lw_m1 213 rfl) rfl
theorem q315 : (Jvm.Cond.soleField "MissedTrains$Train" "stations") ∈ lw_all := lw_g (lw_at lw_m1 214 rfl) rfl
theorem q316 : (Jvm.Cond.laysFinal "MissedTrains$Train" "MissedTrains$Train" "minutes" "[I") ∈ lw_all := lw_g (lw_at lw_m1 215 rfl) rfl
theorem q317 : (Jvm.Cond.soleField "MissedTrains$Train" "minutes") ∈ lw_all := lw_g (lw_at lw_m1 216 rfl) rfl
theorem q318 : (Jvm.Cond.lays "MissedTrains$Train" "MissedTrains$Train" "many" "I") ∈ lw_all := lw_g (lw_at lw_m1 217 rfl) rfl
theorem q319 : (Jvm.Cond.soleField "MissedTrains$Train" "many") ∈ lw_all := lw_g (lw_at lw_m1 218 rfl) rfl
theorem q320 : (Jvm.Cond.lays "MissedTrains$Train" "MissedTrains$Train" "putLate" "I") ∈ lw_all := lw_g (lw_at lw_m1 219 rfl) rfl
theorem q321 : (Jvm.Cond.soleField "MissedTrains$Train" "putLate") ∈ lw_all := lw_g (lw_at lw_m1 220 rfl) rfl
theorem q322 : (Jvm.Cond.lays "MissedTrains$Train" "MissedTrains$Train" "runs" "Z") ∈ lw_all := lw_g (lw_at lw_m1 221 rfl) rfl
theorem q323 : (Jvm.Cond.soleField "MissedTrains$Train" "runs") ∈ lw_all := lw_g (lw_at lw_m1 222 rfl) rfl
theorem q324 : (Jvm.Cond.superclass "MissedTrains$Train" "java/lang/Object") ∈ lw_all := lw_g (lw_at lw_m1 223 rfl) rfl
theorem q803 : (Jvm.Cond.instanceMethod ({ cls := "MissedTrains$Train", name := "stopAt", desc := "(I)I" } : Jvm.MethodName)) ∈ lw_all := lw_g (lw_at lw_m3 222 rfl) rfl
theorem q804 : (Jvm.Cond.selects "MissedTrains$Train" ({ cls := "MissedTrains$Train", name := "stopAt", desc := "(I)I" } : Jvm.MethodName) ({ cls := "MissedTrains$Train", name := "stopAt", desc := "(I)I" } : Jvm.MethodName)) ∈ lw_all := lw_g (lw_at lw_m3 223 rfl) rfl
theorem q805 : (Jvm.Cond.code ({ cls := "MissedTrains$Train", name := "stopAt", desc := "(I)I" } : Jvm.MethodName) prog_19_method_3_code (3 : Nat) (Option.some Jvm.ClassFile.FieldType.int)) ∈ lw_all := lw_g (lw_at lw_m3 224 rfl) rfl
theorem q827 : (Jvm.Cond.instanceMethod ({ cls := "MissedTrains$Train", name := "ends", desc := "()I" } : Jvm.MethodName)) ∈ lw_all := lw_g (lw_at lw_m4 6 rfl) rfl
theorem q828 : (Jvm.Cond.selects "MissedTrains$Train" ({ cls := "MissedTrains$Train", name := "ends", desc := "()I" } : Jvm.MethodName) ({ cls := "MissedTrains$Train", name := "ends", desc := "()I" } : Jvm.MethodName)) ∈ lw_all := lw_g (lw_at lw_m4 7 rfl) rfl
theorem q829 : (Jvm.Cond.code ({ cls := "MissedTrains$Train", name := "ends", desc := "()I" } : Jvm.MethodName) prog_19_method_6_code (1 : Nat) (Option.some Jvm.ClassFile.FieldType.int)) ∈ lw_all := lw_g (lw_at lw_m4 8 rfl) rfl
theorem q863 : (Jvm.Cond.instanceMethod ({ cls := "MissedTrains$Train", name := "takes", desc := "(LMissedTrains$Train;I)V" } : Jvm.MethodName)) ∈ lw_all := lw_g (lw_at lw_m4 42 rfl) rfl
theorem q864 : (Jvm.Cond.selects "MissedTrains$Train" ({ cls := "MissedTrains$Train", name := "takes", desc := "(LMissedTrains$Train;I)V" } : Jvm.MethodName) ({ cls := "MissedTrains$Train", name := "takes", desc := "(LMissedTrains$Train;I)V" } : Jvm.MethodName)) ∈ lw_all := lw_g (lw_at lw_m4 43 rfl) rfl
theorem q865 : (Jvm.Cond.code ({ cls := "MissedTrains$Train", name := "takes", desc := "(LMissedTrains$Train;I)V" } : Jvm.MethodName) prog_19_method_2_code (4 : Nat) (Option.none : Option Jvm.ClassFile.FieldType)) ∈ lw_all := lw_g (lw_at lw_m4 44 rfl) rfl
theorem q1038 : (Jvm.Cond.instanceMethod ({ cls := "MissedTrains$Train", name := "first", desc := "()I" } : Jvm.MethodName)) ∈ lw_all := lw_g (lw_at lw_m4 217 rfl) rfl
theorem q1039 : (Jvm.Cond.selects "MissedTrains$Train" ({ cls := "MissedTrains$Train", name := "first", desc := "()I" } : Jvm.MethodName) ({ cls := "MissedTrains$Train", name := "first", desc := "()I" } : Jvm.MethodName)) ∈ lw_all := lw_g (lw_at lw_m4 218 rfl) rfl
theorem q1040 : (Jvm.Cond.code ({ cls := "MissedTrains$Train", name := "first", desc := "()I" } : Jvm.MethodName) prog_19_method_4_code (1 : Nat) (Option.some Jvm.ClassFile.FieldType.int)) ∈ lw_all := lw_g (lw_at lw_m4 219 rfl) rfl
theorem q1042 : (Jvm.Cond.instanceMethod ({ cls := "MissedTrains$Train", name := "last", desc := "()I" } : Jvm.MethodName)) ∈ lw_all := lw_g (lw_at lw_m4 221 rfl) rfl
theorem q1043 : (Jvm.Cond.selects "MissedTrains$Train" ({ cls := "MissedTrains$Train", name := "last", desc := "()I" } : Jvm.MethodName) ({ cls := "MissedTrains$Train", name := "last", desc := "()I" } : Jvm.MethodName)) ∈ lw_all := lw_g (lw_at lw_m4 222 rfl) rfl
theorem q1044 : (Jvm.Cond.code ({ cls := "MissedTrains$Train", name := "last", desc := "()I" } : Jvm.MethodName) prog_19_method_5_code (1 : Nat) (Option.some Jvm.ClassFile.FieldType.int)) ∈ lw_all := lw_g (lw_at lw_m4 223 rfl) rfl
theorem q1068 : (Jvm.Cond.instanceMethod ({ cls := "MissedTrains$Train", name := "leaves", desc := "(I)Z" } : Jvm.MethodName)) ∈ lw_all := lw_g (lw_at lw_m5 7 rfl) rfl
theorem q1069 : (Jvm.Cond.selects "MissedTrains$Train" ({ cls := "MissedTrains$Train", name := "leaves", desc := "(I)Z" } : Jvm.MethodName) ({ cls := "MissedTrains$Train", name := "leaves", desc := "(I)Z" } : Jvm.MethodName)) ∈ lw_all := lw_g (lw_at lw_m5 8 rfl) rfl
theorem q1070 : (Jvm.Cond.code ({ cls := "MissedTrains$Train", name := "leaves", desc := "(I)Z" } : Jvm.MethodName) prog_19_method_7_code (2 : Nat) (Option.some Jvm.ClassFile.FieldType.boolean)) ∈ lw_all := lw_g (lw_at lw_m5 9 rfl) rfl
theorem q1071 : (Jvm.Cond.methodLink "MissedTrains$Train" (29 : Nat) ({ cls := "MissedTrains$Train", name := "stopAt", desc := "(I)I" } : Jvm.MethodName)) ∈ lw_all := lw_g (lw_at lw_m5 10 rfl) rfl
theorem q1073 : (Jvm.Cond.instanceMethod ({ cls := "MissedTrains$Train", name := "minuteAt", desc := "(I)I" } : Jvm.MethodName)) ∈ lw_all := lw_g (lw_at lw_m5 12 rfl) rfl
theorem q1074 : (Jvm.Cond.selects "MissedTrains$Train" ({ cls := "MissedTrains$Train", name := "minuteAt", desc := "(I)I" } : Jvm.MethodName) ({ cls := "MissedTrains$Train", name := "minuteAt", desc := "(I)I" } : Jvm.MethodName)) ∈ lw_all := lw_g (lw_at lw_m5 13 rfl) rfl
theorem q1075 : (Jvm.Cond.code ({ cls := "MissedTrains$Train", name := "minuteAt", desc := "(I)I" } : Jvm.MethodName) prog_19_method_9_code (2 : Nat) (Option.some Jvm.ClassFile.FieldType.int)) ∈ lw_all := lw_g (lw_at lw_m5 14 rfl) rfl
theorem q1101 : (Jvm.Cond.instanceMethod ({ cls := "MissedTrains$Train", name := "goes", desc := "(II)Z" } : Jvm.MethodName)) ∈ lw_all := lw_g (lw_at lw_m5 40 rfl) rfl
theorem q1102 : (Jvm.Cond.selects "MissedTrains$Train" ({ cls := "MissedTrains$Train", name := "goes", desc := "(II)Z" } : Jvm.MethodName) ({ cls := "MissedTrains$Train", name := "goes", desc := "(II)Z" } : Jvm.MethodName)) ∈ lw_all := lw_g (lw_at lw_m5 41 rfl) rfl
theorem q1103 : (Jvm.Cond.code ({ cls := "MissedTrains$Train", name := "goes", desc := "(II)Z" } : Jvm.MethodName) prog_19_method_10_code (3 : Nat) (Option.some Jvm.ClassFile.FieldType.boolean)) ∈ lw_all := lw_g (lw_at lw_m5 42 rfl) rfl
theorem q1109 : (Jvm.Cond.instanceMethod ({ cls := "MissedTrains$Train", name := "comes", desc := "(I)Z" } : Jvm.MethodName)) ∈ lw_all := lw_g (lw_at lw_m5 48 rfl) rfl
theorem q1110 : (Jvm.Cond.selects "MissedTrains$Train" ({ cls := "MissedTrains$Train", name := "comes", desc := "(I)Z" } : Jvm.MethodName) ({ cls := "MissedTrains$Train", name := "comes", desc := "(I)Z" } : Jvm.MethodName)) ∈ lw_all := lw_g (lw_at lw_m5 49 rfl) rfl
theorem q1111 : (Jvm.Cond.code ({ cls := "MissedTrains$Train", name := "comes", desc := "(I)Z" } : Jvm.MethodName) prog_19_method_8_code (2 : Nat) (Option.some Jvm.ClassFile.FieldType.boolean)) ∈ lw_all := lw_g (lw_at lw_m5 50 rfl) rfl
theorem in_X6 : ∀ w ∈ wsX60, w ∈ lw_all := lw_in wsX60 [314, 316, 318, 320, 322] (by decide +kernel) (by decide +kernel)
/-! MissedTrains$Reader -/
set_option maxRecDepth 100000
def RX8 : String := "MissedTrains$Reader"
def TX8 : u_T := fun k => match k with
  | 0 => ("MissedTrains$Reader", "n", "I", true)
  | 1 => ("MissedTrains$Reader", "text", "LMissedTrains$Text;", true)
  | 2 => ("MissedTrains$Reader", "at", "I", false)
  | 3 => ("MissedTrains$Reader", "open", "I", false)
  | 4 => ("MissedTrains$Reader", "fault", "I", false)
  | 5 => ("MissedTrains$Reader", "place", "I", false)
  | _ => ("MissedTrains$Reader", "this$0", "LMissedTrains;", true)
def tyX8 : Nat → FieldType := fun k => match k with
  | 0 => .int
  | 1 => .object "MissedTrains$Text"
  | 2 => .int
  | 3 => .int
  | 4 => .int
  | 5 => .int
  | _ => .object "MissedTrains"
abbrev wsX80 : List Cond := u_ws RX8 TX8 7
theorem nmX8 : ∀ a, a < 7 → ∀ b, b < 7 → a ≠ b → (TX8 a).2.1 ≠ (TX8 b).2.1 := by decide +kernel
theorem tyX8_ok : ∀ k, k < 7 → parseFieldDescriptor (TX8 k).2.2.1 = some (tyX8 k) := by decide +kernel
abbrev cX8_init : ByteArray := prog_13_method_1_code
def yX8_init : MethodName := ⟨RX8, "<init>", "(LMissedTrains;I)V"⟩
def dkwX8_init_1 : List UInt8 := [181, 0, 22, 177]
abbrev dktX8_init_1 : List UInt8 := dkwX8_init_1 ++ []
def dkwX8_init_0 : List UInt8 := [42, 43, 181, 0, 3, 42, 183, 0, 9, 42, 187, 0, 15, 89, 183, 0, 17, 181, 0, 18, 42, 28]
abbrev dktX8_init_0 : List UInt8 := dkwX8_init_0 ++ dktX8_init_1
theorem dksX8_init_0 : cX8_init.data.toList.drop 0 = dktX8_init_0 := by decide +kernel
theorem dksX8_init_1 : cX8_init.data.toList.drop 22 = dktX8_init_1 := dk_seg dksX8_init_0 22 rfl rfl
theorem dX8_init_0 : decode cX8_init 0 = .ok (.aload_n 0, 1) := dk_42 (dk_at dksX8_init_0 0 rfl rfl)
theorem dX8_init_1 : decode cX8_init 1 = .ok (.aload_n 1, 1) := dk_43 (dk_at dksX8_init_0 1 rfl rfl)
theorem dX8_init_2 : decode cX8_init 2 = .ok (.putfield 3, 3) := dk_181 0 3 (dk_at dksX8_init_0 2 rfl rfl)
theorem dX8_init_5 : decode cX8_init 5 = .ok (.aload_n 0, 1) := dk_42 (dk_at dksX8_init_0 5 rfl rfl)
theorem dX8_init_6 : decode cX8_init 6 = .ok (.invokespecial 9, 3) := dk_183 0 9 (dk_at dksX8_init_0 6 rfl rfl)
theorem dX8_init_9 : decode cX8_init 9 = .ok (.aload_n 0, 1) := dk_42 (dk_at dksX8_init_0 9 rfl rfl)
theorem dX8_init_10 : decode cX8_init 10 = .ok (.new 15, 3) := dk_187 0 15 (dk_at dksX8_init_0 10 rfl rfl)
theorem dX8_init_13 : decode cX8_init 13 = .ok (.dup, 1) := dk_89 (dk_at dksX8_init_0 13 rfl rfl)
theorem dX8_init_14 : decode cX8_init 14 = .ok (.invokespecial 17, 3) := dk_183 0 17 (dk_at dksX8_init_0 14 rfl rfl)
theorem dX8_init_17 : decode cX8_init 17 = .ok (.putfield 18, 3) := dk_181 0 18 (dk_at dksX8_init_0 17 rfl rfl)
theorem dX8_init_20 : decode cX8_init 20 = .ok (.aload_n 0, 1) := dk_42 (dk_at dksX8_init_0 20 rfl rfl)
theorem dX8_init_21 : decode cX8_init 21 = .ok (.iload_n 2, 1) := dk_28 (dk_at dksX8_init_0 21 rfl rfl)
theorem dX8_init_22 : decode cX8_init 22 = .ok (.putfield 22, 3) := dk_181 0 22 (dk_at dksX8_init_1 0 rfl rfl)
theorem dX8_init_25 : decode cX8_init 25 = .ok (.return_, 1) := dk_177 (dk_at dksX8_init_1 3 rfl rfl)
abbrev cX8_read : ByteArray := prog_13_method_16_code
def yX8_read : MethodName := ⟨RX8, "read", "()I"⟩
def dkwX8_read_3 : List UInt8 := [17, 252, 24, 42, 180, 0, 33, 104, 42, 180, 0, 36, 100, 172]
abbrev dktX8_read_3 : List UInt8 := dkwX8_read_3 ++ []
def dkwX8_read_2 : List UInt8 := [182, 0, 64, 167, 255, 207, 42, 182, 0, 43, 153, 0, 13, 42, 180, 0, 18, 180, 0, 131, 167, 0, 16]
abbrev dktX8_read_2 : List UInt8 := dkwX8_read_2 ++ dktX8_read_3
def dkwX8_read_1 : List UInt8 := [42, 180, 0, 26, 42, 180, 0, 22, 162, 0, 7, 4, 167, 0, 4, 3, 60, 27, 153, 255, 216, 42, 16, 59]
abbrev dktX8_read_1 : List UInt8 := dkwX8_read_1 ++ dktX8_read_2
def dkwX8_read_0 : List UInt8 := [4, 60, 27, 153, 0, 51, 42, 182, 0, 43, 153, 0, 44, 42, 182, 0, 146, 42, 182, 0, 43, 153, 0, 18]
abbrev dktX8_read_0 : List UInt8 := dkwX8_read_0 ++ dktX8_read_1
theorem dksX8_read_0 : cX8_read.data.toList.drop 0 = dktX8_read_0 := by decide +kernel
theorem dksX8_read_1 : cX8_read.data.toList.drop 24 = dktX8_read_1 := dk_seg dksX8_read_0 24 rfl rfl
theorem dksX8_read_2 : cX8_read.data.toList.drop 48 = dktX8_read_2 := dk_seg dksX8_read_1 24 rfl rfl
theorem dksX8_read_3 : cX8_read.data.toList.drop 71 = dktX8_read_3 := dk_seg dksX8_read_2 23 rfl rfl
theorem dX8_read_0 : decode cX8_read 0 = .ok (.iconst 1, 1) := dk_4 (dk_at dksX8_read_0 0 rfl rfl)
theorem dX8_read_1 : decode cX8_read 1 = .ok (.istore_n 1, 1) := dk_60 (dk_at dksX8_read_0 1 rfl rfl)
theorem dX8_read_2 : decode cX8_read 2 = .ok (.iload_n 1, 1) := dk_27 (dk_at dksX8_read_0 2 rfl rfl)
theorem dX8_read_3 : decode cX8_read 3 = .ok (.ifCond .eq 51, 3) := dk_153 0 51 (dk_at dksX8_read_0 3 rfl rfl)
theorem dX8_read_6 : decode cX8_read 6 = .ok (.aload_n 0, 1) := dk_42 (dk_at dksX8_read_0 6 rfl rfl)
theorem dX8_read_7 : decode cX8_read 7 = .ok (.invokevirtual 43, 3) := dk_182 0 43 (dk_at dksX8_read_0 7 rfl rfl)
theorem dX8_read_10 : decode cX8_read 10 = .ok (.ifCond .eq 44, 3) := dk_153 0 44 (dk_at dksX8_read_0 10 rfl rfl)
theorem dX8_read_13 : decode cX8_read 13 = .ok (.aload_n 0, 1) := dk_42 (dk_at dksX8_read_0 13 rfl rfl)
theorem dX8_read_14 : decode cX8_read 14 = .ok (.invokevirtual 146, 3) := dk_182 0 146 (dk_at dksX8_read_0 14 rfl rfl)
theorem dX8_read_17 : decode cX8_read 17 = .ok (.aload_n 0, 1) := dk_42 (dk_at dksX8_read_0 17 rfl rfl)
theorem dX8_read_18 : decode cX8_read 18 = .ok (.invokevirtual 43, 3) := dk_182 0 43 (dk_at dksX8_read_0 18 rfl rfl)
theorem dX8_read_21 : decode cX8_read 21 = .ok (.ifCond .eq 18, 3) := dk_153 0 18 (dk_at dksX8_read_0 21 rfl rfl)
theorem dX8_read_24 : decode cX8_read 24 = .ok (.aload_n 0, 1) := dk_42 (dk_at dksX8_read_1 0 rfl rfl)
theorem dX8_read_25 : decode cX8_read 25 = .ok (.getfield 26, 3) := dk_180 0 26 (dk_at dksX8_read_1 1 rfl rfl)
theorem dX8_read_28 : decode cX8_read 28 = .ok (.aload_n 0, 1) := dk_42 (dk_at dksX8_read_1 4 rfl rfl)
theorem dX8_read_29 : decode cX8_read 29 = .ok (.getfield 22, 3) := dk_180 0 22 (dk_at dksX8_read_1 5 rfl rfl)
theorem dX8_read_32 : decode cX8_read 32 = .ok (.if_icmp .ge 7, 3) := dk_162 0 7 (dk_at dksX8_read_1 8 rfl rfl)
theorem dX8_read_35 : decode cX8_read 35 = .ok (.iconst 1, 1) := dk_4 (dk_at dksX8_read_1 11 rfl rfl)
theorem dX8_read_36 : decode cX8_read 36 = .ok (.goto 4, 3) := dk_167 0 4 (dk_at dksX8_read_1 12 rfl rfl)
theorem dX8_read_39 : decode cX8_read 39 = .ok (.iconst 0, 1) := dk_3 (dk_at dksX8_read_1 15 rfl rfl)
theorem dX8_read_40 : decode cX8_read 40 = .ok (.istore_n 1, 1) := dk_60 (dk_at dksX8_read_1 16 rfl rfl)
theorem dX8_read_41 : decode cX8_read 41 = .ok (.iload_n 1, 1) := dk_27 (dk_at dksX8_read_1 17 rfl rfl)
theorem dX8_read_42 : decode cX8_read 42 = .ok (.ifCond .eq (-40), 3) := dk_153 255 216 (dk_at dksX8_read_1 18 rfl rfl)
theorem dX8_read_45 : decode cX8_read 45 = .ok (.aload_n 0, 1) := dk_42 (dk_at dksX8_read_1 21 rfl rfl)
theorem dX8_read_46 : decode cX8_read 46 = .ok (.bipush 59, 2) := dk_16 59 (dk_at dksX8_read_1 22 rfl rfl)
theorem dX8_read_48 : decode cX8_read 48 = .ok (.invokevirtual 64, 3) := dk_182 0 64 (dk_at dksX8_read_2 0 rfl rfl)
theorem dX8_read_51 : decode cX8_read 51 = .ok (.goto (-49), 3) := dk_167 255 207 (dk_at dksX8_read_2 3 rfl rfl)
theorem dX8_read_54 : decode cX8_read 54 = .ok (.aload_n 0, 1) := dk_42 (dk_at dksX8_read_2 6 rfl rfl)
theorem dX8_read_55 : decode cX8_read 55 = .ok (.invokevirtual 43, 3) := dk_182 0 43 (dk_at dksX8_read_2 7 rfl rfl)
theorem dX8_read_58 : decode cX8_read 58 = .ok (.ifCond .eq 13, 3) := dk_153 0 13 (dk_at dksX8_read_2 10 rfl rfl)
theorem dX8_read_61 : decode cX8_read 61 = .ok (.aload_n 0, 1) := dk_42 (dk_at dksX8_read_2 13 rfl rfl)
theorem dX8_read_62 : decode cX8_read 62 = .ok (.getfield 18, 3) := dk_180 0 18 (dk_at dksX8_read_2 14 rfl rfl)
theorem dX8_read_65 : decode cX8_read 65 = .ok (.getfield 131, 3) := dk_180 0 131 (dk_at dksX8_read_2 17 rfl rfl)
theorem dX8_read_68 : decode cX8_read 68 = .ok (.goto 16, 3) := dk_167 0 16 (dk_at dksX8_read_2 20 rfl rfl)
theorem dX8_read_71 : decode cX8_read 71 = .ok (.sipush (-1000), 3) := dk_17 252 24 (dk_at dksX8_read_3 0 rfl rfl)
theorem dX8_read_74 : decode cX8_read 74 = .ok (.aload_n 0, 1) := dk_42 (dk_at dksX8_read_3 3 rfl rfl)
theorem dX8_read_75 : decode cX8_read 75 = .ok (.getfield 33, 3) := dk_180 0 33 (dk_at dksX8_read_3 4 rfl rfl)
theorem dX8_read_78 : decode cX8_read 78 = .ok (.imul, 1) := dk_104 (dk_at dksX8_read_3 7 rfl rfl)
theorem dX8_read_79 : decode cX8_read 79 = .ok (.aload_n 0, 1) := dk_42 (dk_at dksX8_read_3 8 rfl rfl)
theorem dX8_read_80 : decode cX8_read 80 = .ok (.getfield 36, 3) := dk_180 0 36 (dk_at dksX8_read_3 9 rfl rfl)
theorem dX8_read_83 : decode cX8_read 83 = .ok (.isub, 1) := dk_100 (dk_at dksX8_read_3 12 rfl rfl)
theorem dX8_read_84 : decode cX8_read 84 = .ok (.ireturn, 1) := dk_172 (dk_at dksX8_read_3 13 rfl rfl)
abbrev cX8_isGood : ByteArray := prog_13_method_3_code
def yX8_isGood : MethodName := ⟨RX8, "isGood", "()Z"⟩
def dkwX8_isGood_0 : List UInt8 := [42, 180, 0, 33, 154, 0, 7, 4, 167, 0, 4, 3, 172]
abbrev dktX8_isGood_0 : List UInt8 := dkwX8_isGood_0 ++ []
theorem dksX8_isGood_0 : cX8_isGood.data.toList.drop 0 = dktX8_isGood_0 := by decide +kernel
theorem dX8_isGood_0 : decode cX8_isGood 0 = .ok (.aload_n 0, 1) := dk_42 (dk_at dksX8_isGood_0 0 rfl rfl)
theorem dX8_isGood_1 : decode cX8_isGood 1 = .ok (.getfield 33, 3) := dk_180 0 33 (dk_at dksX8_isGood_0 1 rfl rfl)
theorem dX8_isGood_4 : decode cX8_isGood 4 = .ok (.ifCond .ne 7, 3) := dk_154 0 7 (dk_at dksX8_isGood_0 4 rfl rfl)
theorem dX8_isGood_7 : decode cX8_isGood 7 = .ok (.iconst 1, 1) := dk_4 (dk_at dksX8_isGood_0 7 rfl rfl)
theorem dX8_isGood_8 : decode cX8_isGood 8 = .ok (.goto 4, 3) := dk_167 0 4 (dk_at dksX8_isGood_0 8 rfl rfl)
theorem dX8_isGood_11 : decode cX8_isGood 11 = .ok (.iconst 0, 1) := dk_3 (dk_at dksX8_isGood_0 11 rfl rfl)
theorem dX8_isGood_12 : decode cX8_isGood 12 = .ok (.ireturn, 1) := dk_172 (dk_at dksX8_isGood_0 12 rfl rfl)
abbrev cX8_clause : ByteArray := prog_13_method_15_code
def yX8_clause : MethodName := ⟨RX8, "clause", "()V"⟩
def dkwX8_clause_8 : List UInt8 := [4, 96, 181, 0, 131, 177]
abbrev dktX8_clause_8 : List UInt8 := dkwX8_clause_8 ++ []
def dkwX8_clause_7 : List UInt8 := [42, 180, 0, 18, 180, 0, 142, 42, 180, 0, 18, 180, 0, 131, 45, 83, 42, 180, 0, 18, 89, 180, 0, 131]
abbrev dktX8_clause_7 : List UInt8 := dkwX8_clause_7 ++ dktX8_clause_8
def dkwX8_clause_6 : List UInt8 := [180, 0, 18, 180, 0, 131, 27, 79, 42, 180, 0, 18, 180, 0, 138, 42, 180, 0, 18, 180, 0, 131, 44, 83]
abbrev dktX8_clause_6 : List UInt8 := dkwX8_clause_6 ++ dktX8_clause_7
def dkwX8_clause_5 : List UInt8 := [182, 0, 43, 153, 0, 10, 42, 182, 0, 110, 167, 0, 4, 1, 78, 42, 180, 0, 18, 180, 0, 134, 42]
abbrev dktX8_clause_5 : List UInt8 := dkwX8_clause_5 ++ dktX8_clause_6
def dkwX8_clause_4 : List UInt8 := [153, 0, 21, 42, 182, 0, 39, 16, 40, 159, 0, 12, 42, 4, 42, 180, 0, 26, 182, 0, 50, 42]
abbrev dktX8_clause_4 : List UInt8 := dkwX8_clause_4 ++ dktX8_clause_5
def dkwX8_clause_3 : List UInt8 := [181, 0, 54, 27, 16, 109, 160, 0, 7, 1, 167, 0, 7, 42, 182, 0, 60, 77, 42, 182, 0, 43]
abbrev dktX8_clause_3 : List UInt8 := dkwX8_clause_3 ++ dktX8_clause_4
def dkwX8_clause_2 : List UInt8 := [182, 0, 50, 42, 182, 0, 43, 154, 0, 4, 177, 42, 89, 180, 0, 26, 4, 96, 181, 0, 26, 42, 3]
abbrev dktX8_clause_2 : List UInt8 := dkwX8_clause_2 ++ dktX8_clause_3
def dkwX8_clause_1 : List UInt8 := [182, 0, 50, 167, 0, 24, 42, 180, 0, 18, 180, 0, 131, 16, 16, 160, 0, 12, 42, 7, 42, 180, 0, 26]
abbrev dktX8_clause_1 : List UInt8 := dkwX8_clause_1 ++ dktX8_clause_2
def dkwX8_clause_0 : List UInt8 := [42, 182, 0, 39, 60, 27, 153, 0, 12, 18, 129, 27, 182, 0, 77, 156, 0, 15, 42, 4, 42, 180, 0, 26]
abbrev dktX8_clause_0 : List UInt8 := dkwX8_clause_0 ++ dktX8_clause_1
theorem dksX8_clause_0 : cX8_clause.data.toList.drop 0 = dktX8_clause_0 := by decide +kernel
theorem dksX8_clause_1 : cX8_clause.data.toList.drop 24 = dktX8_clause_1 := dk_seg dksX8_clause_0 24 rfl rfl
theorem dksX8_clause_2 : cX8_clause.data.toList.drop 48 = dktX8_clause_2 := dk_seg dksX8_clause_1 24 rfl rfl
theorem dksX8_clause_3 : cX8_clause.data.toList.drop 71 = dktX8_clause_3 := dk_seg dksX8_clause_2 23 rfl rfl
theorem dksX8_clause_4 : cX8_clause.data.toList.drop 93 = dktX8_clause_4 := dk_seg dksX8_clause_3 22 rfl rfl
theorem dksX8_clause_5 : cX8_clause.data.toList.drop 115 = dktX8_clause_5 := dk_seg dksX8_clause_4 22 rfl rfl
theorem dksX8_clause_6 : cX8_clause.data.toList.drop 138 = dktX8_clause_6 := dk_seg dksX8_clause_5 23 rfl rfl
theorem dksX8_clause_7 : cX8_clause.data.toList.drop 162 = dktX8_clause_7 := dk_seg dksX8_clause_6 24 rfl rfl
theorem dksX8_clause_8 : cX8_clause.data.toList.drop 186 = dktX8_clause_8 := dk_seg dksX8_clause_7 24 rfl rfl
theorem dX8_clause_0 : decode cX8_clause 0 = .ok (.aload_n 0, 1) := dk_42 (dk_at dksX8_clause_0 0 rfl rfl)
theorem dX8_clause_1 : decode cX8_clause 1 = .ok (.invokevirtual 39, 3) := dk_182 0 39 (dk_at dksX8_clause_0 1 rfl rfl)
theorem dX8_clause_4 : decode cX8_clause 4 = .ok (.istore_n 1, 1) := dk_60 (dk_at dksX8_clause_0 4 rfl rfl)
theorem dX8_clause_5 : decode cX8_clause 5 = .ok (.iload_n 1, 1) := dk_27 (dk_at dksX8_clause_0 5 rfl rfl)
theorem dX8_clause_6 : decode cX8_clause 6 = .ok (.ifCond .eq 12, 3) := dk_153 0 12 (dk_at dksX8_clause_0 6 rfl rfl)
theorem dX8_clause_9 : decode cX8_clause 9 = .ok (.ldc 129, 2) := dk_18 129 (dk_at dksX8_clause_0 9 rfl rfl)
theorem dX8_clause_11 : decode cX8_clause 11 = .ok (.iload_n 1, 1) := dk_27 (dk_at dksX8_clause_0 11 rfl rfl)
theorem dX8_clause_12 : decode cX8_clause 12 = .ok (.invokevirtual 77, 3) := dk_182 0 77 (dk_at dksX8_clause_0 12 rfl rfl)
theorem dX8_clause_15 : decode cX8_clause 15 = .ok (.ifCond .ge 15, 3) := dk_156 0 15 (dk_at dksX8_clause_0 15 rfl rfl)
theorem dX8_clause_18 : decode cX8_clause 18 = .ok (.aload_n 0, 1) := dk_42 (dk_at dksX8_clause_0 18 rfl rfl)
theorem dX8_clause_19 : decode cX8_clause 19 = .ok (.iconst 1, 1) := dk_4 (dk_at dksX8_clause_0 19 rfl rfl)
theorem dX8_clause_20 : decode cX8_clause 20 = .ok (.aload_n 0, 1) := dk_42 (dk_at dksX8_clause_0 20 rfl rfl)
theorem dX8_clause_21 : decode cX8_clause 21 = .ok (.getfield 26, 3) := dk_180 0 26 (dk_at dksX8_clause_0 21 rfl rfl)
theorem dX8_clause_24 : decode cX8_clause 24 = .ok (.invokevirtual 50, 3) := dk_182 0 50 (dk_at dksX8_clause_1 0 rfl rfl)
theorem dX8_clause_27 : decode cX8_clause 27 = .ok (.goto 24, 3) := dk_167 0 24 (dk_at dksX8_clause_1 3 rfl rfl)
theorem dX8_clause_30 : decode cX8_clause 30 = .ok (.aload_n 0, 1) := dk_42 (dk_at dksX8_clause_1 6 rfl rfl)
theorem dX8_clause_31 : decode cX8_clause 31 = .ok (.getfield 18, 3) := dk_180 0 18 (dk_at dksX8_clause_1 7 rfl rfl)
theorem dX8_clause_34 : decode cX8_clause 34 = .ok (.getfield 131, 3) := dk_180 0 131 (dk_at dksX8_clause_1 10 rfl rfl)
theorem dX8_clause_37 : decode cX8_clause 37 = .ok (.bipush 16, 2) := dk_16 16 (dk_at dksX8_clause_1 13 rfl rfl)
theorem dX8_clause_39 : decode cX8_clause 39 = .ok (.if_icmp .ne 12, 3) := dk_160 0 12 (dk_at dksX8_clause_1 15 rfl rfl)
theorem dX8_clause_42 : decode cX8_clause 42 = .ok (.aload_n 0, 1) := dk_42 (dk_at dksX8_clause_1 18 rfl rfl)
theorem dX8_clause_43 : decode cX8_clause 43 = .ok (.iconst 4, 1) := dk_7 (dk_at dksX8_clause_1 19 rfl rfl)
theorem dX8_clause_44 : decode cX8_clause 44 = .ok (.aload_n 0, 1) := dk_42 (dk_at dksX8_clause_1 20 rfl rfl)
theorem dX8_clause_45 : decode cX8_clause 45 = .ok (.getfield 26, 3) := dk_180 0 26 (dk_at dksX8_clause_1 21 rfl rfl)
theorem dX8_clause_48 : decode cX8_clause 48 = .ok (.invokevirtual 50, 3) := dk_182 0 50 (dk_at dksX8_clause_2 0 rfl rfl)
theorem dX8_clause_51 : decode cX8_clause 51 = .ok (.aload_n 0, 1) := dk_42 (dk_at dksX8_clause_2 3 rfl rfl)
theorem dX8_clause_52 : decode cX8_clause 52 = .ok (.invokevirtual 43, 3) := dk_182 0 43 (dk_at dksX8_clause_2 4 rfl rfl)
theorem dX8_clause_55 : decode cX8_clause 55 = .ok (.ifCond .ne 4, 3) := dk_154 0 4 (dk_at dksX8_clause_2 7 rfl rfl)
theorem dX8_clause_58 : decode cX8_clause 58 = .ok (.return_, 1) := dk_177 (dk_at dksX8_clause_2 10 rfl rfl)
theorem dX8_clause_59 : decode cX8_clause 59 = .ok (.aload_n 0, 1) := dk_42 (dk_at dksX8_clause_2 11 rfl rfl)
theorem dX8_clause_60 : decode cX8_clause 60 = .ok (.dup, 1) := dk_89 (dk_at dksX8_clause_2 12 rfl rfl)
theorem dX8_clause_61 : decode cX8_clause 61 = .ok (.getfield 26, 3) := dk_180 0 26 (dk_at dksX8_clause_2 13 rfl rfl)
theorem dX8_clause_64 : decode cX8_clause 64 = .ok (.iconst 1, 1) := dk_4 (dk_at dksX8_clause_2 16 rfl rfl)
theorem dX8_clause_65 : decode cX8_clause 65 = .ok (.iadd, 1) := dk_96 (dk_at dksX8_clause_2 17 rfl rfl)
theorem dX8_clause_66 : decode cX8_clause 66 = .ok (.putfield 26, 3) := dk_181 0 26 (dk_at dksX8_clause_2 18 rfl rfl)
theorem dX8_clause_69 : decode cX8_clause 69 = .ok (.aload_n 0, 1) := dk_42 (dk_at dksX8_clause_2 21 rfl rfl)
theorem dX8_clause_70 : decode cX8_clause 70 = .ok (.iconst 0, 1) := dk_3 (dk_at dksX8_clause_2 22 rfl rfl)
theorem dX8_clause_71 : decode cX8_clause 71 = .ok (.putfield 54, 3) := dk_181 0 54 (dk_at dksX8_clause_3 0 rfl rfl)
theorem dX8_clause_74 : decode cX8_clause 74 = .ok (.iload_n 1, 1) := dk_27 (dk_at dksX8_clause_3 3 rfl rfl)
theorem dX8_clause_75 : decode cX8_clause 75 = .ok (.bipush 109, 2) := dk_16 109 (dk_at dksX8_clause_3 4 rfl rfl)
theorem dX8_clause_77 : decode cX8_clause 77 = .ok (.if_icmp .ne 7, 3) := dk_160 0 7 (dk_at dksX8_clause_3 6 rfl rfl)
theorem dX8_clause_80 : decode cX8_clause 80 = .ok (.aconst_null, 1) := dk_1 (dk_at dksX8_clause_3 9 rfl rfl)
theorem dX8_clause_81 : decode cX8_clause 81 = .ok (.goto 7, 3) := dk_167 0 7 (dk_at dksX8_clause_3 10 rfl rfl)
theorem dX8_clause_84 : decode cX8_clause 84 = .ok (.aload_n 0, 1) := dk_42 (dk_at dksX8_clause_3 13 rfl rfl)
theorem dX8_clause_85 : decode cX8_clause 85 = .ok (.invokevirtual 60, 3) := dk_182 0 60 (dk_at dksX8_clause_3 14 rfl rfl)
theorem dX8_clause_88 : decode cX8_clause 88 = .ok (.astore_n 2, 1) := dk_77 (dk_at dksX8_clause_3 17 rfl rfl)
theorem dX8_clause_89 : decode cX8_clause 89 = .ok (.aload_n 0, 1) := dk_42 (dk_at dksX8_clause_3 18 rfl rfl)
theorem dX8_clause_90 : decode cX8_clause 90 = .ok (.invokevirtual 43, 3) := dk_182 0 43 (dk_at dksX8_clause_3 19 rfl rfl)
theorem dX8_clause_93 : decode cX8_clause 93 = .ok (.ifCond .eq 21, 3) := dk_153 0 21 (dk_at dksX8_clause_4 0 rfl rfl)
theorem dX8_clause_96 : decode cX8_clause 96 = .ok (.aload_n 0, 1) := dk_42 (dk_at dksX8_clause_4 3 rfl rfl)
theorem dX8_clause_97 : decode cX8_clause 97 = .ok (.invokevirtual 39, 3) := dk_182 0 39 (dk_at dksX8_clause_4 4 rfl rfl)
theorem dX8_clause_100 : decode cX8_clause 100 = .ok (.bipush 40, 2) := dk_16 40 (dk_at dksX8_clause_4 7 rfl rfl)
theorem dX8_clause_102 : decode cX8_clause 102 = .ok (.if_icmp .eq 12, 3) := dk_159 0 12 (dk_at dksX8_clause_4 9 rfl rfl)
theorem dX8_clause_105 : decode cX8_clause 105 = .ok (.aload_n 0, 1) := dk_42 (dk_at dksX8_clause_4 12 rfl rfl)
theorem dX8_clause_106 : decode cX8_clause 106 = .ok (.iconst 1, 1) := dk_4 (dk_at dksX8_clause_4 13 rfl rfl)
theorem dX8_clause_107 : decode cX8_clause 107 = .ok (.aload_n 0, 1) := dk_42 (dk_at dksX8_clause_4 14 rfl rfl)
theorem dX8_clause_108 : decode cX8_clause 108 = .ok (.getfield 26, 3) := dk_180 0 26 (dk_at dksX8_clause_4 15 rfl rfl)
theorem dX8_clause_111 : decode cX8_clause 111 = .ok (.invokevirtual 50, 3) := dk_182 0 50 (dk_at dksX8_clause_4 18 rfl rfl)
theorem dX8_clause_114 : decode cX8_clause 114 = .ok (.aload_n 0, 1) := dk_42 (dk_at dksX8_clause_4 21 rfl rfl)
theorem dX8_clause_115 : decode cX8_clause 115 = .ok (.invokevirtual 43, 3) := dk_182 0 43 (dk_at dksX8_clause_5 0 rfl rfl)
theorem dX8_clause_118 : decode cX8_clause 118 = .ok (.ifCond .eq 10, 3) := dk_153 0 10 (dk_at dksX8_clause_5 3 rfl rfl)
theorem dX8_clause_121 : decode cX8_clause 121 = .ok (.aload_n 0, 1) := dk_42 (dk_at dksX8_clause_5 6 rfl rfl)
theorem dX8_clause_122 : decode cX8_clause 122 = .ok (.invokevirtual 110, 3) := dk_182 0 110 (dk_at dksX8_clause_5 7 rfl rfl)
theorem dX8_clause_125 : decode cX8_clause 125 = .ok (.goto 4, 3) := dk_167 0 4 (dk_at dksX8_clause_5 10 rfl rfl)
theorem dX8_clause_128 : decode cX8_clause 128 = .ok (.aconst_null, 1) := dk_1 (dk_at dksX8_clause_5 13 rfl rfl)
theorem dX8_clause_129 : decode cX8_clause 129 = .ok (.astore_n 3, 1) := dk_78 (dk_at dksX8_clause_5 14 rfl rfl)
theorem dX8_clause_130 : decode cX8_clause 130 = .ok (.aload_n 0, 1) := dk_42 (dk_at dksX8_clause_5 15 rfl rfl)
theorem dX8_clause_131 : decode cX8_clause 131 = .ok (.getfield 18, 3) := dk_180 0 18 (dk_at dksX8_clause_5 16 rfl rfl)
theorem dX8_clause_134 : decode cX8_clause 134 = .ok (.getfield 134, 3) := dk_180 0 134 (dk_at dksX8_clause_5 19 rfl rfl)
theorem dX8_clause_137 : decode cX8_clause 137 = .ok (.aload_n 0, 1) := dk_42 (dk_at dksX8_clause_5 22 rfl rfl)
theorem dX8_clause_138 : decode cX8_clause 138 = .ok (.getfield 18, 3) := dk_180 0 18 (dk_at dksX8_clause_6 0 rfl rfl)
theorem dX8_clause_141 : decode cX8_clause 141 = .ok (.getfield 131, 3) := dk_180 0 131 (dk_at dksX8_clause_6 3 rfl rfl)
theorem dX8_clause_144 : decode cX8_clause 144 = .ok (.iload_n 1, 1) := dk_27 (dk_at dksX8_clause_6 6 rfl rfl)
theorem dX8_clause_145 : decode cX8_clause 145 = .ok (.iastore, 1) := dk_79 (dk_at dksX8_clause_6 7 rfl rfl)
theorem dX8_clause_146 : decode cX8_clause 146 = .ok (.aload_n 0, 1) := dk_42 (dk_at dksX8_clause_6 8 rfl rfl)
theorem dX8_clause_147 : decode cX8_clause 147 = .ok (.getfield 18, 3) := dk_180 0 18 (dk_at dksX8_clause_6 9 rfl rfl)
theorem dX8_clause_150 : decode cX8_clause 150 = .ok (.getfield 138, 3) := dk_180 0 138 (dk_at dksX8_clause_6 12 rfl rfl)
theorem dX8_clause_153 : decode cX8_clause 153 = .ok (.aload_n 0, 1) := dk_42 (dk_at dksX8_clause_6 15 rfl rfl)
theorem dX8_clause_154 : decode cX8_clause 154 = .ok (.getfield 18, 3) := dk_180 0 18 (dk_at dksX8_clause_6 16 rfl rfl)
theorem dX8_clause_157 : decode cX8_clause 157 = .ok (.getfield 131, 3) := dk_180 0 131 (dk_at dksX8_clause_6 19 rfl rfl)
theorem dX8_clause_160 : decode cX8_clause 160 = .ok (.aload_n 2, 1) := dk_44 (dk_at dksX8_clause_6 22 rfl rfl)
theorem dX8_clause_161 : decode cX8_clause 161 = .ok (.aastore, 1) := dk_83 (dk_at dksX8_clause_6 23 rfl rfl)
theorem dX8_clause_162 : decode cX8_clause 162 = .ok (.aload_n 0, 1) := dk_42 (dk_at dksX8_clause_7 0 rfl rfl)
theorem dX8_clause_163 : decode cX8_clause 163 = .ok (.getfield 18, 3) := dk_180 0 18 (dk_at dksX8_clause_7 1 rfl rfl)
theorem dX8_clause_166 : decode cX8_clause 166 = .ok (.getfield 142, 3) := dk_180 0 142 (dk_at dksX8_clause_7 4 rfl rfl)
theorem dX8_clause_169 : decode cX8_clause 169 = .ok (.aload_n 0, 1) := dk_42 (dk_at dksX8_clause_7 7 rfl rfl)
theorem dX8_clause_170 : decode cX8_clause 170 = .ok (.getfield 18, 3) := dk_180 0 18 (dk_at dksX8_clause_7 8 rfl rfl)
theorem dX8_clause_173 : decode cX8_clause 173 = .ok (.getfield 131, 3) := dk_180 0 131 (dk_at dksX8_clause_7 11 rfl rfl)
theorem dX8_clause_176 : decode cX8_clause 176 = .ok (.aload_n 3, 1) := dk_45 (dk_at dksX8_clause_7 14 rfl rfl)
theorem dX8_clause_177 : decode cX8_clause 177 = .ok (.aastore, 1) := dk_83 (dk_at dksX8_clause_7 15 rfl rfl)
theorem dX8_clause_178 : decode cX8_clause 178 = .ok (.aload_n 0, 1) := dk_42 (dk_at dksX8_clause_7 16 rfl rfl)
theorem dX8_clause_179 : decode cX8_clause 179 = .ok (.getfield 18, 3) := dk_180 0 18 (dk_at dksX8_clause_7 17 rfl rfl)
theorem dX8_clause_182 : decode cX8_clause 182 = .ok (.dup, 1) := dk_89 (dk_at dksX8_clause_7 20 rfl rfl)
theorem dX8_clause_183 : decode cX8_clause 183 = .ok (.getfield 131, 3) := dk_180 0 131 (dk_at dksX8_clause_7 21 rfl rfl)
theorem dX8_clause_186 : decode cX8_clause 186 = .ok (.iconst 1, 1) := dk_4 (dk_at dksX8_clause_8 0 rfl rfl)
theorem dX8_clause_187 : decode cX8_clause 187 = .ok (.iadd, 1) := dk_96 (dk_at dksX8_clause_8 1 rfl rfl)
theorem dX8_clause_188 : decode cX8_clause 188 = .ok (.putfield 131, 3) := dk_181 0 131 (dk_at dksX8_clause_8 2 rfl rfl)
theorem dX8_clause_191 : decode cX8_clause 191 = .ok (.return_, 1) := dk_177 (dk_at dksX8_clause_8 5 rfl rfl)
abbrev cX8_here : ByteArray := prog_13_method_2_code
def yX8_here : MethodName := ⟨RX8, "here", "()I"⟩
def dkwX8_here_1 : List UInt8 := [17, 0, 255, 126, 167, 0, 4, 3, 172]
abbrev dktX8_here_1 : List UInt8 := dkwX8_here_1 ++ []
def dkwX8_here_0 : List UInt8 := [42, 180, 0, 26, 42, 180, 0, 22, 162, 0, 22, 42, 180, 0, 3, 180, 0, 29, 42, 180, 0, 26, 51]
abbrev dktX8_here_0 : List UInt8 := dkwX8_here_0 ++ dktX8_here_1
theorem dksX8_here_0 : cX8_here.data.toList.drop 0 = dktX8_here_0 := by decide +kernel
theorem dksX8_here_1 : cX8_here.data.toList.drop 23 = dktX8_here_1 := dk_seg dksX8_here_0 23 rfl rfl
theorem dX8_here_0 : decode cX8_here 0 = .ok (.aload_n 0, 1) := dk_42 (dk_at dksX8_here_0 0 rfl rfl)
theorem dX8_here_1 : decode cX8_here 1 = .ok (.getfield 26, 3) := dk_180 0 26 (dk_at dksX8_here_0 1 rfl rfl)
theorem dX8_here_4 : decode cX8_here 4 = .ok (.aload_n 0, 1) := dk_42 (dk_at dksX8_here_0 4 rfl rfl)
theorem dX8_here_5 : decode cX8_here 5 = .ok (.getfield 22, 3) := dk_180 0 22 (dk_at dksX8_here_0 5 rfl rfl)
theorem dX8_here_8 : decode cX8_here 8 = .ok (.if_icmp .ge 22, 3) := dk_162 0 22 (dk_at dksX8_here_0 8 rfl rfl)
theorem dX8_here_11 : decode cX8_here 11 = .ok (.aload_n 0, 1) := dk_42 (dk_at dksX8_here_0 11 rfl rfl)
theorem dX8_here_12 : decode cX8_here 12 = .ok (.getfield 3, 3) := dk_180 0 3 (dk_at dksX8_here_0 12 rfl rfl)
theorem dX8_here_15 : decode cX8_here 15 = .ok (.getfield 29, 3) := dk_180 0 29 (dk_at dksX8_here_0 15 rfl rfl)
theorem dX8_here_18 : decode cX8_here 18 = .ok (.aload_n 0, 1) := dk_42 (dk_at dksX8_here_0 18 rfl rfl)
theorem dX8_here_19 : decode cX8_here 19 = .ok (.getfield 26, 3) := dk_180 0 26 (dk_at dksX8_here_0 19 rfl rfl)
theorem dX8_here_22 : decode cX8_here 22 = .ok (.baload, 1) := dk_51 (dk_at dksX8_here_0 22 rfl rfl)
theorem dX8_here_23 : decode cX8_here 23 = .ok (.sipush 255, 3) := dk_17 0 255 (dk_at dksX8_here_1 0 rfl rfl)
theorem dX8_here_26 : decode cX8_here 26 = .ok (.iand, 1) := dk_126 (dk_at dksX8_here_1 3 rfl rfl)
theorem dX8_here_27 : decode cX8_here 27 = .ok (.goto 4, 3) := dk_167 0 4 (dk_at dksX8_here_1 4 rfl rfl)
theorem dX8_here_30 : decode cX8_here 30 = .ok (.iconst 0, 1) := dk_3 (dk_at dksX8_here_1 7 rfl rfl)
theorem dX8_here_31 : decode cX8_here 31 = .ok (.ireturn, 1) := dk_172 (dk_at dksX8_here_1 8 rfl rfl)
abbrev cX8_bad : ByteArray := prog_13_method_4_code
def yX8_bad : MethodName := ⟨RX8, "bad", "(II)V"⟩
def dkwX8_bad_0 : List UInt8 := [42, 180, 0, 33, 158, 0, 4, 177, 42, 27, 181, 0, 33, 42, 28, 181, 0, 36, 177]
abbrev dktX8_bad_0 : List UInt8 := dkwX8_bad_0 ++ []
theorem dksX8_bad_0 : cX8_bad.data.toList.drop 0 = dktX8_bad_0 := by decide +kernel
theorem dX8_bad_0 : decode cX8_bad 0 = .ok (.aload_n 0, 1) := dk_42 (dk_at dksX8_bad_0 0 rfl rfl)
theorem dX8_bad_1 : decode cX8_bad 1 = .ok (.getfield 33, 3) := dk_180 0 33 (dk_at dksX8_bad_0 1 rfl rfl)
theorem dX8_bad_4 : decode cX8_bad 4 = .ok (.ifCond .le 4, 3) := dk_158 0 4 (dk_at dksX8_bad_0 4 rfl rfl)
theorem dX8_bad_7 : decode cX8_bad 7 = .ok (.return_, 1) := dk_177 (dk_at dksX8_bad_0 7 rfl rfl)
theorem dX8_bad_8 : decode cX8_bad 8 = .ok (.aload_n 0, 1) := dk_42 (dk_at dksX8_bad_0 8 rfl rfl)
theorem dX8_bad_9 : decode cX8_bad 9 = .ok (.iload_n 1, 1) := dk_27 (dk_at dksX8_bad_0 9 rfl rfl)
theorem dX8_bad_10 : decode cX8_bad 10 = .ok (.putfield 33, 3) := dk_181 0 33 (dk_at dksX8_bad_0 10 rfl rfl)
theorem dX8_bad_13 : decode cX8_bad 13 = .ok (.aload_n 0, 1) := dk_42 (dk_at dksX8_bad_0 13 rfl rfl)
theorem dX8_bad_14 : decode cX8_bad 14 = .ok (.iload_n 2, 1) := dk_28 (dk_at dksX8_bad_0 14 rfl rfl)
theorem dX8_bad_15 : decode cX8_bad 15 = .ok (.putfield 36, 3) := dk_181 0 36 (dk_at dksX8_bad_0 15 rfl rfl)
theorem dX8_bad_18 : decode cX8_bad 18 = .ok (.return_, 1) := dk_177 (dk_at dksX8_bad_0 18 rfl rfl)
abbrev cX8_sum : ByteArray := prog_13_method_11_code
def yX8_sum : MethodName := ⟨RX8, "sum", "()LMissedTrains$Sum;"⟩
def dkwX8_sum_3 : List UInt8 := [44, 180, 0, 94, 77, 167, 255, 195, 43, 176]
abbrev dktX8_sum_3 : List UInt8 := dkwX8_sum_3 ++ []
def dkwX8_sum_2 : List UInt8 := [180, 0, 26, 4, 96, 181, 0, 26, 44, 187, 0, 86, 89, 29, 42, 182, 0, 98, 183, 0, 91, 181, 0, 94]
abbrev dktX8_sum_2 : List UInt8 := dkwX8_sum_2 ++ dktX8_sum_3
def dkwX8_sum_1 : List UInt8 := [182, 0, 39, 16, 43, 159, 0, 12, 42, 182, 0, 39, 16, 45, 160, 0, 42, 42, 182, 0, 39, 62, 42, 89]
abbrev dktX8_sum_1 : List UInt8 := dkwX8_sum_1 ++ dktX8_sum_2
def dkwX8_sum_0 : List UInt8 := [187, 0, 86, 89, 3, 42, 182, 0, 98, 183, 0, 91, 76, 43, 77, 42, 182, 0, 43, 153, 0, 60, 42]
abbrev dktX8_sum_0 : List UInt8 := dkwX8_sum_0 ++ dktX8_sum_1
theorem dksX8_sum_0 : cX8_sum.data.toList.drop 0 = dktX8_sum_0 := by decide +kernel
theorem dksX8_sum_1 : cX8_sum.data.toList.drop 23 = dktX8_sum_1 := dk_seg dksX8_sum_0 23 rfl rfl
theorem dksX8_sum_2 : cX8_sum.data.toList.drop 47 = dktX8_sum_2 := dk_seg dksX8_sum_1 24 rfl rfl
theorem dksX8_sum_3 : cX8_sum.data.toList.drop 71 = dktX8_sum_3 := dk_seg dksX8_sum_2 24 rfl rfl
theorem dX8_sum_0 : decode cX8_sum 0 = .ok (.new 86, 3) := dk_187 0 86 (dk_at dksX8_sum_0 0 rfl rfl)
theorem dX8_sum_3 : decode cX8_sum 3 = .ok (.dup, 1) := dk_89 (dk_at dksX8_sum_0 3 rfl rfl)
theorem dX8_sum_4 : decode cX8_sum 4 = .ok (.iconst 0, 1) := dk_3 (dk_at dksX8_sum_0 4 rfl rfl)
theorem dX8_sum_5 : decode cX8_sum 5 = .ok (.aload_n 0, 1) := dk_42 (dk_at dksX8_sum_0 5 rfl rfl)
theorem dX8_sum_6 : decode cX8_sum 6 = .ok (.invokevirtual 98, 3) := dk_182 0 98 (dk_at dksX8_sum_0 6 rfl rfl)
theorem dX8_sum_9 : decode cX8_sum 9 = .ok (.invokespecial 91, 3) := dk_183 0 91 (dk_at dksX8_sum_0 9 rfl rfl)
theorem dX8_sum_12 : decode cX8_sum 12 = .ok (.astore_n 1, 1) := dk_76 (dk_at dksX8_sum_0 12 rfl rfl)
theorem dX8_sum_13 : decode cX8_sum 13 = .ok (.aload_n 1, 1) := dk_43 (dk_at dksX8_sum_0 13 rfl rfl)
theorem dX8_sum_14 : decode cX8_sum 14 = .ok (.astore_n 2, 1) := dk_77 (dk_at dksX8_sum_0 14 rfl rfl)
theorem dX8_sum_15 : decode cX8_sum 15 = .ok (.aload_n 0, 1) := dk_42 (dk_at dksX8_sum_0 15 rfl rfl)
theorem dX8_sum_16 : decode cX8_sum 16 = .ok (.invokevirtual 43, 3) := dk_182 0 43 (dk_at dksX8_sum_0 16 rfl rfl)
theorem dX8_sum_19 : decode cX8_sum 19 = .ok (.ifCond .eq 60, 3) := dk_153 0 60 (dk_at dksX8_sum_0 19 rfl rfl)
theorem dX8_sum_22 : decode cX8_sum 22 = .ok (.aload_n 0, 1) := dk_42 (dk_at dksX8_sum_0 22 rfl rfl)
theorem dX8_sum_23 : decode cX8_sum 23 = .ok (.invokevirtual 39, 3) := dk_182 0 39 (dk_at dksX8_sum_1 0 rfl rfl)
theorem dX8_sum_26 : decode cX8_sum 26 = .ok (.bipush 43, 2) := dk_16 43 (dk_at dksX8_sum_1 3 rfl rfl)
theorem dX8_sum_28 : decode cX8_sum 28 = .ok (.if_icmp .eq 12, 3) := dk_159 0 12 (dk_at dksX8_sum_1 5 rfl rfl)
theorem dX8_sum_31 : decode cX8_sum 31 = .ok (.aload_n 0, 1) := dk_42 (dk_at dksX8_sum_1 8 rfl rfl)
theorem dX8_sum_32 : decode cX8_sum 32 = .ok (.invokevirtual 39, 3) := dk_182 0 39 (dk_at dksX8_sum_1 9 rfl rfl)
theorem dX8_sum_35 : decode cX8_sum 35 = .ok (.bipush 45, 2) := dk_16 45 (dk_at dksX8_sum_1 12 rfl rfl)
theorem dX8_sum_37 : decode cX8_sum 37 = .ok (.if_icmp .ne 42, 3) := dk_160 0 42 (dk_at dksX8_sum_1 14 rfl rfl)
theorem dX8_sum_40 : decode cX8_sum 40 = .ok (.aload_n 0, 1) := dk_42 (dk_at dksX8_sum_1 17 rfl rfl)
theorem dX8_sum_41 : decode cX8_sum 41 = .ok (.invokevirtual 39, 3) := dk_182 0 39 (dk_at dksX8_sum_1 18 rfl rfl)
theorem dX8_sum_44 : decode cX8_sum 44 = .ok (.istore_n 3, 1) := dk_62 (dk_at dksX8_sum_1 21 rfl rfl)
theorem dX8_sum_45 : decode cX8_sum 45 = .ok (.aload_n 0, 1) := dk_42 (dk_at dksX8_sum_1 22 rfl rfl)
theorem dX8_sum_46 : decode cX8_sum 46 = .ok (.dup, 1) := dk_89 (dk_at dksX8_sum_1 23 rfl rfl)
theorem dX8_sum_47 : decode cX8_sum 47 = .ok (.getfield 26, 3) := dk_180 0 26 (dk_at dksX8_sum_2 0 rfl rfl)
theorem dX8_sum_50 : decode cX8_sum 50 = .ok (.iconst 1, 1) := dk_4 (dk_at dksX8_sum_2 3 rfl rfl)
theorem dX8_sum_51 : decode cX8_sum 51 = .ok (.iadd, 1) := dk_96 (dk_at dksX8_sum_2 4 rfl rfl)
theorem dX8_sum_52 : decode cX8_sum 52 = .ok (.putfield 26, 3) := dk_181 0 26 (dk_at dksX8_sum_2 5 rfl rfl)
theorem dX8_sum_55 : decode cX8_sum 55 = .ok (.aload_n 2, 1) := dk_44 (dk_at dksX8_sum_2 8 rfl rfl)
theorem dX8_sum_56 : decode cX8_sum 56 = .ok (.new 86, 3) := dk_187 0 86 (dk_at dksX8_sum_2 9 rfl rfl)
theorem dX8_sum_59 : decode cX8_sum 59 = .ok (.dup, 1) := dk_89 (dk_at dksX8_sum_2 12 rfl rfl)
theorem dX8_sum_60 : decode cX8_sum 60 = .ok (.iload_n 3, 1) := dk_29 (dk_at dksX8_sum_2 13 rfl rfl)
theorem dX8_sum_61 : decode cX8_sum 61 = .ok (.aload_n 0, 1) := dk_42 (dk_at dksX8_sum_2 14 rfl rfl)
theorem dX8_sum_62 : decode cX8_sum 62 = .ok (.invokevirtual 98, 3) := dk_182 0 98 (dk_at dksX8_sum_2 15 rfl rfl)
theorem dX8_sum_65 : decode cX8_sum 65 = .ok (.invokespecial 91, 3) := dk_183 0 91 (dk_at dksX8_sum_2 18 rfl rfl)
theorem dX8_sum_68 : decode cX8_sum 68 = .ok (.putfield 94, 3) := dk_181 0 94 (dk_at dksX8_sum_2 21 rfl rfl)
theorem dX8_sum_71 : decode cX8_sum 71 = .ok (.aload_n 2, 1) := dk_44 (dk_at dksX8_sum_3 0 rfl rfl)
theorem dX8_sum_72 : decode cX8_sum 72 = .ok (.getfield 94, 3) := dk_180 0 94 (dk_at dksX8_sum_3 1 rfl rfl)
theorem dX8_sum_75 : decode cX8_sum 75 = .ok (.astore_n 2, 1) := dk_77 (dk_at dksX8_sum_3 4 rfl rfl)
theorem dX8_sum_76 : decode cX8_sum 76 = .ok (.goto (-61), 3) := dk_167 255 195 (dk_at dksX8_sum_3 5 rfl rfl)
theorem dX8_sum_79 : decode cX8_sum 79 = .ok (.aload_n 1, 1) := dk_43 (dk_at dksX8_sum_3 8 rfl rfl)
theorem dX8_sum_80 : decode cX8_sum 80 = .ok (.areturn, 1) := dk_176 (dk_at dksX8_sum_3 9 rfl rfl)
abbrev cX8_product : ByteArray := prog_13_method_10_code
def yX8_product : MethodName := ⟨RX8, "product", "()LMissedTrains$Sum;"⟩
def dkwX8_product_3 : List UInt8 := [42, 182, 0, 88, 183, 0, 91, 181, 0, 94, 44, 180, 0, 94, 77, 167, 255, 186, 43, 176]
abbrev dktX8_product_3 : List UInt8 := dkwX8_product_3 ++ []
def dkwX8_product_2 : List UInt8 := [160, 0, 42, 42, 182, 0, 39, 62, 42, 89, 180, 0, 26, 4, 96, 181, 0, 26, 44, 187, 0, 86, 89, 29]
abbrev dktX8_product_2 : List UInt8 := dkwX8_product_2 ++ dktX8_product_3
def dkwX8_product_1 : List UInt8 := [182, 0, 39, 16, 42, 159, 0, 21, 42, 182, 0, 39, 16, 47, 159, 0, 12, 42, 182, 0, 39, 16, 37]
abbrev dktX8_product_1 : List UInt8 := dkwX8_product_1 ++ dktX8_product_2
def dkwX8_product_0 : List UInt8 := [187, 0, 86, 89, 3, 42, 182, 0, 88, 183, 0, 91, 76, 43, 77, 42, 182, 0, 43, 153, 0, 69, 42]
abbrev dktX8_product_0 : List UInt8 := dkwX8_product_0 ++ dktX8_product_1
theorem dksX8_product_0 : cX8_product.data.toList.drop 0 = dktX8_product_0 := by decide +kernel
theorem dksX8_product_1 : cX8_product.data.toList.drop 23 = dktX8_product_1 := dk_seg dksX8_product_0 23 rfl rfl
theorem dksX8_product_2 : cX8_product.data.toList.drop 46 = dktX8_product_2 := dk_seg dksX8_product_1 23 rfl rfl
theorem dksX8_product_3 : cX8_product.data.toList.drop 70 = dktX8_product_3 := dk_seg dksX8_product_2 24 rfl rfl
theorem dX8_product_0 : decode cX8_product 0 = .ok (.new 86, 3) := dk_187 0 86 (dk_at dksX8_product_0 0 rfl rfl)
theorem dX8_product_3 : decode cX8_product 3 = .ok (.dup, 1) := dk_89 (dk_at dksX8_product_0 3 rfl rfl)
theorem dX8_product_4 : decode cX8_product 4 = .ok (.iconst 0, 1) := dk_3 (dk_at dksX8_product_0 4 rfl rfl)
theorem dX8_product_5 : decode cX8_product 5 = .ok (.aload_n 0, 1) := dk_42 (dk_at dksX8_product_0 5 rfl rfl)
theorem dX8_product_6 : decode cX8_product 6 = .ok (.invokevirtual 88, 3) := dk_182 0 88 (dk_at dksX8_product_0 6 rfl rfl)
theorem dX8_product_9 : decode cX8_product 9 = .ok (.invokespecial 91, 3) := dk_183 0 91 (dk_at dksX8_product_0 9 rfl rfl)
theorem dX8_product_12 : decode cX8_product 12 = .ok (.astore_n 1, 1) := dk_76 (dk_at dksX8_product_0 12 rfl rfl)
theorem dX8_product_13 : decode cX8_product 13 = .ok (.aload_n 1, 1) := dk_43 (dk_at dksX8_product_0 13 rfl rfl)
theorem dX8_product_14 : decode cX8_product 14 = .ok (.astore_n 2, 1) := dk_77 (dk_at dksX8_product_0 14 rfl rfl)
theorem dX8_product_15 : decode cX8_product 15 = .ok (.aload_n 0, 1) := dk_42 (dk_at dksX8_product_0 15 rfl rfl)
theorem dX8_product_16 : decode cX8_product 16 = .ok (.invokevirtual 43, 3) := dk_182 0 43 (dk_at dksX8_product_0 16 rfl rfl)
theorem dX8_product_19 : decode cX8_product 19 = .ok (.ifCond .eq 69, 3) := dk_153 0 69 (dk_at dksX8_product_0 19 rfl rfl)
theorem dX8_product_22 : decode cX8_product 22 = .ok (.aload_n 0, 1) := dk_42 (dk_at dksX8_product_0 22 rfl rfl)
theorem dX8_product_23 : decode cX8_product 23 = .ok (.invokevirtual 39, 3) := dk_182 0 39 (dk_at dksX8_product_1 0 rfl rfl)
theorem dX8_product_26 : decode cX8_product 26 = .ok (.bipush 42, 2) := dk_16 42 (dk_at dksX8_product_1 3 rfl rfl)
theorem dX8_product_28 : decode cX8_product 28 = .ok (.if_icmp .eq 21, 3) := dk_159 0 21 (dk_at dksX8_product_1 5 rfl rfl)
theorem dX8_product_31 : decode cX8_product 31 = .ok (.aload_n 0, 1) := dk_42 (dk_at dksX8_product_1 8 rfl rfl)
theorem dX8_product_32 : decode cX8_product 32 = .ok (.invokevirtual 39, 3) := dk_182 0 39 (dk_at dksX8_product_1 9 rfl rfl)
theorem dX8_product_35 : decode cX8_product 35 = .ok (.bipush 47, 2) := dk_16 47 (dk_at dksX8_product_1 12 rfl rfl)
theorem dX8_product_37 : decode cX8_product 37 = .ok (.if_icmp .eq 12, 3) := dk_159 0 12 (dk_at dksX8_product_1 14 rfl rfl)
theorem dX8_product_40 : decode cX8_product 40 = .ok (.aload_n 0, 1) := dk_42 (dk_at dksX8_product_1 17 rfl rfl)
theorem dX8_product_41 : decode cX8_product 41 = .ok (.invokevirtual 39, 3) := dk_182 0 39 (dk_at dksX8_product_1 18 rfl rfl)
theorem dX8_product_44 : decode cX8_product 44 = .ok (.bipush 37, 2) := dk_16 37 (dk_at dksX8_product_1 21 rfl rfl)
theorem dX8_product_46 : decode cX8_product 46 = .ok (.if_icmp .ne 42, 3) := dk_160 0 42 (dk_at dksX8_product_2 0 rfl rfl)
theorem dX8_product_49 : decode cX8_product 49 = .ok (.aload_n 0, 1) := dk_42 (dk_at dksX8_product_2 3 rfl rfl)
theorem dX8_product_50 : decode cX8_product 50 = .ok (.invokevirtual 39, 3) := dk_182 0 39 (dk_at dksX8_product_2 4 rfl rfl)
theorem dX8_product_53 : decode cX8_product 53 = .ok (.istore_n 3, 1) := dk_62 (dk_at dksX8_product_2 7 rfl rfl)
theorem dX8_product_54 : decode cX8_product 54 = .ok (.aload_n 0, 1) := dk_42 (dk_at dksX8_product_2 8 rfl rfl)
theorem dX8_product_55 : decode cX8_product 55 = .ok (.dup, 1) := dk_89 (dk_at dksX8_product_2 9 rfl rfl)
theorem dX8_product_56 : decode cX8_product 56 = .ok (.getfield 26, 3) := dk_180 0 26 (dk_at dksX8_product_2 10 rfl rfl)
theorem dX8_product_59 : decode cX8_product 59 = .ok (.iconst 1, 1) := dk_4 (dk_at dksX8_product_2 13 rfl rfl)
theorem dX8_product_60 : decode cX8_product 60 = .ok (.iadd, 1) := dk_96 (dk_at dksX8_product_2 14 rfl rfl)
theorem dX8_product_61 : decode cX8_product 61 = .ok (.putfield 26, 3) := dk_181 0 26 (dk_at dksX8_product_2 15 rfl rfl)
theorem dX8_product_64 : decode cX8_product 64 = .ok (.aload_n 2, 1) := dk_44 (dk_at dksX8_product_2 18 rfl rfl)
theorem dX8_product_65 : decode cX8_product 65 = .ok (.new 86, 3) := dk_187 0 86 (dk_at dksX8_product_2 19 rfl rfl)
theorem dX8_product_68 : decode cX8_product 68 = .ok (.dup, 1) := dk_89 (dk_at dksX8_product_2 22 rfl rfl)
theorem dX8_product_69 : decode cX8_product 69 = .ok (.iload_n 3, 1) := dk_29 (dk_at dksX8_product_2 23 rfl rfl)
theorem dX8_product_70 : decode cX8_product 70 = .ok (.aload_n 0, 1) := dk_42 (dk_at dksX8_product_3 0 rfl rfl)
theorem dX8_product_71 : decode cX8_product 71 = .ok (.invokevirtual 88, 3) := dk_182 0 88 (dk_at dksX8_product_3 1 rfl rfl)
theorem dX8_product_74 : decode cX8_product 74 = .ok (.invokespecial 91, 3) := dk_183 0 91 (dk_at dksX8_product_3 4 rfl rfl)
theorem dX8_product_77 : decode cX8_product 77 = .ok (.putfield 94, 3) := dk_181 0 94 (dk_at dksX8_product_3 7 rfl rfl)
theorem dX8_product_80 : decode cX8_product 80 = .ok (.aload_n 2, 1) := dk_44 (dk_at dksX8_product_3 10 rfl rfl)
theorem dX8_product_81 : decode cX8_product 81 = .ok (.getfield 94, 3) := dk_180 0 94 (dk_at dksX8_product_3 11 rfl rfl)
theorem dX8_product_84 : decode cX8_product 84 = .ok (.astore_n 2, 1) := dk_77 (dk_at dksX8_product_3 14 rfl rfl)
theorem dX8_product_85 : decode cX8_product 85 = .ok (.goto (-70), 3) := dk_167 255 186 (dk_at dksX8_product_3 15 rfl rfl)
theorem dX8_product_88 : decode cX8_product 88 = .ok (.aload_n 1, 1) := dk_43 (dk_at dksX8_product_3 18 rfl rfl)
theorem dX8_product_89 : decode cX8_product 89 = .ok (.areturn, 1) := dk_176 (dk_at dksX8_product_3 19 rfl rfl)
abbrev cX8_factor : ByteArray := prog_13_method_9_code
def yX8_factor : MethodName := ⟨RX8, "factor", "()LMissedTrains$Sum;"⟩
def dkwX8_factor_5 : List UInt8 := [176]
abbrev dktX8_factor_5 : List UInt8 := dkwX8_factor_5 ++ []
def dkwX8_factor_4 : List UInt8 := [180, 0, 26, 182, 0, 50, 42, 89, 180, 0, 26, 4, 96, 181, 0, 26, 187, 0, 83, 89, 27, 183, 0, 85]
abbrev dktX8_factor_4 : List UInt8 := dkwX8_factor_4 ++ dktX8_factor_5
def dkwX8_factor_3 : List UInt8 := [182, 0, 70, 183, 0, 73, 176, 27, 153, 0, 12, 18, 75, 27, 182, 0, 77, 156, 0, 12, 42, 4, 42]
abbrev dktX8_factor_3 : List UInt8 := dkwX8_factor_3 ++ dktX8_factor_4
def dkwX8_factor_2 : List UInt8 := [180, 0, 54, 4, 100, 181, 0, 54, 44, 176, 42, 182, 0, 47, 153, 0, 15, 187, 0, 68, 89, 42]
abbrev dktX8_factor_2 : List UInt8 := dkwX8_factor_2 ++ dktX8_factor_3
def dkwX8_factor_1 : List UInt8 := [182, 0, 60, 167, 0, 4, 1, 77, 42, 182, 0, 43, 153, 0, 9, 42, 16, 93, 182, 0, 64, 42, 89]
abbrev dktX8_factor_1 : List UInt8 := dkwX8_factor_1 ++ dktX8_factor_2
def dkwX8_factor_0 : List UInt8 := [42, 182, 0, 39, 60, 27, 16, 91, 160, 0, 48, 42, 182, 0, 57, 42, 182, 0, 43, 153, 0, 10, 42]
abbrev dktX8_factor_0 : List UInt8 := dkwX8_factor_0 ++ dktX8_factor_1
theorem dksX8_factor_0 : cX8_factor.data.toList.drop 0 = dktX8_factor_0 := by decide +kernel
theorem dksX8_factor_1 : cX8_factor.data.toList.drop 23 = dktX8_factor_1 := dk_seg dksX8_factor_0 23 rfl rfl
theorem dksX8_factor_2 : cX8_factor.data.toList.drop 46 = dktX8_factor_2 := dk_seg dksX8_factor_1 23 rfl rfl
theorem dksX8_factor_3 : cX8_factor.data.toList.drop 68 = dktX8_factor_3 := dk_seg dksX8_factor_2 22 rfl rfl
theorem dksX8_factor_4 : cX8_factor.data.toList.drop 91 = dktX8_factor_4 := dk_seg dksX8_factor_3 23 rfl rfl
theorem dksX8_factor_5 : cX8_factor.data.toList.drop 115 = dktX8_factor_5 := dk_seg dksX8_factor_4 24 rfl rfl
theorem dX8_factor_0 : decode cX8_factor 0 = .ok (.aload_n 0, 1) := dk_42 (dk_at dksX8_factor_0 0 rfl rfl)
theorem dX8_factor_1 : decode cX8_factor 1 = .ok (.invokevirtual 39, 3) := dk_182 0 39 (dk_at dksX8_factor_0 1 rfl rfl)
theorem dX8_factor_4 : decode cX8_factor 4 = .ok (.istore_n 1, 1) := dk_60 (dk_at dksX8_factor_0 4 rfl rfl)
theorem dX8_factor_5 : decode cX8_factor 5 = .ok (.iload_n 1, 1) := dk_27 (dk_at dksX8_factor_0 5 rfl rfl)
theorem dX8_factor_6 : decode cX8_factor 6 = .ok (.bipush 91, 2) := dk_16 91 (dk_at dksX8_factor_0 6 rfl rfl)
theorem dX8_factor_8 : decode cX8_factor 8 = .ok (.if_icmp .ne 48, 3) := dk_160 0 48 (dk_at dksX8_factor_0 8 rfl rfl)
theorem dX8_factor_11 : decode cX8_factor 11 = .ok (.aload_n 0, 1) := dk_42 (dk_at dksX8_factor_0 11 rfl rfl)
theorem dX8_factor_12 : decode cX8_factor 12 = .ok (.invokevirtual 57, 3) := dk_182 0 57 (dk_at dksX8_factor_0 12 rfl rfl)
theorem dX8_factor_15 : decode cX8_factor 15 = .ok (.aload_n 0, 1) := dk_42 (dk_at dksX8_factor_0 15 rfl rfl)
theorem dX8_factor_16 : decode cX8_factor 16 = .ok (.invokevirtual 43, 3) := dk_182 0 43 (dk_at dksX8_factor_0 16 rfl rfl)
theorem dX8_factor_19 : decode cX8_factor 19 = .ok (.ifCond .eq 10, 3) := dk_153 0 10 (dk_at dksX8_factor_0 19 rfl rfl)
theorem dX8_factor_22 : decode cX8_factor 22 = .ok (.aload_n 0, 1) := dk_42 (dk_at dksX8_factor_0 22 rfl rfl)
theorem dX8_factor_23 : decode cX8_factor 23 = .ok (.invokevirtual 60, 3) := dk_182 0 60 (dk_at dksX8_factor_1 0 rfl rfl)
theorem dX8_factor_26 : decode cX8_factor 26 = .ok (.goto 4, 3) := dk_167 0 4 (dk_at dksX8_factor_1 3 rfl rfl)
theorem dX8_factor_29 : decode cX8_factor 29 = .ok (.aconst_null, 1) := dk_1 (dk_at dksX8_factor_1 6 rfl rfl)
theorem dX8_factor_30 : decode cX8_factor 30 = .ok (.astore_n 2, 1) := dk_77 (dk_at dksX8_factor_1 7 rfl rfl)
theorem dX8_factor_31 : decode cX8_factor 31 = .ok (.aload_n 0, 1) := dk_42 (dk_at dksX8_factor_1 8 rfl rfl)
theorem dX8_factor_32 : decode cX8_factor 32 = .ok (.invokevirtual 43, 3) := dk_182 0 43 (dk_at dksX8_factor_1 9 rfl rfl)
theorem dX8_factor_35 : decode cX8_factor 35 = .ok (.ifCond .eq 9, 3) := dk_153 0 9 (dk_at dksX8_factor_1 12 rfl rfl)
theorem dX8_factor_38 : decode cX8_factor 38 = .ok (.aload_n 0, 1) := dk_42 (dk_at dksX8_factor_1 15 rfl rfl)
theorem dX8_factor_39 : decode cX8_factor 39 = .ok (.bipush 93, 2) := dk_16 93 (dk_at dksX8_factor_1 16 rfl rfl)
theorem dX8_factor_41 : decode cX8_factor 41 = .ok (.invokevirtual 64, 3) := dk_182 0 64 (dk_at dksX8_factor_1 18 rfl rfl)
theorem dX8_factor_44 : decode cX8_factor 44 = .ok (.aload_n 0, 1) := dk_42 (dk_at dksX8_factor_1 21 rfl rfl)
theorem dX8_factor_45 : decode cX8_factor 45 = .ok (.dup, 1) := dk_89 (dk_at dksX8_factor_1 22 rfl rfl)
theorem dX8_factor_46 : decode cX8_factor 46 = .ok (.getfield 54, 3) := dk_180 0 54 (dk_at dksX8_factor_2 0 rfl rfl)
theorem dX8_factor_49 : decode cX8_factor 49 = .ok (.iconst 1, 1) := dk_4 (dk_at dksX8_factor_2 3 rfl rfl)
theorem dX8_factor_50 : decode cX8_factor 50 = .ok (.isub, 1) := dk_100 (dk_at dksX8_factor_2 4 rfl rfl)
theorem dX8_factor_51 : decode cX8_factor 51 = .ok (.putfield 54, 3) := dk_181 0 54 (dk_at dksX8_factor_2 5 rfl rfl)
theorem dX8_factor_54 : decode cX8_factor 54 = .ok (.aload_n 2, 1) := dk_44 (dk_at dksX8_factor_2 8 rfl rfl)
theorem dX8_factor_55 : decode cX8_factor 55 = .ok (.areturn, 1) := dk_176 (dk_at dksX8_factor_2 9 rfl rfl)
theorem dX8_factor_56 : decode cX8_factor 56 = .ok (.aload_n 0, 1) := dk_42 (dk_at dksX8_factor_2 10 rfl rfl)
theorem dX8_factor_57 : decode cX8_factor 57 = .ok (.invokevirtual 47, 3) := dk_182 0 47 (dk_at dksX8_factor_2 11 rfl rfl)
theorem dX8_factor_60 : decode cX8_factor 60 = .ok (.ifCond .eq 15, 3) := dk_153 0 15 (dk_at dksX8_factor_2 14 rfl rfl)
theorem dX8_factor_63 : decode cX8_factor 63 = .ok (.new 68, 3) := dk_187 0 68 (dk_at dksX8_factor_2 17 rfl rfl)
theorem dX8_factor_66 : decode cX8_factor 66 = .ok (.dup, 1) := dk_89 (dk_at dksX8_factor_2 20 rfl rfl)
theorem dX8_factor_67 : decode cX8_factor 67 = .ok (.aload_n 0, 1) := dk_42 (dk_at dksX8_factor_2 21 rfl rfl)
theorem dX8_factor_68 : decode cX8_factor 68 = .ok (.invokevirtual 70, 3) := dk_182 0 70 (dk_at dksX8_factor_3 0 rfl rfl)
theorem dX8_factor_71 : decode cX8_factor 71 = .ok (.invokespecial 73, 3) := dk_183 0 73 (dk_at dksX8_factor_3 3 rfl rfl)
theorem dX8_factor_74 : decode cX8_factor 74 = .ok (.areturn, 1) := dk_176 (dk_at dksX8_factor_3 6 rfl rfl)
theorem dX8_factor_75 : decode cX8_factor 75 = .ok (.iload_n 1, 1) := dk_27 (dk_at dksX8_factor_3 7 rfl rfl)
theorem dX8_factor_76 : decode cX8_factor 76 = .ok (.ifCond .eq 12, 3) := dk_153 0 12 (dk_at dksX8_factor_3 8 rfl rfl)
theorem dX8_factor_79 : decode cX8_factor 79 = .ok (.ldc 75, 2) := dk_18 75 (dk_at dksX8_factor_3 11 rfl rfl)
theorem dX8_factor_81 : decode cX8_factor 81 = .ok (.iload_n 1, 1) := dk_27 (dk_at dksX8_factor_3 13 rfl rfl)
theorem dX8_factor_82 : decode cX8_factor 82 = .ok (.invokevirtual 77, 3) := dk_182 0 77 (dk_at dksX8_factor_3 14 rfl rfl)
theorem dX8_factor_85 : decode cX8_factor 85 = .ok (.ifCond .ge 12, 3) := dk_156 0 12 (dk_at dksX8_factor_3 17 rfl rfl)
theorem dX8_factor_88 : decode cX8_factor 88 = .ok (.aload_n 0, 1) := dk_42 (dk_at dksX8_factor_3 20 rfl rfl)
theorem dX8_factor_89 : decode cX8_factor 89 = .ok (.iconst 1, 1) := dk_4 (dk_at dksX8_factor_3 21 rfl rfl)
theorem dX8_factor_90 : decode cX8_factor 90 = .ok (.aload_n 0, 1) := dk_42 (dk_at dksX8_factor_3 22 rfl rfl)
theorem dX8_factor_91 : decode cX8_factor 91 = .ok (.getfield 26, 3) := dk_180 0 26 (dk_at dksX8_factor_4 0 rfl rfl)
theorem dX8_factor_94 : decode cX8_factor 94 = .ok (.invokevirtual 50, 3) := dk_182 0 50 (dk_at dksX8_factor_4 3 rfl rfl)
theorem dX8_factor_97 : decode cX8_factor 97 = .ok (.aload_n 0, 1) := dk_42 (dk_at dksX8_factor_4 6 rfl rfl)
theorem dX8_factor_98 : decode cX8_factor 98 = .ok (.dup, 1) := dk_89 (dk_at dksX8_factor_4 7 rfl rfl)
theorem dX8_factor_99 : decode cX8_factor 99 = .ok (.getfield 26, 3) := dk_180 0 26 (dk_at dksX8_factor_4 8 rfl rfl)
theorem dX8_factor_102 : decode cX8_factor 102 = .ok (.iconst 1, 1) := dk_4 (dk_at dksX8_factor_4 11 rfl rfl)
theorem dX8_factor_103 : decode cX8_factor 103 = .ok (.iadd, 1) := dk_96 (dk_at dksX8_factor_4 12 rfl rfl)
theorem dX8_factor_104 : decode cX8_factor 104 = .ok (.putfield 26, 3) := dk_181 0 26 (dk_at dksX8_factor_4 13 rfl rfl)
theorem dX8_factor_107 : decode cX8_factor 107 = .ok (.new 83, 3) := dk_187 0 83 (dk_at dksX8_factor_4 16 rfl rfl)
theorem dX8_factor_110 : decode cX8_factor 110 = .ok (.dup, 1) := dk_89 (dk_at dksX8_factor_4 19 rfl rfl)
theorem dX8_factor_111 : decode cX8_factor 111 = .ok (.iload_n 1, 1) := dk_27 (dk_at dksX8_factor_4 20 rfl rfl)
theorem dX8_factor_112 : decode cX8_factor 112 = .ok (.invokespecial 85, 3) := dk_183 0 85 (dk_at dksX8_factor_4 21 rfl rfl)
theorem dX8_factor_115 : decode cX8_factor 115 = .ok (.areturn, 1) := dk_176 (dk_at dksX8_factor_5 0 rfl rfl)
abbrev cX8_opens : ByteArray := prog_13_method_8_code
def yX8_opens : MethodName := ⟨RX8, "opens", "()V"⟩
def dkwX8_opens_1 : List UInt8 := [96, 181, 0, 54, 42, 89, 180, 0, 26, 4, 96, 181, 0, 26, 177]
abbrev dktX8_opens_1 : List UInt8 := dkwX8_opens_1 ++ []
def dkwX8_opens_0 : List UInt8 := [42, 180, 0, 54, 16, 6, 160, 0, 12, 42, 8, 42, 180, 0, 26, 182, 0, 50, 42, 89, 180, 0, 54, 4]
abbrev dktX8_opens_0 : List UInt8 := dkwX8_opens_0 ++ dktX8_opens_1
theorem dksX8_opens_0 : cX8_opens.data.toList.drop 0 = dktX8_opens_0 := by decide +kernel
theorem dksX8_opens_1 : cX8_opens.data.toList.drop 24 = dktX8_opens_1 := dk_seg dksX8_opens_0 24 rfl rfl
theorem dX8_opens_0 : decode cX8_opens 0 = .ok (.aload_n 0, 1) := dk_42 (dk_at dksX8_opens_0 0 rfl rfl)
theorem dX8_opens_1 : decode cX8_opens 1 = .ok (.getfield 54, 3) := dk_180 0 54 (dk_at dksX8_opens_0 1 rfl rfl)
theorem dX8_opens_4 : decode cX8_opens 4 = .ok (.bipush 6, 2) := dk_16 6 (dk_at dksX8_opens_0 4 rfl rfl)
theorem dX8_opens_6 : decode cX8_opens 6 = .ok (.if_icmp .ne 12, 3) := dk_160 0 12 (dk_at dksX8_opens_0 6 rfl rfl)
theorem dX8_opens_9 : decode cX8_opens 9 = .ok (.aload_n 0, 1) := dk_42 (dk_at dksX8_opens_0 9 rfl rfl)
theorem dX8_opens_10 : decode cX8_opens 10 = .ok (.iconst 5, 1) := dk_8 (dk_at dksX8_opens_0 10 rfl rfl)
theorem dX8_opens_11 : decode cX8_opens 11 = .ok (.aload_n 0, 1) := dk_42 (dk_at dksX8_opens_0 11 rfl rfl)
theorem dX8_opens_12 : decode cX8_opens 12 = .ok (.getfield 26, 3) := dk_180 0 26 (dk_at dksX8_opens_0 12 rfl rfl)
theorem dX8_opens_15 : decode cX8_opens 15 = .ok (.invokevirtual 50, 3) := dk_182 0 50 (dk_at dksX8_opens_0 15 rfl rfl)
theorem dX8_opens_18 : decode cX8_opens 18 = .ok (.aload_n 0, 1) := dk_42 (dk_at dksX8_opens_0 18 rfl rfl)
theorem dX8_opens_19 : decode cX8_opens 19 = .ok (.dup, 1) := dk_89 (dk_at dksX8_opens_0 19 rfl rfl)
theorem dX8_opens_20 : decode cX8_opens 20 = .ok (.getfield 54, 3) := dk_180 0 54 (dk_at dksX8_opens_0 20 rfl rfl)
theorem dX8_opens_23 : decode cX8_opens 23 = .ok (.iconst 1, 1) := dk_4 (dk_at dksX8_opens_0 23 rfl rfl)
theorem dX8_opens_24 : decode cX8_opens 24 = .ok (.iadd, 1) := dk_96 (dk_at dksX8_opens_1 0 rfl rfl)
theorem dX8_opens_25 : decode cX8_opens 25 = .ok (.putfield 54, 3) := dk_181 0 54 (dk_at dksX8_opens_1 1 rfl rfl)
theorem dX8_opens_28 : decode cX8_opens 28 = .ok (.aload_n 0, 1) := dk_42 (dk_at dksX8_opens_1 4 rfl rfl)
theorem dX8_opens_29 : decode cX8_opens 29 = .ok (.dup, 1) := dk_89 (dk_at dksX8_opens_1 5 rfl rfl)
theorem dX8_opens_30 : decode cX8_opens 30 = .ok (.getfield 26, 3) := dk_180 0 26 (dk_at dksX8_opens_1 6 rfl rfl)
theorem dX8_opens_33 : decode cX8_opens 33 = .ok (.iconst 1, 1) := dk_4 (dk_at dksX8_opens_1 9 rfl rfl)
theorem dX8_opens_34 : decode cX8_opens 34 = .ok (.iadd, 1) := dk_96 (dk_at dksX8_opens_1 10 rfl rfl)
theorem dX8_opens_35 : decode cX8_opens 35 = .ok (.putfield 26, 3) := dk_181 0 26 (dk_at dksX8_opens_1 11 rfl rfl)
theorem dX8_opens_38 : decode cX8_opens 38 = .ok (.return_, 1) := dk_177 (dk_at dksX8_opens_1 14 rfl rfl)
abbrev cX8_must : ByteArray := prog_13_method_7_code
def yX8_must : MethodName := ⟨RX8, "must", "(I)V"⟩
def dkwX8_must_1 : List UInt8 := [181, 0, 26, 177]
abbrev dktX8_must_1 : List UInt8 := dkwX8_must_1 ++ []
def dkwX8_must_0 : List UInt8 := [42, 182, 0, 39, 27, 159, 0, 12, 42, 4, 42, 180, 0, 26, 182, 0, 50, 42, 89, 180, 0, 26, 4, 96]
abbrev dktX8_must_0 : List UInt8 := dkwX8_must_0 ++ dktX8_must_1
theorem dksX8_must_0 : cX8_must.data.toList.drop 0 = dktX8_must_0 := by decide +kernel
theorem dksX8_must_1 : cX8_must.data.toList.drop 24 = dktX8_must_1 := dk_seg dksX8_must_0 24 rfl rfl
theorem dX8_must_0 : decode cX8_must 0 = .ok (.aload_n 0, 1) := dk_42 (dk_at dksX8_must_0 0 rfl rfl)
theorem dX8_must_1 : decode cX8_must 1 = .ok (.invokevirtual 39, 3) := dk_182 0 39 (dk_at dksX8_must_0 1 rfl rfl)
theorem dX8_must_4 : decode cX8_must 4 = .ok (.iload_n 1, 1) := dk_27 (dk_at dksX8_must_0 4 rfl rfl)
theorem dX8_must_5 : decode cX8_must 5 = .ok (.if_icmp .eq 12, 3) := dk_159 0 12 (dk_at dksX8_must_0 5 rfl rfl)
theorem dX8_must_8 : decode cX8_must 8 = .ok (.aload_n 0, 1) := dk_42 (dk_at dksX8_must_0 8 rfl rfl)
theorem dX8_must_9 : decode cX8_must 9 = .ok (.iconst 1, 1) := dk_4 (dk_at dksX8_must_0 9 rfl rfl)
theorem dX8_must_10 : decode cX8_must 10 = .ok (.aload_n 0, 1) := dk_42 (dk_at dksX8_must_0 10 rfl rfl)
theorem dX8_must_11 : decode cX8_must 11 = .ok (.getfield 26, 3) := dk_180 0 26 (dk_at dksX8_must_0 11 rfl rfl)
theorem dX8_must_14 : decode cX8_must 14 = .ok (.invokevirtual 50, 3) := dk_182 0 50 (dk_at dksX8_must_0 14 rfl rfl)
theorem dX8_must_17 : decode cX8_must 17 = .ok (.aload_n 0, 1) := dk_42 (dk_at dksX8_must_0 17 rfl rfl)
theorem dX8_must_18 : decode cX8_must 18 = .ok (.dup, 1) := dk_89 (dk_at dksX8_must_0 18 rfl rfl)
theorem dX8_must_19 : decode cX8_must 19 = .ok (.getfield 26, 3) := dk_180 0 26 (dk_at dksX8_must_0 19 rfl rfl)
theorem dX8_must_22 : decode cX8_must 22 = .ok (.iconst 1, 1) := dk_4 (dk_at dksX8_must_0 22 rfl rfl)
theorem dX8_must_23 : decode cX8_must 23 = .ok (.iadd, 1) := dk_96 (dk_at dksX8_must_0 23 rfl rfl)
theorem dX8_must_24 : decode cX8_must 24 = .ok (.putfield 26, 3) := dk_181 0 26 (dk_at dksX8_must_1 0 rfl rfl)
theorem dX8_must_27 : decode cX8_must 27 = .ok (.return_, 1) := dk_177 (dk_at dksX8_must_1 3 rfl rfl)
abbrev cX8_seesDigit : ByteArray := prog_13_method_5_code
def yX8_seesDigit : MethodName := ⟨RX8, "seesDigit", "()Z"⟩
def dkwX8_seesDigit_0 : List UInt8 := [42, 182, 0, 39, 16, 48, 161, 0, 16, 42, 182, 0, 39, 16, 57, 163, 0, 7, 4, 167, 0, 4, 3, 172]
abbrev dktX8_seesDigit_0 : List UInt8 := dkwX8_seesDigit_0 ++ []
theorem dksX8_seesDigit_0 : cX8_seesDigit.data.toList.drop 0 = dktX8_seesDigit_0 := by decide +kernel
theorem dX8_seesDigit_0 : decode cX8_seesDigit 0 = .ok (.aload_n 0, 1) := dk_42 (dk_at dksX8_seesDigit_0 0 rfl rfl)
theorem dX8_seesDigit_1 : decode cX8_seesDigit 1 = .ok (.invokevirtual 39, 3) := dk_182 0 39 (dk_at dksX8_seesDigit_0 1 rfl rfl)
theorem dX8_seesDigit_4 : decode cX8_seesDigit 4 = .ok (.bipush 48, 2) := dk_16 48 (dk_at dksX8_seesDigit_0 4 rfl rfl)
theorem dX8_seesDigit_6 : decode cX8_seesDigit 6 = .ok (.if_icmp .lt 16, 3) := dk_161 0 16 (dk_at dksX8_seesDigit_0 6 rfl rfl)
theorem dX8_seesDigit_9 : decode cX8_seesDigit 9 = .ok (.aload_n 0, 1) := dk_42 (dk_at dksX8_seesDigit_0 9 rfl rfl)
theorem dX8_seesDigit_10 : decode cX8_seesDigit 10 = .ok (.invokevirtual 39, 3) := dk_182 0 39 (dk_at dksX8_seesDigit_0 10 rfl rfl)
theorem dX8_seesDigit_13 : decode cX8_seesDigit 13 = .ok (.bipush 57, 2) := dk_16 57 (dk_at dksX8_seesDigit_0 13 rfl rfl)
theorem dX8_seesDigit_15 : decode cX8_seesDigit 15 = .ok (.if_icmp .gt 7, 3) := dk_163 0 7 (dk_at dksX8_seesDigit_0 15 rfl rfl)
theorem dX8_seesDigit_18 : decode cX8_seesDigit 18 = .ok (.iconst 1, 1) := dk_4 (dk_at dksX8_seesDigit_0 18 rfl rfl)
theorem dX8_seesDigit_19 : decode cX8_seesDigit 19 = .ok (.goto 4, 3) := dk_167 0 4 (dk_at dksX8_seesDigit_0 19 rfl rfl)
theorem dX8_seesDigit_22 : decode cX8_seesDigit 22 = .ok (.iconst 0, 1) := dk_3 (dk_at dksX8_seesDigit_0 22 rfl rfl)
theorem dX8_seesDigit_23 : decode cX8_seesDigit 23 = .ok (.ireturn, 1) := dk_172 (dk_at dksX8_seesDigit_0 23 rfl rfl)
abbrev cX8_number : ByteArray := prog_13_method_6_code
def yX8_number : MethodName := ⟨RX8, "number", "()I"⟩
def dkwX8_number_2 : List UInt8 := [182, 0, 39, 96, 16, 48, 100, 61, 42, 89, 180, 0, 26, 4, 96, 181, 0, 26, 167, 255, 200, 28, 172]
abbrev dktX8_number_2 : List UInt8 := dkwX8_number_2 ++ []
def dkwX8_number_1 : List UInt8 := [180, 0, 26, 27, 8, 96, 160, 0, 12, 42, 5, 42, 180, 0, 26, 182, 0, 50, 16, 10, 28, 104, 42]
abbrev dktX8_number_1 : List UInt8 := dkwX8_number_1 ++ dktX8_number_2
def dkwX8_number_0 : List UInt8 := [42, 180, 0, 26, 60, 3, 61, 42, 182, 0, 43, 153, 0, 55, 42, 182, 0, 47, 153, 0, 48, 42]
abbrev dktX8_number_0 : List UInt8 := dkwX8_number_0 ++ dktX8_number_1
theorem dksX8_number_0 : cX8_number.data.toList.drop 0 = dktX8_number_0 := by decide +kernel
theorem dksX8_number_1 : cX8_number.data.toList.drop 22 = dktX8_number_1 := dk_seg dksX8_number_0 22 rfl rfl
theorem dksX8_number_2 : cX8_number.data.toList.drop 45 = dktX8_number_2 := dk_seg dksX8_number_1 23 rfl rfl
theorem dX8_number_0 : decode cX8_number 0 = .ok (.aload_n 0, 1) := dk_42 (dk_at dksX8_number_0 0 rfl rfl)
theorem dX8_number_1 : decode cX8_number 1 = .ok (.getfield 26, 3) := dk_180 0 26 (dk_at dksX8_number_0 1 rfl rfl)
theorem dX8_number_4 : decode cX8_number 4 = .ok (.istore_n 1, 1) := dk_60 (dk_at dksX8_number_0 4 rfl rfl)
theorem dX8_number_5 : decode cX8_number 5 = .ok (.iconst 0, 1) := dk_3 (dk_at dksX8_number_0 5 rfl rfl)
theorem dX8_number_6 : decode cX8_number 6 = .ok (.istore_n 2, 1) := dk_61 (dk_at dksX8_number_0 6 rfl rfl)
theorem dX8_number_7 : decode cX8_number 7 = .ok (.aload_n 0, 1) := dk_42 (dk_at dksX8_number_0 7 rfl rfl)
theorem dX8_number_8 : decode cX8_number 8 = .ok (.invokevirtual 43, 3) := dk_182 0 43 (dk_at dksX8_number_0 8 rfl rfl)
theorem dX8_number_11 : decode cX8_number 11 = .ok (.ifCond .eq 55, 3) := dk_153 0 55 (dk_at dksX8_number_0 11 rfl rfl)
theorem dX8_number_14 : decode cX8_number 14 = .ok (.aload_n 0, 1) := dk_42 (dk_at dksX8_number_0 14 rfl rfl)
theorem dX8_number_15 : decode cX8_number 15 = .ok (.invokevirtual 47, 3) := dk_182 0 47 (dk_at dksX8_number_0 15 rfl rfl)
theorem dX8_number_18 : decode cX8_number 18 = .ok (.ifCond .eq 48, 3) := dk_153 0 48 (dk_at dksX8_number_0 18 rfl rfl)
theorem dX8_number_21 : decode cX8_number 21 = .ok (.aload_n 0, 1) := dk_42 (dk_at dksX8_number_0 21 rfl rfl)
theorem dX8_number_22 : decode cX8_number 22 = .ok (.getfield 26, 3) := dk_180 0 26 (dk_at dksX8_number_1 0 rfl rfl)
theorem dX8_number_25 : decode cX8_number 25 = .ok (.iload_n 1, 1) := dk_27 (dk_at dksX8_number_1 3 rfl rfl)
theorem dX8_number_26 : decode cX8_number 26 = .ok (.iconst 5, 1) := dk_8 (dk_at dksX8_number_1 4 rfl rfl)
theorem dX8_number_27 : decode cX8_number 27 = .ok (.iadd, 1) := dk_96 (dk_at dksX8_number_1 5 rfl rfl)
theorem dX8_number_28 : decode cX8_number 28 = .ok (.if_icmp .ne 12, 3) := dk_160 0 12 (dk_at dksX8_number_1 6 rfl rfl)
theorem dX8_number_31 : decode cX8_number 31 = .ok (.aload_n 0, 1) := dk_42 (dk_at dksX8_number_1 9 rfl rfl)
theorem dX8_number_32 : decode cX8_number 32 = .ok (.iconst 2, 1) := dk_5 (dk_at dksX8_number_1 10 rfl rfl)
theorem dX8_number_33 : decode cX8_number 33 = .ok (.aload_n 0, 1) := dk_42 (dk_at dksX8_number_1 11 rfl rfl)
theorem dX8_number_34 : decode cX8_number 34 = .ok (.getfield 26, 3) := dk_180 0 26 (dk_at dksX8_number_1 12 rfl rfl)
theorem dX8_number_37 : decode cX8_number 37 = .ok (.invokevirtual 50, 3) := dk_182 0 50 (dk_at dksX8_number_1 15 rfl rfl)
theorem dX8_number_40 : decode cX8_number 40 = .ok (.bipush 10, 2) := dk_16 10 (dk_at dksX8_number_1 18 rfl rfl)
theorem dX8_number_42 : decode cX8_number 42 = .ok (.iload_n 2, 1) := dk_28 (dk_at dksX8_number_1 20 rfl rfl)
theorem dX8_number_43 : decode cX8_number 43 = .ok (.imul, 1) := dk_104 (dk_at dksX8_number_1 21 rfl rfl)
theorem dX8_number_44 : decode cX8_number 44 = .ok (.aload_n 0, 1) := dk_42 (dk_at dksX8_number_1 22 rfl rfl)
theorem dX8_number_45 : decode cX8_number 45 = .ok (.invokevirtual 39, 3) := dk_182 0 39 (dk_at dksX8_number_2 0 rfl rfl)
theorem dX8_number_48 : decode cX8_number 48 = .ok (.iadd, 1) := dk_96 (dk_at dksX8_number_2 3 rfl rfl)
theorem dX8_number_49 : decode cX8_number 49 = .ok (.bipush 48, 2) := dk_16 48 (dk_at dksX8_number_2 4 rfl rfl)
theorem dX8_number_51 : decode cX8_number 51 = .ok (.isub, 1) := dk_100 (dk_at dksX8_number_2 6 rfl rfl)
theorem dX8_number_52 : decode cX8_number 52 = .ok (.istore_n 2, 1) := dk_61 (dk_at dksX8_number_2 7 rfl rfl)
theorem dX8_number_53 : decode cX8_number 53 = .ok (.aload_n 0, 1) := dk_42 (dk_at dksX8_number_2 8 rfl rfl)
theorem dX8_number_54 : decode cX8_number 54 = .ok (.dup, 1) := dk_89 (dk_at dksX8_number_2 9 rfl rfl)
theorem dX8_number_55 : decode cX8_number 55 = .ok (.getfield 26, 3) := dk_180 0 26 (dk_at dksX8_number_2 10 rfl rfl)
theorem dX8_number_58 : decode cX8_number 58 = .ok (.iconst 1, 1) := dk_4 (dk_at dksX8_number_2 13 rfl rfl)
theorem dX8_number_59 : decode cX8_number 59 = .ok (.iadd, 1) := dk_96 (dk_at dksX8_number_2 14 rfl rfl)
theorem dX8_number_60 : decode cX8_number 60 = .ok (.putfield 26, 3) := dk_181 0 26 (dk_at dksX8_number_2 15 rfl rfl)
theorem dX8_number_63 : decode cX8_number 63 = .ok (.goto (-56), 3) := dk_167 255 200 (dk_at dksX8_number_2 18 rfl rfl)
theorem dX8_number_66 : decode cX8_number 66 = .ok (.iload_n 2, 1) := dk_28 (dk_at dksX8_number_2 21 rfl rfl)
theorem dX8_number_67 : decode cX8_number 67 = .ok (.ireturn, 1) := dk_172 (dk_at dksX8_number_2 22 rfl rfl)
abbrev cX8_condition : ByteArray := prog_13_method_14_code
def yX8_condition : MethodName := ⟨RX8, "condition", "()LMissedTrains$Condition;"⟩
def dkwX8_condition_4 : List UInt8 := [42, 89, 180, 0, 54, 4, 100, 181, 0, 54, 43, 176]
abbrev dktX8_condition_4 : List UInt8 := dkwX8_condition_4 ++ []
def dkwX8_condition_3 : List UInt8 := [181, 0, 123, 44, 180, 0, 123, 77, 167, 255, 209, 42, 182, 0, 43, 153, 0, 9, 42, 16, 41, 182, 0, 64]
abbrev dktX8_condition_3 : List UInt8 := dkwX8_condition_3 ++ dktX8_condition_4
def dkwX8_condition_2 : List UInt8 := [89, 180, 0, 26, 4, 96, 181, 0, 26, 44, 187, 0, 118, 89, 42, 182, 0, 126, 4, 183, 0, 120]
abbrev dktX8_condition_2 : List UInt8 := dkwX8_condition_2 ++ dktX8_condition_3
def dkwX8_condition_1 : List UInt8 := [167, 0, 4, 1, 76, 43, 77, 42, 182, 0, 43, 153, 0, 46, 42, 182, 0, 39, 16, 124, 160, 0, 37, 42]
abbrev dktX8_condition_1 : List UInt8 := dkwX8_condition_1 ++ dktX8_condition_2
def dkwX8_condition_0 : List UInt8 := [42, 182, 0, 57, 42, 182, 0, 43, 153, 0, 18, 187, 0, 118, 89, 42, 182, 0, 126, 4, 183, 0, 120]
abbrev dktX8_condition_0 : List UInt8 := dkwX8_condition_0 ++ dktX8_condition_1
theorem dksX8_condition_0 : cX8_condition.data.toList.drop 0 = dktX8_condition_0 := by decide +kernel
theorem dksX8_condition_1 : cX8_condition.data.toList.drop 23 = dktX8_condition_1 := dk_seg dksX8_condition_0 23 rfl rfl
theorem dksX8_condition_2 : cX8_condition.data.toList.drop 47 = dktX8_condition_2 := dk_seg dksX8_condition_1 24 rfl rfl
theorem dksX8_condition_3 : cX8_condition.data.toList.drop 69 = dktX8_condition_3 := dk_seg dksX8_condition_2 22 rfl rfl
theorem dksX8_condition_4 : cX8_condition.data.toList.drop 93 = dktX8_condition_4 := dk_seg dksX8_condition_3 24 rfl rfl
theorem dX8_condition_0 : decode cX8_condition 0 = .ok (.aload_n 0, 1) := dk_42 (dk_at dksX8_condition_0 0 rfl rfl)
theorem dX8_condition_1 : decode cX8_condition 1 = .ok (.invokevirtual 57, 3) := dk_182 0 57 (dk_at dksX8_condition_0 1 rfl rfl)
theorem dX8_condition_4 : decode cX8_condition 4 = .ok (.aload_n 0, 1) := dk_42 (dk_at dksX8_condition_0 4 rfl rfl)
theorem dX8_condition_5 : decode cX8_condition 5 = .ok (.invokevirtual 43, 3) := dk_182 0 43 (dk_at dksX8_condition_0 5 rfl rfl)
theorem dX8_condition_8 : decode cX8_condition 8 = .ok (.ifCond .eq 18, 3) := dk_153 0 18 (dk_at dksX8_condition_0 8 rfl rfl)
theorem dX8_condition_11 : decode cX8_condition 11 = .ok (.new 118, 3) := dk_187 0 118 (dk_at dksX8_condition_0 11 rfl rfl)
theorem dX8_condition_14 : decode cX8_condition 14 = .ok (.dup, 1) := dk_89 (dk_at dksX8_condition_0 14 rfl rfl)
theorem dX8_condition_15 : decode cX8_condition 15 = .ok (.aload_n 0, 1) := dk_42 (dk_at dksX8_condition_0 15 rfl rfl)
theorem dX8_condition_16 : decode cX8_condition 16 = .ok (.invokevirtual 126, 3) := dk_182 0 126 (dk_at dksX8_condition_0 16 rfl rfl)
theorem dX8_condition_19 : decode cX8_condition 19 = .ok (.iconst 1, 1) := dk_4 (dk_at dksX8_condition_0 19 rfl rfl)
theorem dX8_condition_20 : decode cX8_condition 20 = .ok (.invokespecial 120, 3) := dk_183 0 120 (dk_at dksX8_condition_0 20 rfl rfl)
theorem dX8_condition_23 : decode cX8_condition 23 = .ok (.goto 4, 3) := dk_167 0 4 (dk_at dksX8_condition_1 0 rfl rfl)
theorem dX8_condition_26 : decode cX8_condition 26 = .ok (.aconst_null, 1) := dk_1 (dk_at dksX8_condition_1 3 rfl rfl)
theorem dX8_condition_27 : decode cX8_condition 27 = .ok (.astore_n 1, 1) := dk_76 (dk_at dksX8_condition_1 4 rfl rfl)
theorem dX8_condition_28 : decode cX8_condition 28 = .ok (.aload_n 1, 1) := dk_43 (dk_at dksX8_condition_1 5 rfl rfl)
theorem dX8_condition_29 : decode cX8_condition 29 = .ok (.astore_n 2, 1) := dk_77 (dk_at dksX8_condition_1 6 rfl rfl)
theorem dX8_condition_30 : decode cX8_condition 30 = .ok (.aload_n 0, 1) := dk_42 (dk_at dksX8_condition_1 7 rfl rfl)
theorem dX8_condition_31 : decode cX8_condition 31 = .ok (.invokevirtual 43, 3) := dk_182 0 43 (dk_at dksX8_condition_1 8 rfl rfl)
theorem dX8_condition_34 : decode cX8_condition 34 = .ok (.ifCond .eq 46, 3) := dk_153 0 46 (dk_at dksX8_condition_1 11 rfl rfl)
theorem dX8_condition_37 : decode cX8_condition 37 = .ok (.aload_n 0, 1) := dk_42 (dk_at dksX8_condition_1 14 rfl rfl)
theorem dX8_condition_38 : decode cX8_condition 38 = .ok (.invokevirtual 39, 3) := dk_182 0 39 (dk_at dksX8_condition_1 15 rfl rfl)
theorem dX8_condition_41 : decode cX8_condition 41 = .ok (.bipush 124, 2) := dk_16 124 (dk_at dksX8_condition_1 18 rfl rfl)
theorem dX8_condition_43 : decode cX8_condition 43 = .ok (.if_icmp .ne 37, 3) := dk_160 0 37 (dk_at dksX8_condition_1 20 rfl rfl)
theorem dX8_condition_46 : decode cX8_condition 46 = .ok (.aload_n 0, 1) := dk_42 (dk_at dksX8_condition_1 23 rfl rfl)
theorem dX8_condition_47 : decode cX8_condition 47 = .ok (.dup, 1) := dk_89 (dk_at dksX8_condition_2 0 rfl rfl)
theorem dX8_condition_48 : decode cX8_condition 48 = .ok (.getfield 26, 3) := dk_180 0 26 (dk_at dksX8_condition_2 1 rfl rfl)
theorem dX8_condition_51 : decode cX8_condition 51 = .ok (.iconst 1, 1) := dk_4 (dk_at dksX8_condition_2 4 rfl rfl)
theorem dX8_condition_52 : decode cX8_condition 52 = .ok (.iadd, 1) := dk_96 (dk_at dksX8_condition_2 5 rfl rfl)
theorem dX8_condition_53 : decode cX8_condition 53 = .ok (.putfield 26, 3) := dk_181 0 26 (dk_at dksX8_condition_2 6 rfl rfl)
theorem dX8_condition_56 : decode cX8_condition 56 = .ok (.aload_n 2, 1) := dk_44 (dk_at dksX8_condition_2 9 rfl rfl)
theorem dX8_condition_57 : decode cX8_condition 57 = .ok (.new 118, 3) := dk_187 0 118 (dk_at dksX8_condition_2 10 rfl rfl)
theorem dX8_condition_60 : decode cX8_condition 60 = .ok (.dup, 1) := dk_89 (dk_at dksX8_condition_2 13 rfl rfl)
theorem dX8_condition_61 : decode cX8_condition 61 = .ok (.aload_n 0, 1) := dk_42 (dk_at dksX8_condition_2 14 rfl rfl)
theorem dX8_condition_62 : decode cX8_condition 62 = .ok (.invokevirtual 126, 3) := dk_182 0 126 (dk_at dksX8_condition_2 15 rfl rfl)
theorem dX8_condition_65 : decode cX8_condition 65 = .ok (.iconst 1, 1) := dk_4 (dk_at dksX8_condition_2 18 rfl rfl)
theorem dX8_condition_66 : decode cX8_condition 66 = .ok (.invokespecial 120, 3) := dk_183 0 120 (dk_at dksX8_condition_2 19 rfl rfl)
theorem dX8_condition_69 : decode cX8_condition 69 = .ok (.putfield 123, 3) := dk_181 0 123 (dk_at dksX8_condition_3 0 rfl rfl)
theorem dX8_condition_72 : decode cX8_condition 72 = .ok (.aload_n 2, 1) := dk_44 (dk_at dksX8_condition_3 3 rfl rfl)
theorem dX8_condition_73 : decode cX8_condition 73 = .ok (.getfield 123, 3) := dk_180 0 123 (dk_at dksX8_condition_3 4 rfl rfl)
theorem dX8_condition_76 : decode cX8_condition 76 = .ok (.astore_n 2, 1) := dk_77 (dk_at dksX8_condition_3 7 rfl rfl)
theorem dX8_condition_77 : decode cX8_condition 77 = .ok (.goto (-47), 3) := dk_167 255 209 (dk_at dksX8_condition_3 8 rfl rfl)
theorem dX8_condition_80 : decode cX8_condition 80 = .ok (.aload_n 0, 1) := dk_42 (dk_at dksX8_condition_3 11 rfl rfl)
theorem dX8_condition_81 : decode cX8_condition 81 = .ok (.invokevirtual 43, 3) := dk_182 0 43 (dk_at dksX8_condition_3 12 rfl rfl)
theorem dX8_condition_84 : decode cX8_condition 84 = .ok (.ifCond .eq 9, 3) := dk_153 0 9 (dk_at dksX8_condition_3 15 rfl rfl)
theorem dX8_condition_87 : decode cX8_condition 87 = .ok (.aload_n 0, 1) := dk_42 (dk_at dksX8_condition_3 18 rfl rfl)
theorem dX8_condition_88 : decode cX8_condition 88 = .ok (.bipush 41, 2) := dk_16 41 (dk_at dksX8_condition_3 19 rfl rfl)
theorem dX8_condition_90 : decode cX8_condition 90 = .ok (.invokevirtual 64, 3) := dk_182 0 64 (dk_at dksX8_condition_3 21 rfl rfl)
theorem dX8_condition_93 : decode cX8_condition 93 = .ok (.aload_n 0, 1) := dk_42 (dk_at dksX8_condition_4 0 rfl rfl)
theorem dX8_condition_94 : decode cX8_condition 94 = .ok (.dup, 1) := dk_89 (dk_at dksX8_condition_4 1 rfl rfl)
theorem dX8_condition_95 : decode cX8_condition 95 = .ok (.getfield 54, 3) := dk_180 0 54 (dk_at dksX8_condition_4 2 rfl rfl)
theorem dX8_condition_98 : decode cX8_condition 98 = .ok (.iconst 1, 1) := dk_4 (dk_at dksX8_condition_4 5 rfl rfl)
theorem dX8_condition_99 : decode cX8_condition 99 = .ok (.isub, 1) := dk_100 (dk_at dksX8_condition_4 6 rfl rfl)
theorem dX8_condition_100 : decode cX8_condition 100 = .ok (.putfield 54, 3) := dk_181 0 54 (dk_at dksX8_condition_4 7 rfl rfl)
theorem dX8_condition_103 : decode cX8_condition 103 = .ok (.aload_n 1, 1) := dk_43 (dk_at dksX8_condition_4 10 rfl rfl)
theorem dX8_condition_104 : decode cX8_condition 104 = .ok (.areturn, 1) := dk_176 (dk_at dksX8_condition_4 11 rfl rfl)
abbrev cX8_pieces : ByteArray := prog_13_method_13_code
def yX8_pieces : MethodName := ⟨RX8, "pieces", "()LMissedTrains$Condition;"⟩
def dkwX8_pieces_2 : List UInt8 := [182, 0, 101, 3, 183, 0, 120, 181, 0, 123, 44, 180, 0, 123, 77, 167, 255, 209, 43, 176]
abbrev dktX8_pieces_2 : List UInt8 := dkwX8_pieces_2 ++ []
def dkwX8_pieces_1 : List UInt8 := [182, 0, 39, 16, 38, 160, 0, 37, 42, 89, 180, 0, 26, 4, 96, 181, 0, 26, 44, 187, 0, 118, 89, 42]
abbrev dktX8_pieces_1 : List UInt8 := dkwX8_pieces_1 ++ dktX8_pieces_2
def dkwX8_pieces_0 : List UInt8 := [187, 0, 118, 89, 42, 182, 0, 101, 3, 183, 0, 120, 76, 43, 77, 42, 182, 0, 43, 153, 0, 46, 42]
abbrev dktX8_pieces_0 : List UInt8 := dkwX8_pieces_0 ++ dktX8_pieces_1
theorem dksX8_pieces_0 : cX8_pieces.data.toList.drop 0 = dktX8_pieces_0 := by decide +kernel
theorem dksX8_pieces_1 : cX8_pieces.data.toList.drop 23 = dktX8_pieces_1 := dk_seg dksX8_pieces_0 23 rfl rfl
theorem dksX8_pieces_2 : cX8_pieces.data.toList.drop 47 = dktX8_pieces_2 := dk_seg dksX8_pieces_1 24 rfl rfl
theorem dX8_pieces_0 : decode cX8_pieces 0 = .ok (.new 118, 3) := dk_187 0 118 (dk_at dksX8_pieces_0 0 rfl rfl)
theorem dX8_pieces_3 : decode cX8_pieces 3 = .ok (.dup, 1) := dk_89 (dk_at dksX8_pieces_0 3 rfl rfl)
theorem dX8_pieces_4 : decode cX8_pieces 4 = .ok (.aload_n 0, 1) := dk_42 (dk_at dksX8_pieces_0 4 rfl rfl)
theorem dX8_pieces_5 : decode cX8_pieces 5 = .ok (.invokevirtual 101, 3) := dk_182 0 101 (dk_at dksX8_pieces_0 5 rfl rfl)
theorem dX8_pieces_8 : decode cX8_pieces 8 = .ok (.iconst 0, 1) := dk_3 (dk_at dksX8_pieces_0 8 rfl rfl)
theorem dX8_pieces_9 : decode cX8_pieces 9 = .ok (.invokespecial 120, 3) := dk_183 0 120 (dk_at dksX8_pieces_0 9 rfl rfl)
theorem dX8_pieces_12 : decode cX8_pieces 12 = .ok (.astore_n 1, 1) := dk_76 (dk_at dksX8_pieces_0 12 rfl rfl)
theorem dX8_pieces_13 : decode cX8_pieces 13 = .ok (.aload_n 1, 1) := dk_43 (dk_at dksX8_pieces_0 13 rfl rfl)
theorem dX8_pieces_14 : decode cX8_pieces 14 = .ok (.astore_n 2, 1) := dk_77 (dk_at dksX8_pieces_0 14 rfl rfl)
theorem dX8_pieces_15 : decode cX8_pieces 15 = .ok (.aload_n 0, 1) := dk_42 (dk_at dksX8_pieces_0 15 rfl rfl)
theorem dX8_pieces_16 : decode cX8_pieces 16 = .ok (.invokevirtual 43, 3) := dk_182 0 43 (dk_at dksX8_pieces_0 16 rfl rfl)
theorem dX8_pieces_19 : decode cX8_pieces 19 = .ok (.ifCond .eq 46, 3) := dk_153 0 46 (dk_at dksX8_pieces_0 19 rfl rfl)
theorem dX8_pieces_22 : decode cX8_pieces 22 = .ok (.aload_n 0, 1) := dk_42 (dk_at dksX8_pieces_0 22 rfl rfl)
theorem dX8_pieces_23 : decode cX8_pieces 23 = .ok (.invokevirtual 39, 3) := dk_182 0 39 (dk_at dksX8_pieces_1 0 rfl rfl)
theorem dX8_pieces_26 : decode cX8_pieces 26 = .ok (.bipush 38, 2) := dk_16 38 (dk_at dksX8_pieces_1 3 rfl rfl)
theorem dX8_pieces_28 : decode cX8_pieces 28 = .ok (.if_icmp .ne 37, 3) := dk_160 0 37 (dk_at dksX8_pieces_1 5 rfl rfl)
theorem dX8_pieces_31 : decode cX8_pieces 31 = .ok (.aload_n 0, 1) := dk_42 (dk_at dksX8_pieces_1 8 rfl rfl)
theorem dX8_pieces_32 : decode cX8_pieces 32 = .ok (.dup, 1) := dk_89 (dk_at dksX8_pieces_1 9 rfl rfl)
theorem dX8_pieces_33 : decode cX8_pieces 33 = .ok (.getfield 26, 3) := dk_180 0 26 (dk_at dksX8_pieces_1 10 rfl rfl)
theorem dX8_pieces_36 : decode cX8_pieces 36 = .ok (.iconst 1, 1) := dk_4 (dk_at dksX8_pieces_1 13 rfl rfl)
theorem dX8_pieces_37 : decode cX8_pieces 37 = .ok (.iadd, 1) := dk_96 (dk_at dksX8_pieces_1 14 rfl rfl)
theorem dX8_pieces_38 : decode cX8_pieces 38 = .ok (.putfield 26, 3) := dk_181 0 26 (dk_at dksX8_pieces_1 15 rfl rfl)
theorem dX8_pieces_41 : decode cX8_pieces 41 = .ok (.aload_n 2, 1) := dk_44 (dk_at dksX8_pieces_1 18 rfl rfl)
theorem dX8_pieces_42 : decode cX8_pieces 42 = .ok (.new 118, 3) := dk_187 0 118 (dk_at dksX8_pieces_1 19 rfl rfl)
theorem dX8_pieces_45 : decode cX8_pieces 45 = .ok (.dup, 1) := dk_89 (dk_at dksX8_pieces_1 22 rfl rfl)
theorem dX8_pieces_46 : decode cX8_pieces 46 = .ok (.aload_n 0, 1) := dk_42 (dk_at dksX8_pieces_1 23 rfl rfl)
theorem dX8_pieces_47 : decode cX8_pieces 47 = .ok (.invokevirtual 101, 3) := dk_182 0 101 (dk_at dksX8_pieces_2 0 rfl rfl)
theorem dX8_pieces_50 : decode cX8_pieces 50 = .ok (.iconst 0, 1) := dk_3 (dk_at dksX8_pieces_2 3 rfl rfl)
theorem dX8_pieces_51 : decode cX8_pieces 51 = .ok (.invokespecial 120, 3) := dk_183 0 120 (dk_at dksX8_pieces_2 4 rfl rfl)
theorem dX8_pieces_54 : decode cX8_pieces 54 = .ok (.putfield 123, 3) := dk_181 0 123 (dk_at dksX8_pieces_2 7 rfl rfl)
theorem dX8_pieces_57 : decode cX8_pieces 57 = .ok (.aload_n 2, 1) := dk_44 (dk_at dksX8_pieces_2 10 rfl rfl)
theorem dX8_pieces_58 : decode cX8_pieces 58 = .ok (.getfield 123, 3) := dk_180 0 123 (dk_at dksX8_pieces_2 11 rfl rfl)
theorem dX8_pieces_61 : decode cX8_pieces 61 = .ok (.astore_n 2, 1) := dk_77 (dk_at dksX8_pieces_2 14 rfl rfl)
theorem dX8_pieces_62 : decode cX8_pieces 62 = .ok (.goto (-47), 3) := dk_167 255 209 (dk_at dksX8_pieces_2 15 rfl rfl)
theorem dX8_pieces_65 : decode cX8_pieces 65 = .ok (.aload_n 1, 1) := dk_43 (dk_at dksX8_pieces_2 18 rfl rfl)
theorem dX8_pieces_66 : decode cX8_pieces 66 = .ok (.areturn, 1) := dk_176 (dk_at dksX8_pieces_2 19 rfl rfl)
abbrev cX8_piece : ByteArray := prog_13_method_12_code
def yX8_piece : MethodName := ⟨RX8, "piece", "()LMissedTrains$Condition;"⟩
def dkwX8_piece_5 : List UInt8 := [182, 0, 43, 153, 0, 10, 42, 182, 0, 60, 167, 0, 4, 1, 183, 0, 115, 176]
abbrev dktX8_piece_5 : List UInt8 := dkwX8_piece_5 ++ []
def dkwX8_piece_4 : List UInt8 := [180, 0, 26, 182, 0, 50, 42, 89, 180, 0, 26, 4, 96, 181, 0, 26, 187, 0, 113, 89, 44, 29, 42]
abbrev dktX8_piece_4 : List UInt8 := dkwX8_piece_4 ++ dktX8_piece_5
def dkwX8_piece_3 : List UInt8 := [62, 29, 16, 60, 159, 0, 24, 29, 16, 62, 159, 0, 18, 29, 16, 61, 159, 0, 12, 42, 4, 42]
abbrev dktX8_piece_3 : List UInt8 := dkwX8_piece_3 ++ dktX8_piece_4
def dkwX8_piece_2 : List UInt8 := [183, 0, 107, 176, 27, 16, 40, 160, 0, 8, 42, 182, 0, 110, 176, 42, 182, 0, 60, 77, 42, 182, 0, 39]
abbrev dktX8_piece_2 : List UInt8 := dkwX8_piece_2 ++ dktX8_piece_3
def dkwX8_piece_1 : List UInt8 := [182, 0, 101, 167, 0, 4, 1, 77, 42, 89, 180, 0, 54, 4, 100, 181, 0, 54, 187, 0, 105, 89, 44]
abbrev dktX8_piece_1 : List UInt8 := dkwX8_piece_1 ++ dktX8_piece_2
def dkwX8_piece_0 : List UInt8 := [42, 182, 0, 39, 60, 27, 16, 33, 160, 0, 42, 42, 182, 0, 57, 42, 182, 0, 43, 153, 0, 10, 42]
abbrev dktX8_piece_0 : List UInt8 := dkwX8_piece_0 ++ dktX8_piece_1
theorem dksX8_piece_0 : cX8_piece.data.toList.drop 0 = dktX8_piece_0 := by decide +kernel
theorem dksX8_piece_1 : cX8_piece.data.toList.drop 23 = dktX8_piece_1 := dk_seg dksX8_piece_0 23 rfl rfl
theorem dksX8_piece_2 : cX8_piece.data.toList.drop 46 = dktX8_piece_2 := dk_seg dksX8_piece_1 23 rfl rfl
theorem dksX8_piece_3 : cX8_piece.data.toList.drop 70 = dktX8_piece_3 := dk_seg dksX8_piece_2 24 rfl rfl
theorem dksX8_piece_4 : cX8_piece.data.toList.drop 92 = dktX8_piece_4 := dk_seg dksX8_piece_3 22 rfl rfl
theorem dksX8_piece_5 : cX8_piece.data.toList.drop 115 = dktX8_piece_5 := dk_seg dksX8_piece_4 23 rfl rfl
theorem dX8_piece_0 : decode cX8_piece 0 = .ok (.aload_n 0, 1) := dk_42 (dk_at dksX8_piece_0 0 rfl rfl)
theorem dX8_piece_1 : decode cX8_piece 1 = .ok (.invokevirtual 39, 3) := dk_182 0 39 (dk_at dksX8_piece_0 1 rfl rfl)
theorem dX8_piece_4 : decode cX8_piece 4 = .ok (.istore_n 1, 1) := dk_60 (dk_at dksX8_piece_0 4 rfl rfl)
theorem dX8_piece_5 : decode cX8_piece 5 = .ok (.iload_n 1, 1) := dk_27 (dk_at dksX8_piece_0 5 rfl rfl)
theorem dX8_piece_6 : decode cX8_piece 6 = .ok (.bipush 33, 2) := dk_16 33 (dk_at dksX8_piece_0 6 rfl rfl)
theorem dX8_piece_8 : decode cX8_piece 8 = .ok (.if_icmp .ne 42, 3) := dk_160 0 42 (dk_at dksX8_piece_0 8 rfl rfl)
theorem dX8_piece_11 : decode cX8_piece 11 = .ok (.aload_n 0, 1) := dk_42 (dk_at dksX8_piece_0 11 rfl rfl)
theorem dX8_piece_12 : decode cX8_piece 12 = .ok (.invokevirtual 57, 3) := dk_182 0 57 (dk_at dksX8_piece_0 12 rfl rfl)
theorem dX8_piece_15 : decode cX8_piece 15 = .ok (.aload_n 0, 1) := dk_42 (dk_at dksX8_piece_0 15 rfl rfl)
theorem dX8_piece_16 : decode cX8_piece 16 = .ok (.invokevirtual 43, 3) := dk_182 0 43 (dk_at dksX8_piece_0 16 rfl rfl)
theorem dX8_piece_19 : decode cX8_piece 19 = .ok (.ifCond .eq 10, 3) := dk_153 0 10 (dk_at dksX8_piece_0 19 rfl rfl)
theorem dX8_piece_22 : decode cX8_piece 22 = .ok (.aload_n 0, 1) := dk_42 (dk_at dksX8_piece_0 22 rfl rfl)
theorem dX8_piece_23 : decode cX8_piece 23 = .ok (.invokevirtual 101, 3) := dk_182 0 101 (dk_at dksX8_piece_1 0 rfl rfl)
theorem dX8_piece_26 : decode cX8_piece 26 = .ok (.goto 4, 3) := dk_167 0 4 (dk_at dksX8_piece_1 3 rfl rfl)
theorem dX8_piece_29 : decode cX8_piece 29 = .ok (.aconst_null, 1) := dk_1 (dk_at dksX8_piece_1 6 rfl rfl)
theorem dX8_piece_30 : decode cX8_piece 30 = .ok (.astore_n 2, 1) := dk_77 (dk_at dksX8_piece_1 7 rfl rfl)
theorem dX8_piece_31 : decode cX8_piece 31 = .ok (.aload_n 0, 1) := dk_42 (dk_at dksX8_piece_1 8 rfl rfl)
theorem dX8_piece_32 : decode cX8_piece 32 = .ok (.dup, 1) := dk_89 (dk_at dksX8_piece_1 9 rfl rfl)
theorem dX8_piece_33 : decode cX8_piece 33 = .ok (.getfield 54, 3) := dk_180 0 54 (dk_at dksX8_piece_1 10 rfl rfl)
theorem dX8_piece_36 : decode cX8_piece 36 = .ok (.iconst 1, 1) := dk_4 (dk_at dksX8_piece_1 13 rfl rfl)
theorem dX8_piece_37 : decode cX8_piece 37 = .ok (.isub, 1) := dk_100 (dk_at dksX8_piece_1 14 rfl rfl)
theorem dX8_piece_38 : decode cX8_piece 38 = .ok (.putfield 54, 3) := dk_181 0 54 (dk_at dksX8_piece_1 15 rfl rfl)
theorem dX8_piece_41 : decode cX8_piece 41 = .ok (.new 105, 3) := dk_187 0 105 (dk_at dksX8_piece_1 18 rfl rfl)
theorem dX8_piece_44 : decode cX8_piece 44 = .ok (.dup, 1) := dk_89 (dk_at dksX8_piece_1 21 rfl rfl)
theorem dX8_piece_45 : decode cX8_piece 45 = .ok (.aload_n 2, 1) := dk_44 (dk_at dksX8_piece_1 22 rfl rfl)
theorem dX8_piece_46 : decode cX8_piece 46 = .ok (.invokespecial 107, 3) := dk_183 0 107 (dk_at dksX8_piece_2 0 rfl rfl)
theorem dX8_piece_49 : decode cX8_piece 49 = .ok (.areturn, 1) := dk_176 (dk_at dksX8_piece_2 3 rfl rfl)
theorem dX8_piece_50 : decode cX8_piece 50 = .ok (.iload_n 1, 1) := dk_27 (dk_at dksX8_piece_2 4 rfl rfl)
theorem dX8_piece_51 : decode cX8_piece 51 = .ok (.bipush 40, 2) := dk_16 40 (dk_at dksX8_piece_2 5 rfl rfl)
theorem dX8_piece_53 : decode cX8_piece 53 = .ok (.if_icmp .ne 8, 3) := dk_160 0 8 (dk_at dksX8_piece_2 7 rfl rfl)
theorem dX8_piece_56 : decode cX8_piece 56 = .ok (.aload_n 0, 1) := dk_42 (dk_at dksX8_piece_2 10 rfl rfl)
theorem dX8_piece_57 : decode cX8_piece 57 = .ok (.invokevirtual 110, 3) := dk_182 0 110 (dk_at dksX8_piece_2 11 rfl rfl)
theorem dX8_piece_60 : decode cX8_piece 60 = .ok (.areturn, 1) := dk_176 (dk_at dksX8_piece_2 14 rfl rfl)
theorem dX8_piece_61 : decode cX8_piece 61 = .ok (.aload_n 0, 1) := dk_42 (dk_at dksX8_piece_2 15 rfl rfl)
theorem dX8_piece_62 : decode cX8_piece 62 = .ok (.invokevirtual 60, 3) := dk_182 0 60 (dk_at dksX8_piece_2 16 rfl rfl)
theorem dX8_piece_65 : decode cX8_piece 65 = .ok (.astore_n 2, 1) := dk_77 (dk_at dksX8_piece_2 19 rfl rfl)
theorem dX8_piece_66 : decode cX8_piece 66 = .ok (.aload_n 0, 1) := dk_42 (dk_at dksX8_piece_2 20 rfl rfl)
theorem dX8_piece_67 : decode cX8_piece 67 = .ok (.invokevirtual 39, 3) := dk_182 0 39 (dk_at dksX8_piece_2 21 rfl rfl)
theorem dX8_piece_70 : decode cX8_piece 70 = .ok (.istore_n 3, 1) := dk_62 (dk_at dksX8_piece_3 0 rfl rfl)
theorem dX8_piece_71 : decode cX8_piece 71 = .ok (.iload_n 3, 1) := dk_29 (dk_at dksX8_piece_3 1 rfl rfl)
theorem dX8_piece_72 : decode cX8_piece 72 = .ok (.bipush 60, 2) := dk_16 60 (dk_at dksX8_piece_3 2 rfl rfl)
theorem dX8_piece_74 : decode cX8_piece 74 = .ok (.if_icmp .eq 24, 3) := dk_159 0 24 (dk_at dksX8_piece_3 4 rfl rfl)
theorem dX8_piece_77 : decode cX8_piece 77 = .ok (.iload_n 3, 1) := dk_29 (dk_at dksX8_piece_3 7 rfl rfl)
theorem dX8_piece_78 : decode cX8_piece 78 = .ok (.bipush 62, 2) := dk_16 62 (dk_at dksX8_piece_3 8 rfl rfl)
theorem dX8_piece_80 : decode cX8_piece 80 = .ok (.if_icmp .eq 18, 3) := dk_159 0 18 (dk_at dksX8_piece_3 10 rfl rfl)
theorem dX8_piece_83 : decode cX8_piece 83 = .ok (.iload_n 3, 1) := dk_29 (dk_at dksX8_piece_3 13 rfl rfl)
theorem dX8_piece_84 : decode cX8_piece 84 = .ok (.bipush 61, 2) := dk_16 61 (dk_at dksX8_piece_3 14 rfl rfl)
theorem dX8_piece_86 : decode cX8_piece 86 = .ok (.if_icmp .eq 12, 3) := dk_159 0 12 (dk_at dksX8_piece_3 16 rfl rfl)
theorem dX8_piece_89 : decode cX8_piece 89 = .ok (.aload_n 0, 1) := dk_42 (dk_at dksX8_piece_3 19 rfl rfl)
theorem dX8_piece_90 : decode cX8_piece 90 = .ok (.iconst 1, 1) := dk_4 (dk_at dksX8_piece_3 20 rfl rfl)
theorem dX8_piece_91 : decode cX8_piece 91 = .ok (.aload_n 0, 1) := dk_42 (dk_at dksX8_piece_3 21 rfl rfl)
theorem dX8_piece_92 : decode cX8_piece 92 = .ok (.getfield 26, 3) := dk_180 0 26 (dk_at dksX8_piece_4 0 rfl rfl)
theorem dX8_piece_95 : decode cX8_piece 95 = .ok (.invokevirtual 50, 3) := dk_182 0 50 (dk_at dksX8_piece_4 3 rfl rfl)
theorem dX8_piece_98 : decode cX8_piece 98 = .ok (.aload_n 0, 1) := dk_42 (dk_at dksX8_piece_4 6 rfl rfl)
theorem dX8_piece_99 : decode cX8_piece 99 = .ok (.dup, 1) := dk_89 (dk_at dksX8_piece_4 7 rfl rfl)
theorem dX8_piece_100 : decode cX8_piece 100 = .ok (.getfield 26, 3) := dk_180 0 26 (dk_at dksX8_piece_4 8 rfl rfl)
theorem dX8_piece_103 : decode cX8_piece 103 = .ok (.iconst 1, 1) := dk_4 (dk_at dksX8_piece_4 11 rfl rfl)
theorem dX8_piece_104 : decode cX8_piece 104 = .ok (.iadd, 1) := dk_96 (dk_at dksX8_piece_4 12 rfl rfl)
theorem dX8_piece_105 : decode cX8_piece 105 = .ok (.putfield 26, 3) := dk_181 0 26 (dk_at dksX8_piece_4 13 rfl rfl)
theorem dX8_piece_108 : decode cX8_piece 108 = .ok (.new 113, 3) := dk_187 0 113 (dk_at dksX8_piece_4 16 rfl rfl)
theorem dX8_piece_111 : decode cX8_piece 111 = .ok (.dup, 1) := dk_89 (dk_at dksX8_piece_4 19 rfl rfl)
theorem dX8_piece_112 : decode cX8_piece 112 = .ok (.aload_n 2, 1) := dk_44 (dk_at dksX8_piece_4 20 rfl rfl)
theorem dX8_piece_113 : decode cX8_piece 113 = .ok (.iload_n 3, 1) := dk_29 (dk_at dksX8_piece_4 21 rfl rfl)
theorem dX8_piece_114 : decode cX8_piece 114 = .ok (.aload_n 0, 1) := dk_42 (dk_at dksX8_piece_4 22 rfl rfl)
theorem dX8_piece_115 : decode cX8_piece 115 = .ok (.invokevirtual 43, 3) := dk_182 0 43 (dk_at dksX8_piece_5 0 rfl rfl)
theorem dX8_piece_118 : decode cX8_piece 118 = .ok (.ifCond .eq 10, 3) := dk_153 0 10 (dk_at dksX8_piece_5 3 rfl rfl)
theorem dX8_piece_121 : decode cX8_piece 121 = .ok (.aload_n 0, 1) := dk_42 (dk_at dksX8_piece_5 6 rfl rfl)
theorem dX8_piece_122 : decode cX8_piece 122 = .ok (.invokevirtual 60, 3) := dk_182 0 60 (dk_at dksX8_piece_5 7 rfl rfl)
theorem dX8_piece_125 : decode cX8_piece 125 = .ok (.goto 4, 3) := dk_167 0 4 (dk_at dksX8_piece_5 10 rfl rfl)
theorem dX8_piece_128 : decode cX8_piece 128 = .ok (.aconst_null, 1) := dk_1 (dk_at dksX8_piece_5 13 rfl rfl)
theorem dX8_piece_129 : decode cX8_piece 129 = .ok (.invokespecial 115, 3) := dk_183 0 115 (dk_at dksX8_piece_5 14 rfl rfl)
theorem dX8_piece_132 : decode cX8_piece 132 = .ok (.areturn, 1) := dk_176 (dk_at dksX8_piece_5 17 rfl rfl)
theorem q110 : (Jvm.Cond.initialized "MissedTrains$Reader") ∈ lw_all := lw_g (lw_at lw_m1 9 rfl) rfl
theorem q270 : (Jvm.Cond.fieldLinkNest "MissedTrains$Reader" (134 : Nat) "MissedTrains$Text" "letters" "[I" "MissedTrains") ∈ lw_tbl := lw_at lw_m1 169 rfl
theorem q272 : (Jvm.Cond.fieldLinkNest "MissedTrains$Reader" (138 : Nat) "MissedTrains$Text" "sums" "[LMissedTrains$Sum;" "MissedTrains") ∈ lw_tbl := lw_at lw_m1 171 rfl
theorem q274 : (Jvm.Cond.fieldLinkNest "MissedTrains$Reader" (142 : Nat) "MissedTrains$Text" "conditions" "[LMissedTrains$Condition;" "MissedTrains") ∈ lw_tbl := lw_at lw_m1 173 rfl
theorem q276 : (Jvm.Cond.fieldLinkNest "MissedTrains$Reader" (131 : Nat) "MissedTrains$Text" "many" "I" "MissedTrains") ∈ lw_tbl := lw_at lw_m1 175 rfl
theorem q345 : (Jvm.Cond.fieldLinkNest "MissedTrains$Reader" (29 : Nat) "MissedTrains" "tape" "[B" "MissedTrains") ∈ lw_tbl := lw_at lw_m2 4 rfl
theorem q438 : (Jvm.Cond.instantiable "MissedTrains$Reader" (7 : Nat)) ∈ lw_all := lw_g (lw_at lw_m2 97 rfl) rfl
theorem q440 : (Jvm.Cond.instanceMethod ({ cls := "MissedTrains$Reader", name := "<init>", desc := "(LMissedTrains;I)V" } : Jvm.MethodName)) ∈ lw_all := lw_g (lw_at lw_m2 99 rfl) rfl
theorem q441 : (Jvm.Cond.code ({ cls := "MissedTrains$Reader", name := "<init>", desc := "(LMissedTrains;I)V" } : Jvm.MethodName) prog_13_method_1_code (3 : Nat) (Option.none : Option Jvm.ClassFile.FieldType)) ∈ lw_all := lw_g (lw_at lw_m2 100 rfl) rfl
theorem q442 : (Jvm.Cond.methodLink "MissedTrains$Reader" (9 : Nat) ({ cls := "java/lang/Object", name := "<init>", desc := "()V" } : Jvm.MethodName)) ∈ lw_all := lw_g (lw_at lw_m2 101 rfl) rfl
theorem q443 : (Jvm.Cond.classLink "MissedTrains$Reader" (15 : Nat) "MissedTrains$Text") ∈ lw_all := lw_g (lw_at lw_m2 102 rfl) rfl
theorem q444 : (Jvm.Cond.methodLinkNest "MissedTrains$Reader" (17 : Nat) ({ cls := "MissedTrains$Text", name := "<init>", desc := "()V" } : Jvm.MethodName) "MissedTrains") ∈ lw_tbl := lw_at lw_m2 103 rfl
theorem q445 : (Jvm.Cond.fieldLink "MissedTrains$Reader" (22 : Nat) "MissedTrains$Reader" "n" "I") ∈ lw_all := lw_g (lw_at lw_m2 104 rfl) rfl
theorem q446 : (Jvm.Cond.fieldLink "MissedTrains$Reader" (18 : Nat) "MissedTrains$Reader" "text" "LMissedTrains$Text;") ∈ lw_all := lw_g (lw_at lw_m2 105 rfl) rfl
theorem q448 : (Jvm.Cond.fieldLink "MissedTrains$Reader" (26 : Nat) "MissedTrains$Reader" "at" "I") ∈ lw_all := lw_g (lw_at lw_m2 107 rfl) rfl
theorem q449 : (Jvm.Cond.fieldLink "MissedTrains$Reader" (54 : Nat) "MissedTrains$Reader" "open" "I") ∈ lw_all := lw_g (lw_at lw_m2 108 rfl) rfl
theorem q450 : (Jvm.Cond.fieldLink "MissedTrains$Reader" (33 : Nat) "MissedTrains$Reader" "fault" "I") ∈ lw_all := lw_g (lw_at lw_m2 109 rfl) rfl
theorem q451 : (Jvm.Cond.fieldLink "MissedTrains$Reader" (36 : Nat) "MissedTrains$Reader" "place" "I") ∈ lw_all := lw_g (lw_at lw_m2 110 rfl) rfl
theorem q452 : (Jvm.Cond.fieldLink "MissedTrains$Reader" (3 : Nat) "MissedTrains$Reader" "this$0" "LMissedTrains;") ∈ lw_all := lw_g (lw_at lw_m2 111 rfl) rfl
theorem q453 : (Jvm.Cond.laysFinal "MissedTrains$Reader" "MissedTrains$Reader" "n" "I") ∈ lw_all := lw_g (lw_at lw_m2 112 rfl) rfl
theorem q454 : (Jvm.Cond.soleField "MissedTrains$Reader" "n") ∈ lw_all := lw_g (lw_at lw_m2 113 rfl) rfl
theorem q455 : (Jvm.Cond.laysFinal "MissedTrains$Reader" "MissedTrains$Reader" "text" "LMissedTrains$Text;") ∈ lw_all := lw_g (lw_at lw_m2 114 rfl) rfl
theorem q456 : (Jvm.Cond.soleField "MissedTrains$Reader" "text") ∈ lw_all := lw_g (lw_at lw_m2 115 rfl) rfl
theorem q457 : (Jvm.Cond.lays "MissedTrains$Reader" "MissedTrains$Reader" "at" "I") ∈ lw_all := lw_g (lw_at lw_m2 116 rfl) rfl
theorem q458 : (Jvm.Cond.soleField "MissedTrains$Reader" "at") ∈ lw_all := lw_g (lw_at lw_m2 117 rfl) rfl
theorem q459 : (Jvm.Cond.lays "MissedTrains$Reader" "MissedTrains$Reader" "open" "I") ∈ lw_all := lw_g (lw_at lw_m2 118 rfl) rfl
theorem q460 : (Jvm.Cond.soleField "MissedTrains$Reader" "open") ∈ lw_all := lw_g (lw_at lw_m2 119 rfl) rfl
theorem q461 : (Jvm.Cond.lays "MissedTrains$Reader" "MissedTrains$Reader" "fault" "I") ∈ lw_all := lw_g (lw_at lw_m2 120 rfl) rfl
theorem q462 : (Jvm.Cond.soleField "MissedTrains$Reader" "fault") ∈ lw_all := lw_g (lw_at lw_m2 121 rfl) rfl
theorem q463 : (Jvm.Cond.lays "MissedTrains$Reader" "MissedTrains$Reader" "place" "I") ∈ lw_all := lw_g (lw_at lw_m2 122 rfl) rfl
theorem q464 : (Jvm.Cond.soleField "MissedTrains$Reader" "place") ∈ lw_all := lw_g (lw_at lw_m2 123 rfl) rfl
theorem q465 : (Jvm.Cond.laysFinal "MissedTrains$Reader" "MissedTrains$Reader" "this$0" "LMissedTrains;") ∈ lw_all := lw_g (lw_at lw_m2 124 rfl) rfl
theorem q466 : (Jvm.Cond.soleField "MissedTrains$Reader" "this$0") ∈ lw_all := lw_g (lw_at lw_m2 125 rfl) rfl
theorem q467 : (Jvm.Cond.superclass "MissedTrains$Reader" "java/lang/Object") ∈ lw_all := lw_g (lw_at lw_m2 126 rfl) rfl
theorem q469 : (Jvm.Cond.instanceMethod ({ cls := "MissedTrains$Reader", name := "read", desc := "()I" } : Jvm.MethodName)) ∈ lw_all := lw_g (lw_at lw_m2 128 rfl) rfl
theorem q470 : (Jvm.Cond.selects "MissedTrains$Reader" ({ cls := "MissedTrains$Reader", name := "read", desc := "()I" } : Jvm.MethodName) ({ cls := "MissedTrains$Reader", name := "read", desc := "()I" } : Jvm.MethodName)) ∈ lw_all := lw_g (lw_at lw_m2 129 rfl) rfl
theorem q471 : (Jvm.Cond.code ({ cls := "MissedTrains$Reader", name := "read", desc := "()I" } : Jvm.MethodName) prog_13_method_16_code (2 : Nat) (Option.some Jvm.ClassFile.FieldType.int)) ∈ lw_all := lw_g (lw_at lw_m2 130 rfl) rfl
theorem q472 : (Jvm.Cond.methodLink "MissedTrains$Reader" (43 : Nat) ({ cls := "MissedTrains$Reader", name := "isGood", desc := "()Z" } : Jvm.MethodName)) ∈ lw_all := lw_g (lw_at lw_m2 131 rfl) rfl
theorem q473 : (Jvm.Cond.privateMethod ({ cls := "MissedTrains$Reader", name := "isGood", desc := "()Z" } : Jvm.MethodName)) ∈ lw_tbl := lw_at lw_m2 132 rfl
theorem q474 : (Jvm.Cond.instanceMethod ({ cls := "MissedTrains$Reader", name := "isGood", desc := "()Z" } : Jvm.MethodName)) ∈ lw_all := lw_g (lw_at lw_m2 133 rfl) rfl
theorem q475 : (Jvm.Cond.code ({ cls := "MissedTrains$Reader", name := "isGood", desc := "()Z" } : Jvm.MethodName) prog_13_method_3_code (1 : Nat) (Option.some Jvm.ClassFile.FieldType.boolean)) ∈ lw_all := lw_g (lw_at lw_m2 134 rfl) rfl
theorem q476 : (Jvm.Cond.methodLink "MissedTrains$Reader" (146 : Nat) ({ cls := "MissedTrains$Reader", name := "clause", desc := "()V" } : Jvm.MethodName)) ∈ lw_all := lw_g (lw_at lw_m2 135 rfl) rfl
theorem q477 : (Jvm.Cond.privateMethod ({ cls := "MissedTrains$Reader", name := "clause", desc := "()V" } : Jvm.MethodName)) ∈ lw_tbl := lw_at lw_m2 136 rfl
theorem q478 : (Jvm.Cond.instanceMethod ({ cls := "MissedTrains$Reader", name := "clause", desc := "()V" } : Jvm.MethodName)) ∈ lw_all := lw_g (lw_at lw_m2 137 rfl) rfl
theorem q479 : (Jvm.Cond.code ({ cls := "MissedTrains$Reader", name := "clause", desc := "()V" } : Jvm.MethodName) prog_13_method_15_code (4 : Nat) (Option.none : Option Jvm.ClassFile.FieldType)) ∈ lw_all := lw_g (lw_at lw_m2 138 rfl) rfl
theorem q480 : (Jvm.Cond.methodLink "MissedTrains$Reader" (39 : Nat) ({ cls := "MissedTrains$Reader", name := "here", desc := "()I" } : Jvm.MethodName)) ∈ lw_all := lw_g (lw_at lw_m2 139 rfl) rfl
theorem q481 : (Jvm.Cond.privateMethod ({ cls := "MissedTrains$Reader", name := "here", desc := "()I" } : Jvm.MethodName)) ∈ lw_tbl := lw_at lw_m2 140 rfl
theorem q482 : (Jvm.Cond.instanceMethod ({ cls := "MissedTrains$Reader", name := "here", desc := "()I" } : Jvm.MethodName)) ∈ lw_all := lw_g (lw_at lw_m2 141 rfl) rfl
theorem q483 : (Jvm.Cond.code ({ cls := "MissedTrains$Reader", name := "here", desc := "()I" } : Jvm.MethodName) prog_13_method_2_code (1 : Nat) (Option.some Jvm.ClassFile.FieldType.int)) ∈ lw_all := lw_g (lw_at lw_m2 142 rfl) rfl
theorem q484 : (Jvm.Cond.stringRef "MissedTrains$Reader" (129 : Nat) "dcm") ∈ lw_tbl := lw_at lw_m2 143 rfl
theorem q485 : (Jvm.Cond.methodLink "MissedTrains$Reader" (77 : Nat) ({ cls := "java/lang/String", name := "indexOf", desc := "(I)I" } : Jvm.MethodName)) ∈ lw_all := lw_g (lw_at lw_m2 144 rfl) rfl
theorem q571 : (Jvm.Cond.methodLink "MissedTrains$Reader" (50 : Nat) ({ cls := "MissedTrains$Reader", name := "bad", desc := "(II)V" } : Jvm.MethodName)) ∈ lw_all := lw_g (lw_at lw_m2 230 rfl) rfl
theorem q572 : (Jvm.Cond.privateMethod ({ cls := "MissedTrains$Reader", name := "bad", desc := "(II)V" } : Jvm.MethodName)) ∈ lw_tbl := lw_at lw_m2 231 rfl
theorem q573 : (Jvm.Cond.instanceMethod ({ cls := "MissedTrains$Reader", name := "bad", desc := "(II)V" } : Jvm.MethodName)) ∈ lw_all := lw_g (lw_at lw_m2 232 rfl) rfl
theorem q574 : (Jvm.Cond.code ({ cls := "MissedTrains$Reader", name := "bad", desc := "(II)V" } : Jvm.MethodName) prog_13_method_4_code (3 : Nat) (Option.none : Option Jvm.ClassFile.FieldType)) ∈ lw_all := lw_g (lw_at lw_m2 233 rfl) rfl
theorem q575 : (Jvm.Cond.methodLink "MissedTrains$Reader" (60 : Nat) ({ cls := "MissedTrains$Reader", name := "sum", desc := "()LMissedTrains$Sum;" } : Jvm.MethodName)) ∈ lw_all := lw_g (lw_at lw_m2 234 rfl) rfl
theorem q576 : (Jvm.Cond.privateMethod ({ cls := "MissedTrains$Reader", name := "sum", desc := "()LMissedTrains$Sum;" } : Jvm.MethodName)) ∈ lw_tbl := lw_at lw_m2 235 rfl
theorem q577 : (Jvm.Cond.instanceMethod ({ cls := "MissedTrains$Reader", name := "sum", desc := "()LMissedTrains$Sum;" } : Jvm.MethodName)) ∈ lw_all := lw_g (lw_at lw_m2 236 rfl) rfl
theorem q578 : (Jvm.Cond.code ({ cls := "MissedTrains$Reader", name := "sum", desc := "()LMissedTrains$Sum;" } : Jvm.MethodName) prog_13_method_11_code (4 : Nat) (Option.some (Jvm.ClassFile.FieldType.object "MissedTrains$Sum"))) ∈ lw_all := lw_g (lw_at lw_m2 237 rfl) rfl
theorem q579 : (Jvm.Cond.classLink "MissedTrains$Reader" (86 : Nat) "MissedTrains$Row") ∈ lw_all := lw_g (lw_at lw_m2 238 rfl) rfl
theorem q581 : (Jvm.Cond.methodLink "MissedTrains$Reader" (98 : Nat) ({ cls := "MissedTrains$Reader", name := "product", desc := "()LMissedTrains$Sum;" } : Jvm.MethodName)) ∈ lw_all := lw_g (lw_at lw_m3 0 rfl) rfl
theorem q582 : (Jvm.Cond.privateMethod ({ cls := "MissedTrains$Reader", name := "product", desc := "()LMissedTrains$Sum;" } : Jvm.MethodName)) ∈ lw_tbl := lw_at lw_m3 1 rfl
theorem q583 : (Jvm.Cond.instanceMethod ({ cls := "MissedTrains$Reader", name := "product", desc := "()LMissedTrains$Sum;" } : Jvm.MethodName)) ∈ lw_all := lw_g (lw_at lw_m3 2 rfl) rfl
theorem q584 : (Jvm.Cond.code ({ cls := "MissedTrains$Reader", name := "product", desc := "()LMissedTrains$Sum;" } : Jvm.MethodName) prog_13_method_10_code (4 : Nat) (Option.some (Jvm.ClassFile.FieldType.object "MissedTrains$Sum"))) ∈ lw_all := lw_g (lw_at lw_m3 3 rfl) rfl
theorem q585 : (Jvm.Cond.methodLink "MissedTrains$Reader" (88 : Nat) ({ cls := "MissedTrains$Reader", name := "factor", desc := "()LMissedTrains$Sum;" } : Jvm.MethodName)) ∈ lw_all := lw_g (lw_at lw_m3 4 rfl) rfl
theorem q586 : (Jvm.Cond.privateMethod ({ cls := "MissedTrains$Reader", name := "factor", desc := "()LMissedTrains$Sum;" } : Jvm.MethodName)) ∈ lw_tbl := lw_at lw_m3 5 rfl
theorem q587 : (Jvm.Cond.instanceMethod ({ cls := "MissedTrains$Reader", name := "factor", desc := "()LMissedTrains$Sum;" } : Jvm.MethodName)) ∈ lw_all := lw_g (lw_at lw_m3 6 rfl) rfl
theorem q588 : (Jvm.Cond.code ({ cls := "MissedTrains$Reader", name := "factor", desc := "()LMissedTrains$Sum;" } : Jvm.MethodName) prog_13_method_9_code (3 : Nat) (Option.some (Jvm.ClassFile.FieldType.object "MissedTrains$Sum"))) ∈ lw_all := lw_g (lw_at lw_m3 7 rfl) rfl
theorem q589 : (Jvm.Cond.methodLink "MissedTrains$Reader" (57 : Nat) ({ cls := "MissedTrains$Reader", name := "opens", desc := "()V" } : Jvm.MethodName)) ∈ lw_all := lw_g (lw_at lw_m3 8 rfl) rfl
theorem q590 : (Jvm.Cond.privateMethod ({ cls := "MissedTrains$Reader", name := "opens", desc := "()V" } : Jvm.MethodName)) ∈ lw_tbl := lw_at lw_m3 9 rfl
theorem q591 : (Jvm.Cond.instanceMethod ({ cls := "MissedTrains$Reader", name := "opens", desc := "()V" } : Jvm.MethodName)) ∈ lw_all := lw_g (lw_at lw_m3 10 rfl) rfl
theorem q592 : (Jvm.Cond.code ({ cls := "MissedTrains$Reader", name := "opens", desc := "()V" } : Jvm.MethodName) prog_13_method_8_code (1 : Nat) (Option.none : Option Jvm.ClassFile.FieldType)) ∈ lw_all := lw_g (lw_at lw_m3 11 rfl) rfl
theorem q593 : (Jvm.Cond.methodLink "MissedTrains$Reader" (64 : Nat) ({ cls := "MissedTrains$Reader", name := "must", desc := "(I)V" } : Jvm.MethodName)) ∈ lw_all := lw_g (lw_at lw_m3 12 rfl) rfl
theorem q594 : (Jvm.Cond.privateMethod ({ cls := "MissedTrains$Reader", name := "must", desc := "(I)V" } : Jvm.MethodName)) ∈ lw_tbl := lw_at lw_m3 13 rfl
theorem q595 : (Jvm.Cond.instanceMethod ({ cls := "MissedTrains$Reader", name := "must", desc := "(I)V" } : Jvm.MethodName)) ∈ lw_all := lw_g (lw_at lw_m3 14 rfl) rfl
theorem q596 : (Jvm.Cond.code ({ cls := "MissedTrains$Reader", name := "must", desc := "(I)V" } : Jvm.MethodName) prog_13_method_7_code (2 : Nat) (Option.none : Option Jvm.ClassFile.FieldType)) ∈ lw_all := lw_g (lw_at lw_m3 15 rfl) rfl
theorem q597 : (Jvm.Cond.methodLink "MissedTrains$Reader" (47 : Nat) ({ cls := "MissedTrains$Reader", name := "seesDigit", desc := "()Z" } : Jvm.MethodName)) ∈ lw_all := lw_g (lw_at lw_m3 16 rfl) rfl
theorem q598 : (Jvm.Cond.privateMethod ({ cls := "MissedTrains$Reader", name := "seesDigit", desc := "()Z" } : Jvm.MethodName)) ∈ lw_tbl := lw_at lw_m3 17 rfl
theorem q599 : (Jvm.Cond.instanceMethod ({ cls := "MissedTrains$Reader", name := "seesDigit", desc := "()Z" } : Jvm.MethodName)) ∈ lw_all := lw_g (lw_at lw_m3 18 rfl) rfl
theorem q600 : (Jvm.Cond.code ({ cls := "MissedTrains$Reader", name := "seesDigit", desc := "()Z" } : Jvm.MethodName) prog_13_method_5_code (1 : Nat) (Option.some Jvm.ClassFile.FieldType.boolean)) ∈ lw_all := lw_g (lw_at lw_m3 19 rfl) rfl
theorem q601 : (Jvm.Cond.classLink "MissedTrains$Reader" (68 : Nat) "MissedTrains$Number") ∈ lw_all := lw_g (lw_at lw_m3 20 rfl) rfl
theorem q603 : (Jvm.Cond.methodLink "MissedTrains$Reader" (70 : Nat) ({ cls := "MissedTrains$Reader", name := "number", desc := "()I" } : Jvm.MethodName)) ∈ lw_all := lw_g (lw_at lw_m3 22 rfl) rfl
theorem q604 : (Jvm.Cond.privateMethod ({ cls := "MissedTrains$Reader", name := "number", desc := "()I" } : Jvm.MethodName)) ∈ lw_tbl := lw_at lw_m3 23 rfl
theorem q605 : (Jvm.Cond.instanceMethod ({ cls := "MissedTrains$Reader", name := "number", desc := "()I" } : Jvm.MethodName)) ∈ lw_all := lw_g (lw_at lw_m3 24 rfl) rfl
theorem q606 : (Jvm.Cond.code ({ cls := "MissedTrains$Reader", name := "number", desc := "()I" } : Jvm.MethodName) prog_13_method_6_code (3 : Nat) (Option.some Jvm.ClassFile.FieldType.int)) ∈ lw_all := lw_g (lw_at lw_m3 25 rfl) rfl
theorem q607 : (Jvm.Cond.methodLink "MissedTrains$Reader" (73 : Nat) ({ cls := "MissedTrains$Number", name := "<init>", desc := "(I)V" } : Jvm.MethodName)) ∈ lw_all := lw_g (lw_at lw_m3 26 rfl) rfl
theorem q618 : (Jvm.Cond.stringRef "MissedTrains$Reader" (75 : Nat) "rsklnpfyu") ∈ lw_tbl := lw_at lw_m3 37 rfl
theorem q619 : (Jvm.Cond.classLink "MissedTrains$Reader" (83 : Nat) "MissedTrains$Letter") ∈ lw_all := lw_g (lw_at lw_m3 38 rfl) rfl
theorem q621 : (Jvm.Cond.methodLink "MissedTrains$Reader" (85 : Nat) ({ cls := "MissedTrains$Letter", name := "<init>", desc := "(I)V" } : Jvm.MethodName)) ∈ lw_all := lw_g (lw_at lw_m3 40 rfl) rfl
theorem q629 : (Jvm.Cond.methodLink "MissedTrains$Reader" (91 : Nat) ({ cls := "MissedTrains$Row", name := "<init>", desc := "(ILMissedTrains$Sum;)V" } : Jvm.MethodName)) ∈ lw_all := lw_g (lw_at lw_m3 48 rfl) rfl
theorem q636 : (Jvm.Cond.fieldLinkNest "MissedTrains$Reader" (94 : Nat) "MissedTrains$Row" "next" "LMissedTrains$Row;" "MissedTrains") ∈ lw_tbl := lw_at lw_m3 55 rfl
theorem q644 : (Jvm.Cond.methodLink "MissedTrains$Reader" (110 : Nat) ({ cls := "MissedTrains$Reader", name := "condition", desc := "()LMissedTrains$Condition;" } : Jvm.MethodName)) ∈ lw_all := lw_g (lw_at lw_m3 63 rfl) rfl
theorem q645 : (Jvm.Cond.privateMethod ({ cls := "MissedTrains$Reader", name := "condition", desc := "()LMissedTrains$Condition;" } : Jvm.MethodName)) ∈ lw_tbl := lw_at lw_m3 64 rfl
theorem q646 : (Jvm.Cond.instanceMethod ({ cls := "MissedTrains$Reader", name := "condition", desc := "()LMissedTrains$Condition;" } : Jvm.MethodName)) ∈ lw_all := lw_g (lw_at lw_m3 65 rfl) rfl
theorem q647 : (Jvm.Cond.code ({ cls := "MissedTrains$Reader", name := "condition", desc := "()LMissedTrains$Condition;" } : Jvm.MethodName) prog_13_method_14_code (3 : Nat) (Option.some (Jvm.ClassFile.FieldType.object "MissedTrains$Condition"))) ∈ lw_all := lw_g (lw_at lw_m3 66 rfl) rfl
theorem q648 : (Jvm.Cond.classLink "MissedTrains$Reader" (118 : Nat) "MissedTrains$Some") ∈ lw_all := lw_g (lw_at lw_m3 67 rfl) rfl
theorem q650 : (Jvm.Cond.methodLink "MissedTrains$Reader" (126 : Nat) ({ cls := "MissedTrains$Reader", name := "pieces", desc := "()LMissedTrains$Condition;" } : Jvm.MethodName)) ∈ lw_all := lw_g (lw_at lw_m3 69 rfl) rfl
theorem q651 : (Jvm.Cond.privateMethod ({ cls := "MissedTrains$Reader", name := "pieces", desc := "()LMissedTrains$Condition;" } : Jvm.MethodName)) ∈ lw_tbl := lw_at lw_m3 70 rfl
theorem q652 : (Jvm.Cond.instanceMethod ({ cls := "MissedTrains$Reader", name := "pieces", desc := "()LMissedTrains$Condition;" } : Jvm.MethodName)) ∈ lw_all := lw_g (lw_at lw_m3 71 rfl) rfl
theorem q653 : (Jvm.Cond.code ({ cls := "MissedTrains$Reader", name := "pieces", desc := "()LMissedTrains$Condition;" } : Jvm.MethodName) prog_13_method_13_code (3 : Nat) (Option.some (Jvm.ClassFile.FieldType.object "MissedTrains$Condition"))) ∈ lw_all := lw_g (lw_at lw_m3 72 rfl) rfl
theorem q654 : (Jvm.Cond.methodLink "MissedTrains$Reader" (101 : Nat) ({ cls := "MissedTrains$Reader", name := "piece", desc := "()LMissedTrains$Condition;" } : Jvm.MethodName)) ∈ lw_all := lw_g (lw_at lw_m3 73 rfl) rfl
theorem q655 : (Jvm.Cond.privateMethod ({ cls := "MissedTrains$Reader", name := "piece", desc := "()LMissedTrains$Condition;" } : Jvm.MethodName)) ∈ lw_tbl := lw_at lw_m3 74 rfl
theorem q656 : (Jvm.Cond.instanceMethod ({ cls := "MissedTrains$Reader", name := "piece", desc := "()LMissedTrains$Condition;" } : Jvm.MethodName)) ∈ lw_all := lw_g (lw_at lw_m3 75 rfl) rfl
theorem q657 : (Jvm.Cond.code ({ cls := "MissedTrains$Reader", name := "piece", desc := "()LMissedTrains$Condition;" } : Jvm.MethodName) prog_13_method_12_code (4 : Nat) (Option.some (Jvm.ClassFile.FieldType.object "MissedTrains$Condition"))) ∈ lw_all := lw_g (lw_at lw_m3 76 rfl) rfl
theorem q658 : (Jvm.Cond.classLink "MissedTrains$Reader" (105 : Nat) "MissedTrains$Not") ∈ lw_all := lw_g (lw_at lw_m3 77 rfl) rfl
theorem q660 : (Jvm.Cond.methodLink "MissedTrains$Reader" (107 : Nat) ({ cls := "MissedTrains$Not", name := "<init>", desc := "(LMissedTrains$Condition;)V" } : Jvm.MethodName)) ∈ lw_all := lw_g (lw_at lw_m3 79 rfl) rfl
theorem q671 : (Jvm.Cond.classLink "MissedTrains$Reader" (113 : Nat) "MissedTrains$Compared") ∈ lw_all := lw_g (lw_at lw_m3 90 rfl) rfl
theorem q673 : (Jvm.Cond.methodLink "MissedTrains$Reader" (115 : Nat) ({ cls := "MissedTrains$Compared", name := "<init>", desc := "(LMissedTrains$Sum;ILMissedTrains$Sum;)V" } : Jvm.MethodName)) ∈ lw_all := lw_g (lw_at lw_m3 92 rfl) rfl
theorem q687 : (Jvm.Cond.methodLink "MissedTrains$Reader" (120 : Nat) ({ cls := "MissedTrains$Some", name := "<init>", desc := "(LMissedTrains$Condition;I)V" } : Jvm.MethodName)) ∈ lw_all := lw_g (lw_at lw_m3 106 rfl) rfl
theorem q694 : (Jvm.Cond.fieldLinkNest "MissedTrains$Reader" (123 : Nat) "MissedTrains$Some" "next" "LMissedTrains$Some;" "MissedTrains") ∈ lw_tbl := lw_at lw_m3 113 rfl
theorem in_X8 : ∀ w ∈ wsX80, w ∈ lw_all := lw_in wsX80 [453, 455, 457, 459, 461, 463, 465] (by decide +kernel) (by decide +kernel)
/-! MissedTrains$Sum -/
set_option maxRecDepth 100000
def RX9 : String := "MissedTrains$Sum"
abbrev cX9_init : ByteArray := prog_17_method_1_code
def yX9_init : MethodName := ⟨RX9, "<init>", "()V"⟩
theorem dX9_init_0 : decode cX9_init 0 = .ok (.aload_n 0, 1) := by decide +kernel
theorem dX9_init_1 : decode cX9_init 1 = .ok (.invokespecial 1, 3) := by decide +kernel
theorem dX9_init_4 : decode cX9_init 4 = .ok (.return_, 1) := by decide +kernel
abbrev cX9_told : ByteArray := prog_17_method_3_code
def yX9_told : MethodName := ⟨RX9, "told", "(LMissedTrains$Asked;)I"⟩
def dkwX9_told_0 : List UInt8 := [43, 3, 181, 0, 7, 42, 43, 182, 0, 13, 61, 43, 180, 0, 7, 153, 0, 7, 3, 167, 0, 4, 28, 172]
abbrev dktX9_told_0 : List UInt8 := dkwX9_told_0 ++ []
theorem dksX9_told_0 : cX9_told.data.toList.drop 0 = dktX9_told_0 := by decide +kernel
theorem dX9_told_0 : decode cX9_told 0 = .ok (.aload_n 1, 1) := dk_43 (dk_at dksX9_told_0 0 rfl rfl)
theorem dX9_told_1 : decode cX9_told 1 = .ok (.iconst 0, 1) := dk_3 (dk_at dksX9_told_0 1 rfl rfl)
theorem dX9_told_2 : decode cX9_told 2 = .ok (.putfield 7, 3) := dk_181 0 7 (dk_at dksX9_told_0 2 rfl rfl)
theorem dX9_told_5 : decode cX9_told 5 = .ok (.aload_n 0, 1) := dk_42 (dk_at dksX9_told_0 5 rfl rfl)
theorem dX9_told_6 : decode cX9_told 6 = .ok (.aload_n 1, 1) := dk_43 (dk_at dksX9_told_0 6 rfl rfl)
theorem dX9_told_7 : decode cX9_told 7 = .ok (.invokevirtual 13, 3) := dk_182 0 13 (dk_at dksX9_told_0 7 rfl rfl)
theorem dX9_told_10 : decode cX9_told 10 = .ok (.istore_n 2, 1) := dk_61 (dk_at dksX9_told_0 10 rfl rfl)
theorem dX9_told_11 : decode cX9_told 11 = .ok (.aload_n 1, 1) := dk_43 (dk_at dksX9_told_0 11 rfl rfl)
theorem dX9_told_12 : decode cX9_told 12 = .ok (.getfield 7, 3) := dk_180 0 7 (dk_at dksX9_told_0 12 rfl rfl)
theorem dX9_told_15 : decode cX9_told 15 = .ok (.ifCond .eq 7, 3) := dk_153 0 7 (dk_at dksX9_told_0 15 rfl rfl)
theorem dX9_told_18 : decode cX9_told 18 = .ok (.iconst 0, 1) := dk_3 (dk_at dksX9_told_0 18 rfl rfl)
theorem dX9_told_19 : decode cX9_told 19 = .ok (.goto 4, 3) := dk_167 0 4 (dk_at dksX9_told_0 19 rfl rfl)
theorem dX9_told_22 : decode cX9_told 22 = .ok (.iload_n 2, 1) := dk_28 (dk_at dksX9_told_0 22 rfl rfl)
theorem dX9_told_23 : decode cX9_told 23 = .ok (.ireturn, 1) := dk_172 (dk_at dksX9_told_0 23 rfl rfl)
theorem q117 : (Jvm.Cond.initialized "MissedTrains$Sum") ∈ lw_all := lw_g (lw_at lw_m1 16 rfl) rfl
theorem q158 : (Jvm.Cond.fieldLinkNest "MissedTrains$Sum" (7 : Nat) "MissedTrains$Asked" "isRefused" "Z" "MissedTrains") ∈ lw_tbl := lw_at lw_m1 57 rfl
theorem q611 : (Jvm.Cond.instanceMethod ({ cls := "MissedTrains$Sum", name := "<init>", desc := "()V" } : Jvm.MethodName)) ∈ lw_all := lw_g (lw_at lw_m3 30 rfl) rfl
theorem q612 : (Jvm.Cond.code ({ cls := "MissedTrains$Sum", name := "<init>", desc := "()V" } : Jvm.MethodName) prog_17_method_1_code (1 : Nat) (Option.none : Option Jvm.ClassFile.FieldType)) ∈ lw_all := lw_g (lw_at lw_m3 31 rfl) rfl
theorem q613 : (Jvm.Cond.methodLink "MissedTrains$Sum" (1 : Nat) ({ cls := "java/lang/Object", name := "<init>", desc := "()V" } : Jvm.MethodName)) ∈ lw_all := lw_g (lw_at lw_m3 32 rfl) rfl
theorem q950 : (Jvm.Cond.declares ({ cls := "MissedTrains$Sum", name := "worth", desc := "(LMissedTrains$Asked;)I" } : Jvm.MethodName)) ∈ lw_tbl := lw_at lw_m4 129 rfl
theorem q951 : (Jvm.Cond.sameMethod "MissedTrains$Sum" "MissedTrains$Sum" "worth" "(LMissedTrains$Asked;)I") ∈ lw_all := lw_g (lw_at lw_m4 130 rfl) rfl
theorem q980 : (Jvm.Cond.instanceMethod ({ cls := "MissedTrains$Sum", name := "told", desc := "(LMissedTrains$Asked;)I" } : Jvm.MethodName)) ∈ lw_all := lw_g (lw_at lw_m4 159 rfl) rfl
theorem q981 : (Jvm.Cond.sameMethod "MissedTrains$Sum" "MissedTrains$Sum" "told" "(LMissedTrains$Asked;)I") ∈ lw_all := lw_g (lw_at lw_m4 160 rfl) rfl
theorem q985 : (Jvm.Cond.code ({ cls := "MissedTrains$Sum", name := "told", desc := "(LMissedTrains$Asked;)I" } : Jvm.MethodName) prog_17_method_3_code (3 : Nat) (Option.some Jvm.ClassFile.FieldType.int)) ∈ lw_all := lw_g (lw_at lw_m4 164 rfl) rfl
theorem q986 : (Jvm.Cond.methodLink "MissedTrains$Sum" (13 : Nat) ({ cls := "MissedTrains$Sum", name := "worth", desc := "(LMissedTrains$Asked;)I" } : Jvm.MethodName)) ∈ lw_all := lw_g (lw_at lw_m4 165 rfl) rfl
/-! MissedTrains$Row -/
set_option maxRecDepth 100000
def RX10 : String := "MissedTrains$Row"
def TX10 : u_T := fun k => match k with
  | 0 => ("MissedTrains$Row", "sign", "I", true)
  | 1 => ("MissedTrains$Row", "part", "LMissedTrains$Sum;", true)
  | _ => ("MissedTrains$Row", "next", "LMissedTrains$Row;", false)
def tyX10 : Nat → FieldType := fun k => match k with
  | 0 => .int
  | 1 => .object "MissedTrains$Sum"
  | _ => .object "MissedTrains$Row"
abbrev wsX100 : List Cond := u_ws RX10 TX10 3
theorem nmX10 : ∀ a, a < 3 → ∀ b, b < 3 → a ≠ b → (TX10 a).2.1 ≠ (TX10 b).2.1 := by decide +kernel
theorem tyX10_ok : ∀ k, k < 3 → parseFieldDescriptor (TX10 k).2.2.1 = some (tyX10 k) := by decide +kernel
abbrev cX10_init : ByteArray := prog_14_method_1_code
def yX10_init : MethodName := ⟨RX10, "<init>", "(ILMissedTrains$Sum;)V"⟩
def dkwX10_init_0 : List UInt8 := [42, 183, 0, 1, 42, 27, 181, 0, 7, 42, 44, 181, 0, 13, 177]
abbrev dktX10_init_0 : List UInt8 := dkwX10_init_0 ++ []
theorem dksX10_init_0 : cX10_init.data.toList.drop 0 = dktX10_init_0 := by decide +kernel
theorem dX10_init_0 : decode cX10_init 0 = .ok (.aload_n 0, 1) := dk_42 (dk_at dksX10_init_0 0 rfl rfl)
theorem dX10_init_1 : decode cX10_init 1 = .ok (.invokespecial 1, 3) := dk_183 0 1 (dk_at dksX10_init_0 1 rfl rfl)
theorem dX10_init_4 : decode cX10_init 4 = .ok (.aload_n 0, 1) := dk_42 (dk_at dksX10_init_0 4 rfl rfl)
theorem dX10_init_5 : decode cX10_init 5 = .ok (.iload_n 1, 1) := dk_27 (dk_at dksX10_init_0 5 rfl rfl)
theorem dX10_init_6 : decode cX10_init 6 = .ok (.putfield 7, 3) := dk_181 0 7 (dk_at dksX10_init_0 6 rfl rfl)
theorem dX10_init_9 : decode cX10_init 9 = .ok (.aload_n 0, 1) := dk_42 (dk_at dksX10_init_0 9 rfl rfl)
theorem dX10_init_10 : decode cX10_init 10 = .ok (.aload_n 2, 1) := dk_44 (dk_at dksX10_init_0 10 rfl rfl)
theorem dX10_init_11 : decode cX10_init 11 = .ok (.putfield 13, 3) := dk_181 0 13 (dk_at dksX10_init_0 11 rfl rfl)
theorem dX10_init_14 : decode cX10_init 14 = .ok (.return_, 1) := dk_177 (dk_at dksX10_init_0 14 rfl rfl)
abbrev cX10_worth : ByteArray := prog_14_method_3_code
def yX10_worth : MethodName := ⟨RX10, "worth", "(LMissedTrains$Asked;)I"⟩
def dkwX10_worth_1 : List UInt8 := [180, 0, 13, 43, 182, 0, 23, 43, 184, 0, 31, 61, 45, 180, 0, 27, 78, 167, 255, 229, 28, 172]
abbrev dktX10_worth_1 : List UInt8 := dkwX10_worth_1 ++ []
def dkwX10_worth_0 : List UInt8 := [42, 180, 0, 13, 43, 182, 0, 23, 61, 42, 180, 0, 27, 78, 45, 198, 0, 29, 45, 180, 0, 7, 28, 45]
abbrev dktX10_worth_0 : List UInt8 := dkwX10_worth_0 ++ dktX10_worth_1
theorem dksX10_worth_0 : cX10_worth.data.toList.drop 0 = dktX10_worth_0 := by decide +kernel
theorem dksX10_worth_1 : cX10_worth.data.toList.drop 24 = dktX10_worth_1 := dk_seg dksX10_worth_0 24 rfl rfl
theorem dX10_worth_0 : decode cX10_worth 0 = .ok (.aload_n 0, 1) := dk_42 (dk_at dksX10_worth_0 0 rfl rfl)
theorem dX10_worth_1 : decode cX10_worth 1 = .ok (.getfield 13, 3) := dk_180 0 13 (dk_at dksX10_worth_0 1 rfl rfl)
theorem dX10_worth_4 : decode cX10_worth 4 = .ok (.aload_n 1, 1) := dk_43 (dk_at dksX10_worth_0 4 rfl rfl)
theorem dX10_worth_5 : decode cX10_worth 5 = .ok (.invokevirtual 23, 3) := dk_182 0 23 (dk_at dksX10_worth_0 5 rfl rfl)
theorem dX10_worth_8 : decode cX10_worth 8 = .ok (.istore_n 2, 1) := dk_61 (dk_at dksX10_worth_0 8 rfl rfl)
theorem dX10_worth_9 : decode cX10_worth 9 = .ok (.aload_n 0, 1) := dk_42 (dk_at dksX10_worth_0 9 rfl rfl)
theorem dX10_worth_10 : decode cX10_worth 10 = .ok (.getfield 27, 3) := dk_180 0 27 (dk_at dksX10_worth_0 10 rfl rfl)
theorem dX10_worth_13 : decode cX10_worth 13 = .ok (.astore_n 3, 1) := dk_78 (dk_at dksX10_worth_0 13 rfl rfl)
theorem dX10_worth_14 : decode cX10_worth 14 = .ok (.aload_n 3, 1) := dk_45 (dk_at dksX10_worth_0 14 rfl rfl)
theorem dX10_worth_15 : decode cX10_worth 15 = .ok (.ifnull 29, 3) := dk_198 0 29 (dk_at dksX10_worth_0 15 rfl rfl)
theorem dX10_worth_18 : decode cX10_worth 18 = .ok (.aload_n 3, 1) := dk_45 (dk_at dksX10_worth_0 18 rfl rfl)
theorem dX10_worth_19 : decode cX10_worth 19 = .ok (.getfield 7, 3) := dk_180 0 7 (dk_at dksX10_worth_0 19 rfl rfl)
theorem dX10_worth_22 : decode cX10_worth 22 = .ok (.iload_n 2, 1) := dk_28 (dk_at dksX10_worth_0 22 rfl rfl)
theorem dX10_worth_23 : decode cX10_worth 23 = .ok (.aload_n 3, 1) := dk_45 (dk_at dksX10_worth_0 23 rfl rfl)
theorem dX10_worth_24 : decode cX10_worth 24 = .ok (.getfield 13, 3) := dk_180 0 13 (dk_at dksX10_worth_1 0 rfl rfl)
theorem dX10_worth_27 : decode cX10_worth 27 = .ok (.aload_n 1, 1) := dk_43 (dk_at dksX10_worth_1 3 rfl rfl)
theorem dX10_worth_28 : decode cX10_worth 28 = .ok (.invokevirtual 23, 3) := dk_182 0 23 (dk_at dksX10_worth_1 4 rfl rfl)
theorem dX10_worth_31 : decode cX10_worth 31 = .ok (.aload_n 1, 1) := dk_43 (dk_at dksX10_worth_1 7 rfl rfl)
theorem dX10_worth_32 : decode cX10_worth 32 = .ok (.invokestatic 31, 3) := dk_184 0 31 (dk_at dksX10_worth_1 8 rfl rfl)
theorem dX10_worth_35 : decode cX10_worth 35 = .ok (.istore_n 2, 1) := dk_61 (dk_at dksX10_worth_1 11 rfl rfl)
theorem dX10_worth_36 : decode cX10_worth 36 = .ok (.aload_n 3, 1) := dk_45 (dk_at dksX10_worth_1 12 rfl rfl)
theorem dX10_worth_37 : decode cX10_worth 37 = .ok (.getfield 27, 3) := dk_180 0 27 (dk_at dksX10_worth_1 13 rfl rfl)
theorem dX10_worth_40 : decode cX10_worth 40 = .ok (.astore_n 3, 1) := dk_78 (dk_at dksX10_worth_1 16 rfl rfl)
theorem dX10_worth_41 : decode cX10_worth 41 = .ok (.goto (-27), 3) := dk_167 255 229 (dk_at dksX10_worth_1 17 rfl rfl)
theorem dX10_worth_44 : decode cX10_worth 44 = .ok (.iload_n 2, 1) := dk_28 (dk_at dksX10_worth_1 20 rfl rfl)
theorem dX10_worth_45 : decode cX10_worth 45 = .ok (.ireturn, 1) := dk_172 (dk_at dksX10_worth_1 21 rfl rfl)
abbrev cX10_worked : ByteArray := prog_14_method_2_code
def yX10_worked : MethodName := ⟨RX10, "worked", "(IIILMissedTrains$Asked;)I"⟩
def dkwX10_worked_3 : List UInt8 := [154, 0, 7, 3, 167, 0, 18, 26, 16, 47, 160, 0, 9, 27, 28, 108, 167, 0, 6, 27, 28, 112, 172]
abbrev dktX10_worked_3 : List UInt8 := dkwX10_worked_3 ++ []
def dkwX10_worked_2 : List UInt8 := [27, 28, 96, 172, 27, 28, 100, 172, 27, 28, 104, 172, 28, 154, 0, 8, 45, 4, 181, 0, 17, 28]
abbrev dktX10_worked_2 : List UInt8 := dkwX10_worked_2 ++ dktX10_worked_3
def dkwX10_worked_1 : List UInt8 := [170, 0, 0, 0, 0, 0, 43, 0, 0, 0, 42, 0, 0, 0, 45, 0, 0, 0, 39, 0, 0, 0, 31, 0, 0, 0, 43, 0, 0, 0, 35]
abbrev dktX10_worked_1 : List UInt8 := dkwX10_worked_1 ++ dktX10_worked_2
def dkwX10_worked_0 : List UInt8 := [26]
abbrev dktX10_worked_0 : List UInt8 := dkwX10_worked_0 ++ dktX10_worked_1
theorem dksX10_worked_0 : cX10_worked.data.toList.drop 0 = dktX10_worked_0 := by decide +kernel
theorem dksX10_worked_1 : cX10_worked.data.toList.drop 1 = dktX10_worked_1 := dk_seg dksX10_worked_0 1 rfl rfl
theorem dksX10_worked_2 : cX10_worked.data.toList.drop 32 = dktX10_worked_2 := dk_seg dksX10_worked_1 31 rfl rfl
theorem dksX10_worked_3 : cX10_worked.data.toList.drop 54 = dktX10_worked_3 := dk_seg dksX10_worked_2 22 rfl rfl
theorem dX10_worked_0 : decode cX10_worked 0 = .ok (.iload_n 0, 1) := dk_26 (dk_at dksX10_worked_0 0 rfl rfl)
theorem dX10_worked_1 : decode cX10_worked 1 = .ok (.tableswitch 43 42 45 #[39, 31, 43, 35], 31) := by decide +kernel
theorem dX10_worked_32 : decode cX10_worked 32 = .ok (.iload_n 1, 1) := dk_27 (dk_at dksX10_worked_2 0 rfl rfl)
theorem dX10_worked_33 : decode cX10_worked 33 = .ok (.iload_n 2, 1) := dk_28 (dk_at dksX10_worked_2 1 rfl rfl)
theorem dX10_worked_34 : decode cX10_worked 34 = .ok (.iadd, 1) := dk_96 (dk_at dksX10_worked_2 2 rfl rfl)
theorem dX10_worked_35 : decode cX10_worked 35 = .ok (.ireturn, 1) := dk_172 (dk_at dksX10_worked_2 3 rfl rfl)
theorem dX10_worked_36 : decode cX10_worked 36 = .ok (.iload_n 1, 1) := dk_27 (dk_at dksX10_worked_2 4 rfl rfl)
theorem dX10_worked_37 : decode cX10_worked 37 = .ok (.iload_n 2, 1) := dk_28 (dk_at dksX10_worked_2 5 rfl rfl)
theorem dX10_worked_38 : decode cX10_worked 38 = .ok (.isub, 1) := dk_100 (dk_at dksX10_worked_2 6 rfl rfl)
theorem dX10_worked_39 : decode cX10_worked 39 = .ok (.ireturn, 1) := dk_172 (dk_at dksX10_worked_2 7 rfl rfl)
theorem dX10_worked_40 : decode cX10_worked 40 = .ok (.iload_n 1, 1) := dk_27 (dk_at dksX10_worked_2 8 rfl rfl)
theorem dX10_worked_41 : decode cX10_worked 41 = .ok (.iload_n 2, 1) := dk_28 (dk_at dksX10_worked_2 9 rfl rfl)
theorem dX10_worked_42 : decode cX10_worked 42 = .ok (.imul, 1) := dk_104 (dk_at dksX10_worked_2 10 rfl rfl)
theorem dX10_worked_43 : decode cX10_worked 43 = .ok (.ireturn, 1) := dk_172 (dk_at dksX10_worked_2 11 rfl rfl)
theorem dX10_worked_44 : decode cX10_worked 44 = .ok (.iload_n 2, 1) := dk_28 (dk_at dksX10_worked_2 12 rfl rfl)
theorem dX10_worked_45 : decode cX10_worked 45 = .ok (.ifCond .ne 8, 3) := dk_154 0 8 (dk_at dksX10_worked_2 13 rfl rfl)
theorem dX10_worked_48 : decode cX10_worked 48 = .ok (.aload_n 3, 1) := dk_45 (dk_at dksX10_worked_2 16 rfl rfl)
theorem dX10_worked_49 : decode cX10_worked 49 = .ok (.iconst 1, 1) := dk_4 (dk_at dksX10_worked_2 17 rfl rfl)
theorem dX10_worked_50 : decode cX10_worked 50 = .ok (.putfield 17, 3) := dk_181 0 17 (dk_at dksX10_worked_2 18 rfl rfl)
theorem dX10_worked_53 : decode cX10_worked 53 = .ok (.iload_n 2, 1) := dk_28 (dk_at dksX10_worked_2 21 rfl rfl)
theorem dX10_worked_54 : decode cX10_worked 54 = .ok (.ifCond .ne 7, 3) := dk_154 0 7 (dk_at dksX10_worked_3 0 rfl rfl)
theorem dX10_worked_57 : decode cX10_worked 57 = .ok (.iconst 0, 1) := dk_3 (dk_at dksX10_worked_3 3 rfl rfl)
theorem dX10_worked_58 : decode cX10_worked 58 = .ok (.goto 18, 3) := dk_167 0 18 (dk_at dksX10_worked_3 4 rfl rfl)
theorem dX10_worked_61 : decode cX10_worked 61 = .ok (.iload_n 0, 1) := dk_26 (dk_at dksX10_worked_3 7 rfl rfl)
theorem dX10_worked_62 : decode cX10_worked 62 = .ok (.bipush 47, 2) := dk_16 47 (dk_at dksX10_worked_3 8 rfl rfl)
theorem dX10_worked_64 : decode cX10_worked 64 = .ok (.if_icmp .ne 9, 3) := dk_160 0 9 (dk_at dksX10_worked_3 10 rfl rfl)
theorem dX10_worked_67 : decode cX10_worked 67 = .ok (.iload_n 1, 1) := dk_27 (dk_at dksX10_worked_3 13 rfl rfl)
theorem dX10_worked_68 : decode cX10_worked 68 = .ok (.iload_n 2, 1) := dk_28 (dk_at dksX10_worked_3 14 rfl rfl)
theorem dX10_worked_69 : decode cX10_worked 69 = .ok (.idiv, 1) := dk_108 (dk_at dksX10_worked_3 15 rfl rfl)
theorem dX10_worked_70 : decode cX10_worked 70 = .ok (.goto 6, 3) := dk_167 0 6 (dk_at dksX10_worked_3 16 rfl rfl)
theorem dX10_worked_73 : decode cX10_worked 73 = .ok (.iload_n 1, 1) := dk_27 (dk_at dksX10_worked_3 19 rfl rfl)
theorem dX10_worked_74 : decode cX10_worked 74 = .ok (.iload_n 2, 1) := dk_28 (dk_at dksX10_worked_3 20 rfl rfl)
theorem dX10_worked_75 : decode cX10_worked 75 = .ok (.irem, 1) := dk_112 (dk_at dksX10_worked_3 21 rfl rfl)
theorem dX10_worked_76 : decode cX10_worked 76 = .ok (.ireturn, 1) := dk_172 (dk_at dksX10_worked_3 22 rfl rfl)
theorem q118 : (Jvm.Cond.initialized "MissedTrains$Row") ∈ lw_all := lw_g (lw_at lw_m1 17 rfl) rfl
theorem q157 : (Jvm.Cond.fieldLinkNest "MissedTrains$Row" (17 : Nat) "MissedTrains$Asked" "isRefused" "Z" "MissedTrains") ∈ lw_tbl := lw_at lw_m1 56 rfl
theorem q580 : (Jvm.Cond.instantiable "MissedTrains$Row" (3 : Nat)) ∈ lw_all := lw_g (lw_at lw_m2 239 rfl) rfl
theorem q630 : (Jvm.Cond.instanceMethod ({ cls := "MissedTrains$Row", name := "<init>", desc := "(ILMissedTrains$Sum;)V" } : Jvm.MethodName)) ∈ lw_all := lw_g (lw_at lw_m3 49 rfl) rfl
theorem q631 : (Jvm.Cond.code ({ cls := "MissedTrains$Row", name := "<init>", desc := "(ILMissedTrains$Sum;)V" } : Jvm.MethodName) prog_14_method_1_code (3 : Nat) (Option.none : Option Jvm.ClassFile.FieldType)) ∈ lw_all := lw_g (lw_at lw_m3 50 rfl) rfl
theorem q632 : (Jvm.Cond.methodLinkNest "MissedTrains$Row" (1 : Nat) ({ cls := "MissedTrains$Sum", name := "<init>", desc := "()V" } : Jvm.MethodName) "MissedTrains") ∈ lw_tbl := lw_at lw_m3 51 rfl
theorem q633 : (Jvm.Cond.fieldLink "MissedTrains$Row" (7 : Nat) "MissedTrains$Row" "sign" "I") ∈ lw_all := lw_g (lw_at lw_m3 52 rfl) rfl
theorem q634 : (Jvm.Cond.fieldLink "MissedTrains$Row" (13 : Nat) "MissedTrains$Row" "part" "LMissedTrains$Sum;") ∈ lw_all := lw_g (lw_at lw_m3 53 rfl) rfl
theorem q635 : (Jvm.Cond.fieldLink "MissedTrains$Row" (27 : Nat) "MissedTrains$Row" "next" "LMissedTrains$Row;") ∈ lw_all := lw_g (lw_at lw_m3 54 rfl) rfl
theorem q637 : (Jvm.Cond.laysFinal "MissedTrains$Row" "MissedTrains$Row" "sign" "I") ∈ lw_all := lw_g (lw_at lw_m3 56 rfl) rfl
theorem q638 : (Jvm.Cond.soleField "MissedTrains$Row" "sign") ∈ lw_all := lw_g (lw_at lw_m3 57 rfl) rfl
theorem q639 : (Jvm.Cond.laysFinal "MissedTrains$Row" "MissedTrains$Row" "part" "LMissedTrains$Sum;") ∈ lw_all := lw_g (lw_at lw_m3 58 rfl) rfl
theorem q640 : (Jvm.Cond.soleField "MissedTrains$Row" "part") ∈ lw_all := lw_g (lw_at lw_m3 59 rfl) rfl
theorem q641 : (Jvm.Cond.lays "MissedTrains$Row" "MissedTrains$Row" "next" "LMissedTrains$Row;") ∈ lw_all := lw_g (lw_at lw_m3 60 rfl) rfl
theorem q642 : (Jvm.Cond.soleField "MissedTrains$Row" "next") ∈ lw_all := lw_g (lw_at lw_m3 61 rfl) rfl
theorem q643 : (Jvm.Cond.superclass "MissedTrains$Row" "MissedTrains$Sum") ∈ lw_all := lw_g (lw_at lw_m3 62 rfl) rfl
theorem q964 : (Jvm.Cond.selects "MissedTrains$Row" ({ cls := "MissedTrains$Sum", name := "worth", desc := "(LMissedTrains$Asked;)I" } : Jvm.MethodName) ({ cls := "MissedTrains$Row", name := "worth", desc := "(LMissedTrains$Asked;)I" } : Jvm.MethodName)) ∈ lw_all := lw_g (lw_at lw_m4 143 rfl) rfl
theorem q965 : (Jvm.Cond.instanceMethod ({ cls := "MissedTrains$Row", name := "worth", desc := "(LMissedTrains$Asked;)I" } : Jvm.MethodName)) ∈ lw_all := lw_g (lw_at lw_m4 144 rfl) rfl
theorem q966 : (Jvm.Cond.code ({ cls := "MissedTrains$Row", name := "worth", desc := "(LMissedTrains$Asked;)I" } : Jvm.MethodName) prog_14_method_3_code (4 : Nat) (Option.some Jvm.ClassFile.FieldType.int)) ∈ lw_all := lw_g (lw_at lw_m4 145 rfl) rfl
theorem q967 : (Jvm.Cond.methodLink "MissedTrains$Row" (23 : Nat) ({ cls := "MissedTrains$Sum", name := "worth", desc := "(LMissedTrains$Asked;)I" } : Jvm.MethodName)) ∈ lw_all := lw_g (lw_at lw_m4 146 rfl) rfl
theorem q968 : (Jvm.Cond.methodLink "MissedTrains$Row" (31 : Nat) ({ cls := "MissedTrains$Row", name := "worked", desc := "(IIILMissedTrains$Asked;)I" } : Jvm.MethodName)) ∈ lw_all := lw_g (lw_at lw_m4 147 rfl) rfl
theorem q969 : (Jvm.Cond.static ({ cls := "MissedTrains$Row", name := "worked", desc := "(IIILMissedTrains$Asked;)I" } : Jvm.MethodName)) ∈ lw_all := lw_g (lw_at lw_m4 148 rfl) rfl
theorem q970 : (Jvm.Cond.code ({ cls := "MissedTrains$Row", name := "worked", desc := "(IIILMissedTrains$Asked;)I" } : Jvm.MethodName) prog_14_method_2_code (4 : Nat) (Option.some Jvm.ClassFile.FieldType.int)) ∈ lw_all := lw_g (lw_at lw_m4 149 rfl) rfl
theorem q984 : (Jvm.Cond.selects "MissedTrains$Row" ({ cls := "MissedTrains$Sum", name := "told", desc := "(LMissedTrains$Asked;)I" } : Jvm.MethodName) ({ cls := "MissedTrains$Sum", name := "told", desc := "(LMissedTrains$Asked;)I" } : Jvm.MethodName)) ∈ lw_all := lw_g (lw_at lw_m4 163 rfl) rfl
theorem q1831 : (Jvm.Cond.castable "MissedTrains$Row" "MissedTrains$Sum") ∈ lw_tbl := lw_at lw_m8 50 rfl
theorem in_X10 : ∀ w ∈ wsX100, w ∈ lw_all := lw_in wsX100 [637, 639, 641] (by decide +kernel) (by decide +kernel)
/-! MissedTrains$Number -/
set_option maxRecDepth 100000
def RX11 : String := "MissedTrains$Number"
def TX11 : u_T := fun k => match k with
  | _ => ("MissedTrains$Number", "n", "I", true)
def tyX11 : Nat → FieldType := fun k => match k with
  | _ => .int
abbrev wsX110 : List Cond := u_ws RX11 TX11 1
theorem nmX11 : ∀ a, a < 1 → ∀ b, b < 1 → a ≠ b → (TX11 a).2.1 ≠ (TX11 b).2.1 := by decide +kernel
theorem tyX11_ok : ∀ k, k < 1 → parseFieldDescriptor (TX11 k).2.2.1 = some (tyX11 k) := by decide +kernel
abbrev cX11_init : ByteArray := prog_9_method_1_code
def yX11_init : MethodName := ⟨RX11, "<init>", "(I)V"⟩
def dkwX11_init_0 : List UInt8 := [42, 183, 0, 1, 42, 27, 181, 0, 7, 177]
abbrev dktX11_init_0 : List UInt8 := dkwX11_init_0 ++ []
theorem dksX11_init_0 : cX11_init.data.toList.drop 0 = dktX11_init_0 := by decide +kernel
theorem dX11_init_0 : decode cX11_init 0 = .ok (.aload_n 0, 1) := dk_42 (dk_at dksX11_init_0 0 rfl rfl)
theorem dX11_init_1 : decode cX11_init 1 = .ok (.invokespecial 1, 3) := dk_183 0 1 (dk_at dksX11_init_0 1 rfl rfl)
theorem dX11_init_4 : decode cX11_init 4 = .ok (.aload_n 0, 1) := dk_42 (dk_at dksX11_init_0 4 rfl rfl)
theorem dX11_init_5 : decode cX11_init 5 = .ok (.iload_n 1, 1) := dk_27 (dk_at dksX11_init_0 5 rfl rfl)
theorem dX11_init_6 : decode cX11_init 6 = .ok (.putfield 7, 3) := dk_181 0 7 (dk_at dksX11_init_0 6 rfl rfl)
theorem dX11_init_9 : decode cX11_init 9 = .ok (.return_, 1) := dk_177 (dk_at dksX11_init_0 9 rfl rfl)
abbrev cX11_worth : ByteArray := prog_9_method_2_code
def yX11_worth : MethodName := ⟨RX11, "worth", "(LMissedTrains$Asked;)I"⟩
theorem dX11_worth_0 : decode cX11_worth 0 = .ok (.aload_n 0, 1) := by decide +kernel
theorem dX11_worth_1 : decode cX11_worth 1 = .ok (.getfield 7, 3) := by decide +kernel
theorem dX11_worth_4 : decode cX11_worth 4 = .ok (.ireturn, 1) := by decide +kernel
theorem q119 : (Jvm.Cond.initialized "MissedTrains$Number") ∈ lw_all := lw_g (lw_at lw_m1 18 rfl) rfl
theorem q602 : (Jvm.Cond.instantiable "MissedTrains$Number" (1 : Nat)) ∈ lw_all := lw_g (lw_at lw_m3 21 rfl) rfl
theorem q608 : (Jvm.Cond.instanceMethod ({ cls := "MissedTrains$Number", name := "<init>", desc := "(I)V" } : Jvm.MethodName)) ∈ lw_all := lw_g (lw_at lw_m3 27 rfl) rfl
theorem q609 : (Jvm.Cond.code ({ cls := "MissedTrains$Number", name := "<init>", desc := "(I)V" } : Jvm.MethodName) prog_9_method_1_code (2 : Nat) (Option.none : Option Jvm.ClassFile.FieldType)) ∈ lw_all := lw_g (lw_at lw_m3 28 rfl) rfl
theorem q610 : (Jvm.Cond.methodLinkNest "MissedTrains$Number" (1 : Nat) ({ cls := "MissedTrains$Sum", name := "<init>", desc := "()V" } : Jvm.MethodName) "MissedTrains") ∈ lw_tbl := lw_at lw_m3 29 rfl
theorem q614 : (Jvm.Cond.fieldLink "MissedTrains$Number" (7 : Nat) "MissedTrains$Number" "n" "I") ∈ lw_all := lw_g (lw_at lw_m3 33 rfl) rfl
theorem q615 : (Jvm.Cond.laysFinal "MissedTrains$Number" "MissedTrains$Number" "n" "I") ∈ lw_all := lw_g (lw_at lw_m3 34 rfl) rfl
theorem q616 : (Jvm.Cond.soleField "MissedTrains$Number" "n") ∈ lw_all := lw_g (lw_at lw_m3 35 rfl) rfl
theorem q617 : (Jvm.Cond.superclass "MissedTrains$Number" "MissedTrains$Sum") ∈ lw_all := lw_g (lw_at lw_m3 36 rfl) rfl
theorem q961 : (Jvm.Cond.selects "MissedTrains$Number" ({ cls := "MissedTrains$Sum", name := "worth", desc := "(LMissedTrains$Asked;)I" } : Jvm.MethodName) ({ cls := "MissedTrains$Number", name := "worth", desc := "(LMissedTrains$Asked;)I" } : Jvm.MethodName)) ∈ lw_all := lw_g (lw_at lw_m4 140 rfl) rfl
theorem q962 : (Jvm.Cond.instanceMethod ({ cls := "MissedTrains$Number", name := "worth", desc := "(LMissedTrains$Asked;)I" } : Jvm.MethodName)) ∈ lw_all := lw_g (lw_at lw_m4 141 rfl) rfl
theorem q963 : (Jvm.Cond.code ({ cls := "MissedTrains$Number", name := "worth", desc := "(LMissedTrains$Asked;)I" } : Jvm.MethodName) prog_9_method_2_code (2 : Nat) (Option.some Jvm.ClassFile.FieldType.int)) ∈ lw_all := lw_g (lw_at lw_m4 142 rfl) rfl
theorem q983 : (Jvm.Cond.selects "MissedTrains$Number" ({ cls := "MissedTrains$Sum", name := "told", desc := "(LMissedTrains$Asked;)I" } : Jvm.MethodName) ({ cls := "MissedTrains$Sum", name := "told", desc := "(LMissedTrains$Asked;)I" } : Jvm.MethodName)) ∈ lw_all := lw_g (lw_at lw_m4 162 rfl) rfl
theorem q1832 : (Jvm.Cond.castable "MissedTrains$Number" "MissedTrains$Sum") ∈ lw_tbl := lw_at lw_m8 51 rfl
theorem in_X11 : ∀ w ∈ wsX110, w ∈ lw_all := lw_in wsX110 [615] (by decide +kernel) (by decide +kernel)
/-! MissedTrains$Letter -/
set_option maxRecDepth 100000
def RX12 : String := "MissedTrains$Letter"
def TX12 : u_T := fun k => match k with
  | _ => ("MissedTrains$Letter", "letter", "I", true)
def tyX12 : Nat → FieldType := fun k => match k with
  | _ => .int
abbrev wsX120 : List Cond := u_ws RX12 TX12 1
theorem nmX12 : ∀ a, a < 1 → ∀ b, b < 1 → a ≠ b → (TX12 a).2.1 ≠ (TX12 b).2.1 := by decide +kernel
theorem tyX12_ok : ∀ k, k < 1 → parseFieldDescriptor (TX12 k).2.2.1 = some (tyX12 k) := by decide +kernel
abbrev cX12_init : ByteArray := prog_6_method_1_code
def yX12_init : MethodName := ⟨RX12, "<init>", "(I)V"⟩
def dkwX12_init_0 : List UInt8 := [42, 183, 0, 1, 42, 27, 181, 0, 7, 177]
abbrev dktX12_init_0 : List UInt8 := dkwX12_init_0 ++ []
theorem dksX12_init_0 : cX12_init.data.toList.drop 0 = dktX12_init_0 := by decide +kernel
theorem dX12_init_0 : decode cX12_init 0 = .ok (.aload_n 0, 1) := dk_42 (dk_at dksX12_init_0 0 rfl rfl)
theorem dX12_init_1 : decode cX12_init 1 = .ok (.invokespecial 1, 3) := dk_183 0 1 (dk_at dksX12_init_0 1 rfl rfl)
theorem dX12_init_4 : decode cX12_init 4 = .ok (.aload_n 0, 1) := dk_42 (dk_at dksX12_init_0 4 rfl rfl)
theorem dX12_init_5 : decode cX12_init 5 = .ok (.iload_n 1, 1) := dk_27 (dk_at dksX12_init_0 5 rfl rfl)
theorem dX12_init_6 : decode cX12_init 6 = .ok (.putfield 7, 3) := dk_181 0 7 (dk_at dksX12_init_0 6 rfl rfl)
theorem dX12_init_9 : decode cX12_init 9 = .ok (.return_, 1) := dk_177 (dk_at dksX12_init_0 9 rfl rfl)
abbrev cX12_worth : ByteArray := prog_6_method_2_code
def yX12_worth : MethodName := ⟨RX12, "worth", "(LMissedTrains$Asked;)I"⟩
def dkwX12_worth_0 : List UInt8 := [43, 42, 180, 0, 7, 182, 0, 13, 172]
abbrev dktX12_worth_0 : List UInt8 := dkwX12_worth_0 ++ []
theorem dksX12_worth_0 : cX12_worth.data.toList.drop 0 = dktX12_worth_0 := by decide +kernel
theorem dX12_worth_0 : decode cX12_worth 0 = .ok (.aload_n 1, 1) := dk_43 (dk_at dksX12_worth_0 0 rfl rfl)
theorem dX12_worth_1 : decode cX12_worth 1 = .ok (.aload_n 0, 1) := dk_42 (dk_at dksX12_worth_0 1 rfl rfl)
theorem dX12_worth_2 : decode cX12_worth 2 = .ok (.getfield 7, 3) := dk_180 0 7 (dk_at dksX12_worth_0 2 rfl rfl)
theorem dX12_worth_5 : decode cX12_worth 5 = .ok (.invokevirtual 13, 3) := dk_182 0 13 (dk_at dksX12_worth_0 5 rfl rfl)
theorem dX12_worth_8 : decode cX12_worth 8 = .ok (.ireturn, 1) := dk_172 (dk_at dksX12_worth_0 8 rfl rfl)
theorem q120 : (Jvm.Cond.initialized "MissedTrains$Letter") ∈ lw_all := lw_g (lw_at lw_m1 19 rfl) rfl
theorem q620 : (Jvm.Cond.instantiable "MissedTrains$Letter" (1 : Nat)) ∈ lw_all := lw_g (lw_at lw_m3 39 rfl) rfl
theorem q622 : (Jvm.Cond.instanceMethod ({ cls := "MissedTrains$Letter", name := "<init>", desc := "(I)V" } : Jvm.MethodName)) ∈ lw_all := lw_g (lw_at lw_m3 41 rfl) rfl
theorem q623 : (Jvm.Cond.code ({ cls := "MissedTrains$Letter", name := "<init>", desc := "(I)V" } : Jvm.MethodName) prog_6_method_1_code (2 : Nat) (Option.none : Option Jvm.ClassFile.FieldType)) ∈ lw_all := lw_g (lw_at lw_m3 42 rfl) rfl
theorem q624 : (Jvm.Cond.methodLinkNest "MissedTrains$Letter" (1 : Nat) ({ cls := "MissedTrains$Sum", name := "<init>", desc := "()V" } : Jvm.MethodName) "MissedTrains") ∈ lw_tbl := lw_at lw_m3 43 rfl
theorem q625 : (Jvm.Cond.fieldLink "MissedTrains$Letter" (7 : Nat) "MissedTrains$Letter" "letter" "I") ∈ lw_all := lw_g (lw_at lw_m3 44 rfl) rfl
theorem q626 : (Jvm.Cond.laysFinal "MissedTrains$Letter" "MissedTrains$Letter" "letter" "I") ∈ lw_all := lw_g (lw_at lw_m3 45 rfl) rfl
theorem q627 : (Jvm.Cond.soleField "MissedTrains$Letter" "letter") ∈ lw_all := lw_g (lw_at lw_m3 46 rfl) rfl
theorem q628 : (Jvm.Cond.superclass "MissedTrains$Letter" "MissedTrains$Sum") ∈ lw_all := lw_g (lw_at lw_m3 47 rfl) rfl
theorem q952 : (Jvm.Cond.selects "MissedTrains$Letter" ({ cls := "MissedTrains$Sum", name := "worth", desc := "(LMissedTrains$Asked;)I" } : Jvm.MethodName) ({ cls := "MissedTrains$Letter", name := "worth", desc := "(LMissedTrains$Asked;)I" } : Jvm.MethodName)) ∈ lw_all := lw_g (lw_at lw_m4 131 rfl) rfl
theorem q953 : (Jvm.Cond.instanceMethod ({ cls := "MissedTrains$Letter", name := "worth", desc := "(LMissedTrains$Asked;)I" } : Jvm.MethodName)) ∈ lw_all := lw_g (lw_at lw_m4 132 rfl) rfl
theorem q954 : (Jvm.Cond.code ({ cls := "MissedTrains$Letter", name := "worth", desc := "(LMissedTrains$Asked;)I" } : Jvm.MethodName) prog_6_method_2_code (2 : Nat) (Option.some Jvm.ClassFile.FieldType.int)) ∈ lw_all := lw_g (lw_at lw_m4 133 rfl) rfl
theorem q955 : (Jvm.Cond.methodLink "MissedTrains$Letter" (13 : Nat) ({ cls := "MissedTrains$Asked", name := "value", desc := "(I)I" } : Jvm.MethodName)) ∈ lw_all := lw_g (lw_at lw_m4 134 rfl) rfl
theorem q982 : (Jvm.Cond.selects "MissedTrains$Letter" ({ cls := "MissedTrains$Sum", name := "told", desc := "(LMissedTrains$Asked;)I" } : Jvm.MethodName) ({ cls := "MissedTrains$Sum", name := "told", desc := "(LMissedTrains$Asked;)I" } : Jvm.MethodName)) ∈ lw_all := lw_g (lw_at lw_m4 161 rfl) rfl
theorem q1833 : (Jvm.Cond.castable "MissedTrains$Letter" "MissedTrains$Sum") ∈ lw_tbl := lw_at lw_m8 52 rfl
theorem in_X12 : ∀ w ∈ wsX120, w ∈ lw_all := lw_in wsX120 [626] (by decide +kernel) (by decide +kernel)
/-! MissedTrains$Condition -/
set_option maxRecDepth 100000
def RX13 : String := "MissedTrains$Condition"
abbrev cX13_init : ByteArray := prog_5_method_1_code
def yX13_init : MethodName := ⟨RX13, "<init>", "()V"⟩
theorem dX13_init_0 : decode cX13_init 0 = .ok (.aload_n 0, 1) := by decide +kernel
theorem dX13_init_1 : decode cX13_init 1 = .ok (.invokespecial 1, 3) := by decide +kernel
theorem dX13_init_4 : decode cX13_init 4 = .ok (.return_, 1) := by decide +kernel
theorem q121 : (Jvm.Cond.initialized "MissedTrains$Condition") ∈ lw_all := lw_g (lw_at lw_m1 20 rfl) rfl
theorem q664 : (Jvm.Cond.instanceMethod ({ cls := "MissedTrains$Condition", name := "<init>", desc := "()V" } : Jvm.MethodName)) ∈ lw_all := lw_g (lw_at lw_m3 83 rfl) rfl
theorem q665 : (Jvm.Cond.code ({ cls := "MissedTrains$Condition", name := "<init>", desc := "()V" } : Jvm.MethodName) prog_5_method_1_code (1 : Nat) (Option.none : Option Jvm.ClassFile.FieldType)) ∈ lw_all := lw_g (lw_at lw_m3 84 rfl) rfl
theorem q666 : (Jvm.Cond.methodLink "MissedTrains$Condition" (1 : Nat) ({ cls := "java/lang/Object", name := "<init>", desc := "()V" } : Jvm.MethodName)) ∈ lw_all := lw_g (lw_at lw_m3 85 rfl) rfl
theorem q944 : (Jvm.Cond.declares ({ cls := "MissedTrains$Condition", name := "holds", desc := "(LMissedTrains$Asked;)I" } : Jvm.MethodName)) ∈ lw_tbl := lw_at lw_m4 123 rfl
theorem q945 : (Jvm.Cond.sameMethod "MissedTrains$Condition" "MissedTrains$Condition" "holds" "(LMissedTrains$Asked;)I") ∈ lw_all := lw_g (lw_at lw_m4 124 rfl) rfl
/-! MissedTrains$Some -/
set_option maxRecDepth 100000
def RX14 : String := "MissedTrains$Some"
def TX14 : u_T := fun k => match k with
  | 0 => ("MissedTrains$Some", "part", "LMissedTrains$Condition;", true)
  | 1 => ("MissedTrains$Some", "decides", "I", true)
  | _ => ("MissedTrains$Some", "next", "LMissedTrains$Some;", false)
def tyX14 : Nat → FieldType := fun k => match k with
  | 0 => .object "MissedTrains$Condition"
  | 1 => .int
  | _ => .object "MissedTrains$Some"
abbrev wsX140 : List Cond := u_ws RX14 TX14 3
theorem nmX14 : ∀ a, a < 3 → ∀ b, b < 3 → a ≠ b → (TX14 a).2.1 ≠ (TX14 b).2.1 := by decide +kernel
theorem tyX14_ok : ∀ k, k < 3 → parseFieldDescriptor (TX14 k).2.2.1 = some (tyX14 k) := by decide +kernel
abbrev cX14_init : ByteArray := prog_16_method_1_code
def yX14_init : MethodName := ⟨RX14, "<init>", "(LMissedTrains$Condition;I)V"⟩
def dkwX14_init_0 : List UInt8 := [42, 183, 0, 1, 42, 43, 181, 0, 7, 42, 28, 181, 0, 13, 177]
abbrev dktX14_init_0 : List UInt8 := dkwX14_init_0 ++ []
theorem dksX14_init_0 : cX14_init.data.toList.drop 0 = dktX14_init_0 := by decide +kernel
theorem dX14_init_0 : decode cX14_init 0 = .ok (.aload_n 0, 1) := dk_42 (dk_at dksX14_init_0 0 rfl rfl)
theorem dX14_init_1 : decode cX14_init 1 = .ok (.invokespecial 1, 3) := dk_183 0 1 (dk_at dksX14_init_0 1 rfl rfl)
theorem dX14_init_4 : decode cX14_init 4 = .ok (.aload_n 0, 1) := dk_42 (dk_at dksX14_init_0 4 rfl rfl)
theorem dX14_init_5 : decode cX14_init 5 = .ok (.aload_n 1, 1) := dk_43 (dk_at dksX14_init_0 5 rfl rfl)
theorem dX14_init_6 : decode cX14_init 6 = .ok (.putfield 7, 3) := dk_181 0 7 (dk_at dksX14_init_0 6 rfl rfl)
theorem dX14_init_9 : decode cX14_init 9 = .ok (.aload_n 0, 1) := dk_42 (dk_at dksX14_init_0 9 rfl rfl)
theorem dX14_init_10 : decode cX14_init 10 = .ok (.iload_n 2, 1) := dk_28 (dk_at dksX14_init_0 10 rfl rfl)
theorem dX14_init_11 : decode cX14_init 11 = .ok (.putfield 13, 3) := dk_181 0 13 (dk_at dksX14_init_0 11 rfl rfl)
theorem dX14_init_14 : decode cX14_init 14 = .ok (.return_, 1) := dk_177 (dk_at dksX14_init_0 14 rfl rfl)
abbrev cX14_holds : ByteArray := prog_16_method_2_code
def yX14_holds : MethodName := ⟨RX14, "holds", "(LMissedTrains$Asked;)I"⟩
def dkwX14_holds_1 : List UInt8 := [180, 0, 13, 160, 0, 5, 29, 172, 44, 180, 0, 21, 77, 167, 255, 223, 4, 42, 180, 0, 13, 100, 172]
abbrev dktX14_holds_1 : List UInt8 := dkwX14_holds_1 ++ []
def dkwX14_holds_0 : List UInt8 := [42, 77, 44, 198, 0, 35, 44, 180, 0, 7, 43, 182, 0, 17, 62, 29, 5, 159, 0, 11, 29, 42]
abbrev dktX14_holds_0 : List UInt8 := dkwX14_holds_0 ++ dktX14_holds_1
theorem dksX14_holds_0 : cX14_holds.data.toList.drop 0 = dktX14_holds_0 := by decide +kernel
theorem dksX14_holds_1 : cX14_holds.data.toList.drop 22 = dktX14_holds_1 := dk_seg dksX14_holds_0 22 rfl rfl
theorem dX14_holds_0 : decode cX14_holds 0 = .ok (.aload_n 0, 1) := dk_42 (dk_at dksX14_holds_0 0 rfl rfl)
theorem dX14_holds_1 : decode cX14_holds 1 = .ok (.astore_n 2, 1) := dk_77 (dk_at dksX14_holds_0 1 rfl rfl)
theorem dX14_holds_2 : decode cX14_holds 2 = .ok (.aload_n 2, 1) := dk_44 (dk_at dksX14_holds_0 2 rfl rfl)
theorem dX14_holds_3 : decode cX14_holds 3 = .ok (.ifnull 35, 3) := dk_198 0 35 (dk_at dksX14_holds_0 3 rfl rfl)
theorem dX14_holds_6 : decode cX14_holds 6 = .ok (.aload_n 2, 1) := dk_44 (dk_at dksX14_holds_0 6 rfl rfl)
theorem dX14_holds_7 : decode cX14_holds 7 = .ok (.getfield 7, 3) := dk_180 0 7 (dk_at dksX14_holds_0 7 rfl rfl)
theorem dX14_holds_10 : decode cX14_holds 10 = .ok (.aload_n 1, 1) := dk_43 (dk_at dksX14_holds_0 10 rfl rfl)
theorem dX14_holds_11 : decode cX14_holds 11 = .ok (.invokevirtual 17, 3) := dk_182 0 17 (dk_at dksX14_holds_0 11 rfl rfl)
theorem dX14_holds_14 : decode cX14_holds 14 = .ok (.istore_n 3, 1) := dk_62 (dk_at dksX14_holds_0 14 rfl rfl)
theorem dX14_holds_15 : decode cX14_holds 15 = .ok (.iload_n 3, 1) := dk_29 (dk_at dksX14_holds_0 15 rfl rfl)
theorem dX14_holds_16 : decode cX14_holds 16 = .ok (.iconst 2, 1) := dk_5 (dk_at dksX14_holds_0 16 rfl rfl)
theorem dX14_holds_17 : decode cX14_holds 17 = .ok (.if_icmp .eq 11, 3) := dk_159 0 11 (dk_at dksX14_holds_0 17 rfl rfl)
theorem dX14_holds_20 : decode cX14_holds 20 = .ok (.iload_n 3, 1) := dk_29 (dk_at dksX14_holds_0 20 rfl rfl)
theorem dX14_holds_21 : decode cX14_holds 21 = .ok (.aload_n 0, 1) := dk_42 (dk_at dksX14_holds_0 21 rfl rfl)
theorem dX14_holds_22 : decode cX14_holds 22 = .ok (.getfield 13, 3) := dk_180 0 13 (dk_at dksX14_holds_1 0 rfl rfl)
theorem dX14_holds_25 : decode cX14_holds 25 = .ok (.if_icmp .ne 5, 3) := dk_160 0 5 (dk_at dksX14_holds_1 3 rfl rfl)
theorem dX14_holds_28 : decode cX14_holds 28 = .ok (.iload_n 3, 1) := dk_29 (dk_at dksX14_holds_1 6 rfl rfl)
theorem dX14_holds_29 : decode cX14_holds 29 = .ok (.ireturn, 1) := dk_172 (dk_at dksX14_holds_1 7 rfl rfl)
theorem dX14_holds_30 : decode cX14_holds 30 = .ok (.aload_n 2, 1) := dk_44 (dk_at dksX14_holds_1 8 rfl rfl)
theorem dX14_holds_31 : decode cX14_holds 31 = .ok (.getfield 21, 3) := dk_180 0 21 (dk_at dksX14_holds_1 9 rfl rfl)
theorem dX14_holds_34 : decode cX14_holds 34 = .ok (.astore_n 2, 1) := dk_77 (dk_at dksX14_holds_1 12 rfl rfl)
theorem dX14_holds_35 : decode cX14_holds 35 = .ok (.goto (-33), 3) := dk_167 255 223 (dk_at dksX14_holds_1 13 rfl rfl)
theorem dX14_holds_38 : decode cX14_holds 38 = .ok (.iconst 1, 1) := dk_4 (dk_at dksX14_holds_1 16 rfl rfl)
theorem dX14_holds_39 : decode cX14_holds 39 = .ok (.aload_n 0, 1) := dk_42 (dk_at dksX14_holds_1 17 rfl rfl)
theorem dX14_holds_40 : decode cX14_holds 40 = .ok (.getfield 13, 3) := dk_180 0 13 (dk_at dksX14_holds_1 18 rfl rfl)
theorem dX14_holds_43 : decode cX14_holds 43 = .ok (.isub, 1) := dk_100 (dk_at dksX14_holds_1 21 rfl rfl)
theorem dX14_holds_44 : decode cX14_holds 44 = .ok (.ireturn, 1) := dk_172 (dk_at dksX14_holds_1 22 rfl rfl)
theorem q122 : (Jvm.Cond.initialized "MissedTrains$Some") ∈ lw_all := lw_g (lw_at lw_m1 21 rfl) rfl
theorem q649 : (Jvm.Cond.instantiable "MissedTrains$Some" (3 : Nat)) ∈ lw_all := lw_g (lw_at lw_m3 68 rfl) rfl
theorem q688 : (Jvm.Cond.instanceMethod ({ cls := "MissedTrains$Some", name := "<init>", desc := "(LMissedTrains$Condition;I)V" } : Jvm.MethodName)) ∈ lw_all := lw_g (lw_at lw_m3 107 rfl) rfl
theorem q689 : (Jvm.Cond.code ({ cls := "MissedTrains$Some", name := "<init>", desc := "(LMissedTrains$Condition;I)V" } : Jvm.MethodName) prog_16_method_1_code (3 : Nat) (Option.none : Option Jvm.ClassFile.FieldType)) ∈ lw_all := lw_g (lw_at lw_m3 108 rfl) rfl
theorem q690 : (Jvm.Cond.methodLinkNest "MissedTrains$Some" (1 : Nat) ({ cls := "MissedTrains$Condition", name := "<init>", desc := "()V" } : Jvm.MethodName) "MissedTrains") ∈ lw_tbl := lw_at lw_m3 109 rfl
theorem q691 : (Jvm.Cond.fieldLink "MissedTrains$Some" (7 : Nat) "MissedTrains$Some" "part" "LMissedTrains$Condition;") ∈ lw_all := lw_g (lw_at lw_m3 110 rfl) rfl
theorem q692 : (Jvm.Cond.fieldLink "MissedTrains$Some" (13 : Nat) "MissedTrains$Some" "decides" "I") ∈ lw_all := lw_g (lw_at lw_m3 111 rfl) rfl
theorem q693 : (Jvm.Cond.fieldLink "MissedTrains$Some" (21 : Nat) "MissedTrains$Some" "next" "LMissedTrains$Some;") ∈ lw_all := lw_g (lw_at lw_m3 112 rfl) rfl
theorem q695 : (Jvm.Cond.laysFinal "MissedTrains$Some" "MissedTrains$Some" "part" "LMissedTrains$Condition;") ∈ lw_all := lw_g (lw_at lw_m3 114 rfl) rfl
theorem q696 : (Jvm.Cond.soleField "MissedTrains$Some" "part") ∈ lw_all := lw_g (lw_at lw_m3 115 rfl) rfl
theorem q697 : (Jvm.Cond.laysFinal "MissedTrains$Some" "MissedTrains$Some" "decides" "I") ∈ lw_all := lw_g (lw_at lw_m3 116 rfl) rfl
theorem q698 : (Jvm.Cond.soleField "MissedTrains$Some" "decides") ∈ lw_all := lw_g (lw_at lw_m3 117 rfl) rfl
theorem q699 : (Jvm.Cond.lays "MissedTrains$Some" "MissedTrains$Some" "next" "LMissedTrains$Some;") ∈ lw_all := lw_g (lw_at lw_m3 118 rfl) rfl
theorem q700 : (Jvm.Cond.soleField "MissedTrains$Some" "next") ∈ lw_all := lw_g (lw_at lw_m3 119 rfl) rfl
theorem q701 : (Jvm.Cond.superclass "MissedTrains$Some" "MissedTrains$Condition") ∈ lw_all := lw_g (lw_at lw_m3 120 rfl) rfl
theorem q975 : (Jvm.Cond.instanceMethod ({ cls := "MissedTrains$Some", name := "holds", desc := "(LMissedTrains$Asked;)I" } : Jvm.MethodName)) ∈ lw_all := lw_g (lw_at lw_m4 154 rfl) rfl
theorem q976 : (Jvm.Cond.code ({ cls := "MissedTrains$Some", name := "holds", desc := "(LMissedTrains$Asked;)I" } : Jvm.MethodName) prog_16_method_2_code (4 : Nat) (Option.some Jvm.ClassFile.FieldType.int)) ∈ lw_all := lw_g (lw_at lw_m4 155 rfl) rfl
theorem q977 : (Jvm.Cond.methodLink "MissedTrains$Some" (17 : Nat) ({ cls := "MissedTrains$Condition", name := "holds", desc := "(LMissedTrains$Asked;)I" } : Jvm.MethodName)) ∈ lw_all := lw_g (lw_at lw_m4 156 rfl) rfl
theorem q978 : (Jvm.Cond.selects "MissedTrains$Some" ({ cls := "MissedTrains$Condition", name := "holds", desc := "(LMissedTrains$Asked;)I" } : Jvm.MethodName) ({ cls := "MissedTrains$Some", name := "holds", desc := "(LMissedTrains$Asked;)I" } : Jvm.MethodName)) ∈ lw_all := lw_g (lw_at lw_m4 157 rfl) rfl
theorem q1834 : (Jvm.Cond.castable "MissedTrains$Some" "MissedTrains$Condition") ∈ lw_tbl := lw_at lw_m8 53 rfl
theorem in_X14 : ∀ w ∈ wsX140, w ∈ lw_all := lw_in wsX140 [695, 697, 699] (by decide +kernel) (by decide +kernel)
/-! MissedTrains$Not -/
set_option maxRecDepth 100000
def RX15 : String := "MissedTrains$Not"
def TX15 : u_T := fun k => match k with
  | _ => ("MissedTrains$Not", "x", "LMissedTrains$Condition;", true)
def tyX15 : Nat → FieldType := fun k => match k with
  | _ => .object "MissedTrains$Condition"
abbrev wsX150 : List Cond := u_ws RX15 TX15 1
theorem nmX15 : ∀ a, a < 1 → ∀ b, b < 1 → a ≠ b → (TX15 a).2.1 ≠ (TX15 b).2.1 := by decide +kernel
theorem tyX15_ok : ∀ k, k < 1 → parseFieldDescriptor (TX15 k).2.2.1 = some (tyX15 k) := by decide +kernel
abbrev cX15_init : ByteArray := prog_8_method_1_code
def yX15_init : MethodName := ⟨RX15, "<init>", "(LMissedTrains$Condition;)V"⟩
def dkwX15_init_0 : List UInt8 := [42, 183, 0, 1, 42, 43, 181, 0, 7, 177]
abbrev dktX15_init_0 : List UInt8 := dkwX15_init_0 ++ []
theorem dksX15_init_0 : cX15_init.data.toList.drop 0 = dktX15_init_0 := by decide +kernel
theorem dX15_init_0 : decode cX15_init 0 = .ok (.aload_n 0, 1) := dk_42 (dk_at dksX15_init_0 0 rfl rfl)
theorem dX15_init_1 : decode cX15_init 1 = .ok (.invokespecial 1, 3) := dk_183 0 1 (dk_at dksX15_init_0 1 rfl rfl)
theorem dX15_init_4 : decode cX15_init 4 = .ok (.aload_n 0, 1) := dk_42 (dk_at dksX15_init_0 4 rfl rfl)
theorem dX15_init_5 : decode cX15_init 5 = .ok (.aload_n 1, 1) := dk_43 (dk_at dksX15_init_0 5 rfl rfl)
theorem dX15_init_6 : decode cX15_init 6 = .ok (.putfield 7, 3) := dk_181 0 7 (dk_at dksX15_init_0 6 rfl rfl)
theorem dX15_init_9 : decode cX15_init 9 = .ok (.return_, 1) := dk_177 (dk_at dksX15_init_0 9 rfl rfl)
abbrev cX15_holds : ByteArray := prog_8_method_2_code
def yX15_holds : MethodName := ⟨RX15, "holds", "(LMissedTrains$Asked;)I"⟩
def dkwX15_holds_0 : List UInt8 := [42, 180, 0, 7, 43, 182, 0, 13, 61, 28, 5, 160, 0, 7, 5, 167, 0, 6, 4, 28, 100, 172]
abbrev dktX15_holds_0 : List UInt8 := dkwX15_holds_0 ++ []
theorem dksX15_holds_0 : cX15_holds.data.toList.drop 0 = dktX15_holds_0 := by decide +kernel
theorem dX15_holds_0 : decode cX15_holds 0 = .ok (.aload_n 0, 1) := dk_42 (dk_at dksX15_holds_0 0 rfl rfl)
theorem dX15_holds_1 : decode cX15_holds 1 = .ok (.getfield 7, 3) := dk_180 0 7 (dk_at dksX15_holds_0 1 rfl rfl)
theorem dX15_holds_4 : decode cX15_holds 4 = .ok (.aload_n 1, 1) := dk_43 (dk_at dksX15_holds_0 4 rfl rfl)
theorem dX15_holds_5 : decode cX15_holds 5 = .ok (.invokevirtual 13, 3) := dk_182 0 13 (dk_at dksX15_holds_0 5 rfl rfl)
theorem dX15_holds_8 : decode cX15_holds 8 = .ok (.istore_n 2, 1) := dk_61 (dk_at dksX15_holds_0 8 rfl rfl)
theorem dX15_holds_9 : decode cX15_holds 9 = .ok (.iload_n 2, 1) := dk_28 (dk_at dksX15_holds_0 9 rfl rfl)
theorem dX15_holds_10 : decode cX15_holds 10 = .ok (.iconst 2, 1) := dk_5 (dk_at dksX15_holds_0 10 rfl rfl)
theorem dX15_holds_11 : decode cX15_holds 11 = .ok (.if_icmp .ne 7, 3) := dk_160 0 7 (dk_at dksX15_holds_0 11 rfl rfl)
theorem dX15_holds_14 : decode cX15_holds 14 = .ok (.iconst 2, 1) := dk_5 (dk_at dksX15_holds_0 14 rfl rfl)
theorem dX15_holds_15 : decode cX15_holds 15 = .ok (.goto 6, 3) := dk_167 0 6 (dk_at dksX15_holds_0 15 rfl rfl)
theorem dX15_holds_18 : decode cX15_holds 18 = .ok (.iconst 1, 1) := dk_4 (dk_at dksX15_holds_0 18 rfl rfl)
theorem dX15_holds_19 : decode cX15_holds 19 = .ok (.iload_n 2, 1) := dk_28 (dk_at dksX15_holds_0 19 rfl rfl)
theorem dX15_holds_20 : decode cX15_holds 20 = .ok (.isub, 1) := dk_100 (dk_at dksX15_holds_0 20 rfl rfl)
theorem dX15_holds_21 : decode cX15_holds 21 = .ok (.ireturn, 1) := dk_172 (dk_at dksX15_holds_0 21 rfl rfl)
theorem q123 : (Jvm.Cond.initialized "MissedTrains$Not") ∈ lw_all := lw_g (lw_at lw_m1 22 rfl) rfl
theorem q659 : (Jvm.Cond.instantiable "MissedTrains$Not" (1 : Nat)) ∈ lw_all := lw_g (lw_at lw_m3 78 rfl) rfl
theorem q661 : (Jvm.Cond.instanceMethod ({ cls := "MissedTrains$Not", name := "<init>", desc := "(LMissedTrains$Condition;)V" } : Jvm.MethodName)) ∈ lw_all := lw_g (lw_at lw_m3 80 rfl) rfl
theorem q662 : (Jvm.Cond.code ({ cls := "MissedTrains$Not", name := "<init>", desc := "(LMissedTrains$Condition;)V" } : Jvm.MethodName) prog_8_method_1_code (2 : Nat) (Option.none : Option Jvm.ClassFile.FieldType)) ∈ lw_all := lw_g (lw_at lw_m3 81 rfl) rfl
theorem q663 : (Jvm.Cond.methodLinkNest "MissedTrains$Not" (1 : Nat) ({ cls := "MissedTrains$Condition", name := "<init>", desc := "()V" } : Jvm.MethodName) "MissedTrains") ∈ lw_tbl := lw_at lw_m3 82 rfl
theorem q667 : (Jvm.Cond.fieldLink "MissedTrains$Not" (7 : Nat) "MissedTrains$Not" "x" "LMissedTrains$Condition;") ∈ lw_all := lw_g (lw_at lw_m3 86 rfl) rfl
theorem q668 : (Jvm.Cond.laysFinal "MissedTrains$Not" "MissedTrains$Not" "x" "LMissedTrains$Condition;") ∈ lw_all := lw_g (lw_at lw_m3 87 rfl) rfl
theorem q669 : (Jvm.Cond.soleField "MissedTrains$Not" "x") ∈ lw_all := lw_g (lw_at lw_m3 88 rfl) rfl
theorem q670 : (Jvm.Cond.superclass "MissedTrains$Not" "MissedTrains$Condition") ∈ lw_all := lw_g (lw_at lw_m3 89 rfl) rfl
theorem q971 : (Jvm.Cond.selects "MissedTrains$Not" ({ cls := "MissedTrains$Condition", name := "holds", desc := "(LMissedTrains$Asked;)I" } : Jvm.MethodName) ({ cls := "MissedTrains$Not", name := "holds", desc := "(LMissedTrains$Asked;)I" } : Jvm.MethodName)) ∈ lw_all := lw_g (lw_at lw_m4 150 rfl) rfl
theorem q972 : (Jvm.Cond.instanceMethod ({ cls := "MissedTrains$Not", name := "holds", desc := "(LMissedTrains$Asked;)I" } : Jvm.MethodName)) ∈ lw_all := lw_g (lw_at lw_m4 151 rfl) rfl
theorem q973 : (Jvm.Cond.code ({ cls := "MissedTrains$Not", name := "holds", desc := "(LMissedTrains$Asked;)I" } : Jvm.MethodName) prog_8_method_2_code (3 : Nat) (Option.some Jvm.ClassFile.FieldType.int)) ∈ lw_all := lw_g (lw_at lw_m4 152 rfl) rfl
theorem q974 : (Jvm.Cond.methodLink "MissedTrains$Not" (13 : Nat) ({ cls := "MissedTrains$Condition", name := "holds", desc := "(LMissedTrains$Asked;)I" } : Jvm.MethodName)) ∈ lw_all := lw_g (lw_at lw_m4 153 rfl) rfl
theorem q1835 : (Jvm.Cond.castable "MissedTrains$Not" "MissedTrains$Condition") ∈ lw_tbl := lw_at lw_m8 54 rfl
theorem in_X15 : ∀ w ∈ wsX150, w ∈ lw_all := lw_in wsX150 [668] (by decide +kernel) (by decide +kernel)
/-! MissedTrains$Compared -/
set_option maxRecDepth 100000
def RX16 : String := "MissedTrains$Compared"
def TX16 : u_T := fun k => match k with
  | 0 => ("MissedTrains$Compared", "x", "LMissedTrains$Sum;", true)
  | 1 => ("MissedTrains$Compared", "y", "LMissedTrains$Sum;", true)
  | _ => ("MissedTrains$Compared", "sign", "I", true)
def tyX16 : Nat → FieldType := fun k => match k with
  | 0 => .object "MissedTrains$Sum"
  | 1 => .object "MissedTrains$Sum"
  | _ => .int
abbrev wsX160 : List Cond := u_ws RX16 TX16 3
theorem nmX16 : ∀ a, a < 3 → ∀ b, b < 3 → a ≠ b → (TX16 a).2.1 ≠ (TX16 b).2.1 := by decide +kernel
theorem tyX16_ok : ∀ k, k < 3 → parseFieldDescriptor (TX16 k).2.2.1 = some (tyX16 k) := by decide +kernel
abbrev cX16_init : ByteArray := prog_4_method_1_code
def yX16_init : MethodName := ⟨RX16, "<init>", "(LMissedTrains$Sum;ILMissedTrains$Sum;)V"⟩
def dkwX16_init_0 : List UInt8 := [42, 183, 0, 1, 42, 43, 181, 0, 7, 42, 28, 181, 0, 13, 42, 45, 181, 0, 17, 177]
abbrev dktX16_init_0 : List UInt8 := dkwX16_init_0 ++ []
theorem dksX16_init_0 : cX16_init.data.toList.drop 0 = dktX16_init_0 := by decide +kernel
theorem dX16_init_0 : decode cX16_init 0 = .ok (.aload_n 0, 1) := dk_42 (dk_at dksX16_init_0 0 rfl rfl)
theorem dX16_init_1 : decode cX16_init 1 = .ok (.invokespecial 1, 3) := dk_183 0 1 (dk_at dksX16_init_0 1 rfl rfl)
theorem dX16_init_4 : decode cX16_init 4 = .ok (.aload_n 0, 1) := dk_42 (dk_at dksX16_init_0 4 rfl rfl)
theorem dX16_init_5 : decode cX16_init 5 = .ok (.aload_n 1, 1) := dk_43 (dk_at dksX16_init_0 5 rfl rfl)
theorem dX16_init_6 : decode cX16_init 6 = .ok (.putfield 7, 3) := dk_181 0 7 (dk_at dksX16_init_0 6 rfl rfl)
theorem dX16_init_9 : decode cX16_init 9 = .ok (.aload_n 0, 1) := dk_42 (dk_at dksX16_init_0 9 rfl rfl)
theorem dX16_init_10 : decode cX16_init 10 = .ok (.iload_n 2, 1) := dk_28 (dk_at dksX16_init_0 10 rfl rfl)
theorem dX16_init_11 : decode cX16_init 11 = .ok (.putfield 13, 3) := dk_181 0 13 (dk_at dksX16_init_0 11 rfl rfl)
theorem dX16_init_14 : decode cX16_init 14 = .ok (.aload_n 0, 1) := dk_42 (dk_at dksX16_init_0 14 rfl rfl)
theorem dX16_init_15 : decode cX16_init 15 = .ok (.aload_n 3, 1) := dk_45 (dk_at dksX16_init_0 15 rfl rfl)
theorem dX16_init_16 : decode cX16_init 16 = .ok (.putfield 17, 3) := dk_181 0 17 (dk_at dksX16_init_0 16 rfl rfl)
theorem dX16_init_19 : decode cX16_init 19 = .ok (.return_, 1) := dk_177 (dk_at dksX16_init_0 19 rfl rfl)
abbrev cX16_holds : ByteArray := prog_4_method_2_code
def yX16_holds : MethodName := ⟨RX16, "holds", "(LMissedTrains$Asked;)I"⟩
def dkwX16_holds_4 : List UInt8 := [153, 0, 7, 4, 167, 0, 4, 3, 172]
abbrev dktX16_holds_4 : List UInt8 := dkwX16_holds_4 ++ []
def dkwX16_holds_3 : List UInt8 := [160, 0, 7, 4, 167, 0, 4, 3, 54, 4, 43, 180, 0, 20, 153, 0, 7, 5, 167, 0, 13, 21, 4]
abbrev dktX16_holds_3 : List UInt8 := dkwX16_holds_3 ++ dktX16_holds_4
def dkwX16_holds_2 : List UInt8 := [180, 0, 13, 16, 62, 160, 0, 16, 28, 29, 164, 0, 7, 4, 167, 0, 17, 3, 167, 0, 13, 28, 29]
abbrev dktX16_holds_2 : List UInt8 := dkwX16_holds_2 ++ dktX16_holds_3
def dkwX16_holds_1 : List UInt8 := [180, 0, 13, 16, 60, 160, 0, 16, 28, 29, 162, 0, 7, 4, 167, 0, 39, 3, 167, 0, 35, 42]
abbrev dktX16_holds_1 : List UInt8 := dkwX16_holds_1 ++ dktX16_holds_2
def dkwX16_holds_0 : List UInt8 := [43, 3, 181, 0, 20, 42, 180, 0, 7, 43, 182, 0, 26, 61, 42, 180, 0, 17, 43, 182, 0, 26, 62, 42]
abbrev dktX16_holds_0 : List UInt8 := dkwX16_holds_0 ++ dktX16_holds_1
theorem dksX16_holds_0 : cX16_holds.data.toList.drop 0 = dktX16_holds_0 := by decide +kernel
theorem dksX16_holds_1 : cX16_holds.data.toList.drop 24 = dktX16_holds_1 := dk_seg dksX16_holds_0 24 rfl rfl
theorem dksX16_holds_2 : cX16_holds.data.toList.drop 46 = dktX16_holds_2 := dk_seg dksX16_holds_1 22 rfl rfl
theorem dksX16_holds_3 : cX16_holds.data.toList.drop 69 = dktX16_holds_3 := dk_seg dksX16_holds_2 23 rfl rfl
theorem dksX16_holds_4 : cX16_holds.data.toList.drop 92 = dktX16_holds_4 := dk_seg dksX16_holds_3 23 rfl rfl
theorem dX16_holds_0 : decode cX16_holds 0 = .ok (.aload_n 1, 1) := dk_43 (dk_at dksX16_holds_0 0 rfl rfl)
theorem dX16_holds_1 : decode cX16_holds 1 = .ok (.iconst 0, 1) := dk_3 (dk_at dksX16_holds_0 1 rfl rfl)
theorem dX16_holds_2 : decode cX16_holds 2 = .ok (.putfield 20, 3) := dk_181 0 20 (dk_at dksX16_holds_0 2 rfl rfl)
theorem dX16_holds_5 : decode cX16_holds 5 = .ok (.aload_n 0, 1) := dk_42 (dk_at dksX16_holds_0 5 rfl rfl)
theorem dX16_holds_6 : decode cX16_holds 6 = .ok (.getfield 7, 3) := dk_180 0 7 (dk_at dksX16_holds_0 6 rfl rfl)
theorem dX16_holds_9 : decode cX16_holds 9 = .ok (.aload_n 1, 1) := dk_43 (dk_at dksX16_holds_0 9 rfl rfl)
theorem dX16_holds_10 : decode cX16_holds 10 = .ok (.invokevirtual 26, 3) := dk_182 0 26 (dk_at dksX16_holds_0 10 rfl rfl)
theorem dX16_holds_13 : decode cX16_holds 13 = .ok (.istore_n 2, 1) := dk_61 (dk_at dksX16_holds_0 13 rfl rfl)
theorem dX16_holds_14 : decode cX16_holds 14 = .ok (.aload_n 0, 1) := dk_42 (dk_at dksX16_holds_0 14 rfl rfl)
theorem dX16_holds_15 : decode cX16_holds 15 = .ok (.getfield 17, 3) := dk_180 0 17 (dk_at dksX16_holds_0 15 rfl rfl)
theorem dX16_holds_18 : decode cX16_holds 18 = .ok (.aload_n 1, 1) := dk_43 (dk_at dksX16_holds_0 18 rfl rfl)
theorem dX16_holds_19 : decode cX16_holds 19 = .ok (.invokevirtual 26, 3) := dk_182 0 26 (dk_at dksX16_holds_0 19 rfl rfl)
theorem dX16_holds_22 : decode cX16_holds 22 = .ok (.istore_n 3, 1) := dk_62 (dk_at dksX16_holds_0 22 rfl rfl)
theorem dX16_holds_23 : decode cX16_holds 23 = .ok (.aload_n 0, 1) := dk_42 (dk_at dksX16_holds_0 23 rfl rfl)
theorem dX16_holds_24 : decode cX16_holds 24 = .ok (.getfield 13, 3) := dk_180 0 13 (dk_at dksX16_holds_1 0 rfl rfl)
theorem dX16_holds_27 : decode cX16_holds 27 = .ok (.bipush 60, 2) := dk_16 60 (dk_at dksX16_holds_1 3 rfl rfl)
theorem dX16_holds_29 : decode cX16_holds 29 = .ok (.if_icmp .ne 16, 3) := dk_160 0 16 (dk_at dksX16_holds_1 5 rfl rfl)
theorem dX16_holds_32 : decode cX16_holds 32 = .ok (.iload_n 2, 1) := dk_28 (dk_at dksX16_holds_1 8 rfl rfl)
theorem dX16_holds_33 : decode cX16_holds 33 = .ok (.iload_n 3, 1) := dk_29 (dk_at dksX16_holds_1 9 rfl rfl)
theorem dX16_holds_34 : decode cX16_holds 34 = .ok (.if_icmp .ge 7, 3) := dk_162 0 7 (dk_at dksX16_holds_1 10 rfl rfl)
theorem dX16_holds_37 : decode cX16_holds 37 = .ok (.iconst 1, 1) := dk_4 (dk_at dksX16_holds_1 13 rfl rfl)
theorem dX16_holds_38 : decode cX16_holds 38 = .ok (.goto 39, 3) := dk_167 0 39 (dk_at dksX16_holds_1 14 rfl rfl)
theorem dX16_holds_41 : decode cX16_holds 41 = .ok (.iconst 0, 1) := dk_3 (dk_at dksX16_holds_1 17 rfl rfl)
theorem dX16_holds_42 : decode cX16_holds 42 = .ok (.goto 35, 3) := dk_167 0 35 (dk_at dksX16_holds_1 18 rfl rfl)
theorem dX16_holds_45 : decode cX16_holds 45 = .ok (.aload_n 0, 1) := dk_42 (dk_at dksX16_holds_1 21 rfl rfl)
theorem dX16_holds_46 : decode cX16_holds 46 = .ok (.getfield 13, 3) := dk_180 0 13 (dk_at dksX16_holds_2 0 rfl rfl)
theorem dX16_holds_49 : decode cX16_holds 49 = .ok (.bipush 62, 2) := dk_16 62 (dk_at dksX16_holds_2 3 rfl rfl)
theorem dX16_holds_51 : decode cX16_holds 51 = .ok (.if_icmp .ne 16, 3) := dk_160 0 16 (dk_at dksX16_holds_2 5 rfl rfl)
theorem dX16_holds_54 : decode cX16_holds 54 = .ok (.iload_n 2, 1) := dk_28 (dk_at dksX16_holds_2 8 rfl rfl)
theorem dX16_holds_55 : decode cX16_holds 55 = .ok (.iload_n 3, 1) := dk_29 (dk_at dksX16_holds_2 9 rfl rfl)
theorem dX16_holds_56 : decode cX16_holds 56 = .ok (.if_icmp .le 7, 3) := dk_164 0 7 (dk_at dksX16_holds_2 10 rfl rfl)
theorem dX16_holds_59 : decode cX16_holds 59 = .ok (.iconst 1, 1) := dk_4 (dk_at dksX16_holds_2 13 rfl rfl)
theorem dX16_holds_60 : decode cX16_holds 60 = .ok (.goto 17, 3) := dk_167 0 17 (dk_at dksX16_holds_2 14 rfl rfl)
theorem dX16_holds_63 : decode cX16_holds 63 = .ok (.iconst 0, 1) := dk_3 (dk_at dksX16_holds_2 17 rfl rfl)
theorem dX16_holds_64 : decode cX16_holds 64 = .ok (.goto 13, 3) := dk_167 0 13 (dk_at dksX16_holds_2 18 rfl rfl)
theorem dX16_holds_67 : decode cX16_holds 67 = .ok (.iload_n 2, 1) := dk_28 (dk_at dksX16_holds_2 21 rfl rfl)
theorem dX16_holds_68 : decode cX16_holds 68 = .ok (.iload_n 3, 1) := dk_29 (dk_at dksX16_holds_2 22 rfl rfl)
theorem dX16_holds_69 : decode cX16_holds 69 = .ok (.if_icmp .ne 7, 3) := dk_160 0 7 (dk_at dksX16_holds_3 0 rfl rfl)
theorem dX16_holds_72 : decode cX16_holds 72 = .ok (.iconst 1, 1) := dk_4 (dk_at dksX16_holds_3 3 rfl rfl)
theorem dX16_holds_73 : decode cX16_holds 73 = .ok (.goto 4, 3) := dk_167 0 4 (dk_at dksX16_holds_3 4 rfl rfl)
theorem dX16_holds_76 : decode cX16_holds 76 = .ok (.iconst 0, 1) := dk_3 (dk_at dksX16_holds_3 7 rfl rfl)
theorem dX16_holds_77 : decode cX16_holds 77 = .ok (.istore 4, 2) := dk_54 4 (dk_at dksX16_holds_3 8 rfl rfl)
theorem dX16_holds_79 : decode cX16_holds 79 = .ok (.aload_n 1, 1) := dk_43 (dk_at dksX16_holds_3 10 rfl rfl)
theorem dX16_holds_80 : decode cX16_holds 80 = .ok (.getfield 20, 3) := dk_180 0 20 (dk_at dksX16_holds_3 11 rfl rfl)
theorem dX16_holds_83 : decode cX16_holds 83 = .ok (.ifCond .eq 7, 3) := dk_153 0 7 (dk_at dksX16_holds_3 14 rfl rfl)
theorem dX16_holds_86 : decode cX16_holds 86 = .ok (.iconst 2, 1) := dk_5 (dk_at dksX16_holds_3 17 rfl rfl)
theorem dX16_holds_87 : decode cX16_holds 87 = .ok (.goto 13, 3) := dk_167 0 13 (dk_at dksX16_holds_3 18 rfl rfl)
theorem dX16_holds_90 : decode cX16_holds 90 = .ok (.iload 4, 2) := dk_21 4 (dk_at dksX16_holds_3 21 rfl rfl)
theorem dX16_holds_92 : decode cX16_holds 92 = .ok (.ifCond .eq 7, 3) := dk_153 0 7 (dk_at dksX16_holds_4 0 rfl rfl)
theorem dX16_holds_95 : decode cX16_holds 95 = .ok (.iconst 1, 1) := dk_4 (dk_at dksX16_holds_4 3 rfl rfl)
theorem dX16_holds_96 : decode cX16_holds 96 = .ok (.goto 4, 3) := dk_167 0 4 (dk_at dksX16_holds_4 4 rfl rfl)
theorem dX16_holds_99 : decode cX16_holds 99 = .ok (.iconst 0, 1) := dk_3 (dk_at dksX16_holds_4 7 rfl rfl)
theorem dX16_holds_100 : decode cX16_holds 100 = .ok (.ireturn, 1) := dk_172 (dk_at dksX16_holds_4 8 rfl rfl)
theorem q124 : (Jvm.Cond.initialized "MissedTrains$Compared") ∈ lw_all := lw_g (lw_at lw_m1 23 rfl) rfl
theorem q156 : (Jvm.Cond.fieldLinkNest "MissedTrains$Compared" (20 : Nat) "MissedTrains$Asked" "isRefused" "Z" "MissedTrains") ∈ lw_tbl := lw_at lw_m1 55 rfl
theorem q672 : (Jvm.Cond.instantiable "MissedTrains$Compared" (3 : Nat)) ∈ lw_all := lw_g (lw_at lw_m3 91 rfl) rfl
theorem q674 : (Jvm.Cond.instanceMethod ({ cls := "MissedTrains$Compared", name := "<init>", desc := "(LMissedTrains$Sum;ILMissedTrains$Sum;)V" } : Jvm.MethodName)) ∈ lw_all := lw_g (lw_at lw_m3 93 rfl) rfl
theorem q675 : (Jvm.Cond.code ({ cls := "MissedTrains$Compared", name := "<init>", desc := "(LMissedTrains$Sum;ILMissedTrains$Sum;)V" } : Jvm.MethodName) prog_4_method_1_code (4 : Nat) (Option.none : Option Jvm.ClassFile.FieldType)) ∈ lw_all := lw_g (lw_at lw_m3 94 rfl) rfl
theorem q676 : (Jvm.Cond.methodLinkNest "MissedTrains$Compared" (1 : Nat) ({ cls := "MissedTrains$Condition", name := "<init>", desc := "()V" } : Jvm.MethodName) "MissedTrains") ∈ lw_tbl := lw_at lw_m3 95 rfl
theorem q677 : (Jvm.Cond.fieldLink "MissedTrains$Compared" (7 : Nat) "MissedTrains$Compared" "x" "LMissedTrains$Sum;") ∈ lw_all := lw_g (lw_at lw_m3 96 rfl) rfl
theorem q678 : (Jvm.Cond.fieldLink "MissedTrains$Compared" (17 : Nat) "MissedTrains$Compared" "y" "LMissedTrains$Sum;") ∈ lw_all := lw_g (lw_at lw_m3 97 rfl) rfl
theorem q679 : (Jvm.Cond.fieldLink "MissedTrains$Compared" (13 : Nat) "MissedTrains$Compared" "sign" "I") ∈ lw_all := lw_g (lw_at lw_m3 98 rfl) rfl
theorem q680 : (Jvm.Cond.laysFinal "MissedTrains$Compared" "MissedTrains$Compared" "x" "LMissedTrains$Sum;") ∈ lw_all := lw_g (lw_at lw_m3 99 rfl) rfl
theorem q681 : (Jvm.Cond.soleField "MissedTrains$Compared" "x") ∈ lw_all := lw_g (lw_at lw_m3 100 rfl) rfl
theorem q682 : (Jvm.Cond.laysFinal "MissedTrains$Compared" "MissedTrains$Compared" "y" "LMissedTrains$Sum;") ∈ lw_all := lw_g (lw_at lw_m3 101 rfl) rfl
theorem q683 : (Jvm.Cond.soleField "MissedTrains$Compared" "y") ∈ lw_all := lw_g (lw_at lw_m3 102 rfl) rfl
theorem q684 : (Jvm.Cond.laysFinal "MissedTrains$Compared" "MissedTrains$Compared" "sign" "I") ∈ lw_all := lw_g (lw_at lw_m3 103 rfl) rfl
theorem q685 : (Jvm.Cond.soleField "MissedTrains$Compared" "sign") ∈ lw_all := lw_g (lw_at lw_m3 104 rfl) rfl
theorem q686 : (Jvm.Cond.superclass "MissedTrains$Compared" "MissedTrains$Condition") ∈ lw_all := lw_g (lw_at lw_m3 105 rfl) rfl
theorem q946 : (Jvm.Cond.selects "MissedTrains$Compared" ({ cls := "MissedTrains$Condition", name := "holds", desc := "(LMissedTrains$Asked;)I" } : Jvm.MethodName) ({ cls := "MissedTrains$Compared", name := "holds", desc := "(LMissedTrains$Asked;)I" } : Jvm.MethodName)) ∈ lw_all := lw_g (lw_at lw_m4 125 rfl) rfl
theorem q947 : (Jvm.Cond.instanceMethod ({ cls := "MissedTrains$Compared", name := "holds", desc := "(LMissedTrains$Asked;)I" } : Jvm.MethodName)) ∈ lw_all := lw_g (lw_at lw_m4 126 rfl) rfl
theorem q948 : (Jvm.Cond.code ({ cls := "MissedTrains$Compared", name := "holds", desc := "(LMissedTrains$Asked;)I" } : Jvm.MethodName) prog_4_method_2_code (5 : Nat) (Option.some Jvm.ClassFile.FieldType.int)) ∈ lw_all := lw_g (lw_at lw_m4 127 rfl) rfl
theorem q949 : (Jvm.Cond.methodLink "MissedTrains$Compared" (26 : Nat) ({ cls := "MissedTrains$Sum", name := "worth", desc := "(LMissedTrains$Asked;)I" } : Jvm.MethodName)) ∈ lw_all := lw_g (lw_at lw_m4 128 rfl) rfl
theorem q1836 : (Jvm.Cond.castable "MissedTrains$Compared" "MissedTrains$Condition") ∈ lw_tbl := lw_at lw_m8 55 rfl
theorem in_X16 : ∀ w ∈ wsX160, w ∈ lw_all := lw_in wsX160 [680, 682, 684] (by decide +kernel) (by decide +kernel)
/-! MissedTrains$Scribe -/
set_option maxRecDepth 100000
def RX17 : String := "MissedTrains$Scribe"
abbrev cX17_init : ByteArray := prog_15_method_1_code
def yX17_init : MethodName := ⟨RX17, "<init>", "(LMissedTrains;I)V"⟩
def dkwX17_init_0 : List UInt8 := [42, 43, 181, 0, 1, 42, 183, 0, 7, 42, 28, 181, 0, 13, 177]
abbrev dktX17_init_0 : List UInt8 := dkwX17_init_0 ++ []
theorem dksX17_init_0 : cX17_init.data.toList.drop 0 = dktX17_init_0 := by decide +kernel
theorem dX17_init_0 : decode cX17_init 0 = .ok (.aload_n 0, 1) := dk_42 (dk_at dksX17_init_0 0 rfl rfl)
theorem dX17_init_1 : decode cX17_init 1 = .ok (.aload_n 1, 1) := dk_43 (dk_at dksX17_init_0 1 rfl rfl)
theorem dX17_init_2 : decode cX17_init 2 = .ok (.putfield 1, 3) := dk_181 0 1 (dk_at dksX17_init_0 2 rfl rfl)
theorem dX17_init_5 : decode cX17_init 5 = .ok (.aload_n 0, 1) := dk_42 (dk_at dksX17_init_0 5 rfl rfl)
theorem dX17_init_6 : decode cX17_init 6 = .ok (.invokespecial 7, 3) := dk_183 0 7 (dk_at dksX17_init_0 6 rfl rfl)
theorem dX17_init_9 : decode cX17_init 9 = .ok (.aload_n 0, 1) := dk_42 (dk_at dksX17_init_0 9 rfl rfl)
theorem dX17_init_10 : decode cX17_init 10 = .ok (.iload_n 2, 1) := dk_28 (dk_at dksX17_init_0 10 rfl rfl)
theorem dX17_init_11 : decode cX17_init 11 = .ok (.putfield 13, 3) := dk_181 0 13 (dk_at dksX17_init_0 11 rfl rfl)
theorem dX17_init_14 : decode cX17_init 14 = .ok (.return_, 1) := dk_177 (dk_at dksX17_init_0 14 rfl rfl)
abbrev cX17_read : ByteArray := prog_15_method_10_code
def yX17_read : MethodName := ⟨RX17, "read", "()I"⟩
def dkwX17_read_4 : List UInt8 := [180, 0, 29, 100, 172]
abbrev dktX17_read_4 : List UInt8 := dkwX17_read_4 ++ []
def dkwX17_read_3 : List UInt8 := [167, 255, 195, 42, 182, 0, 36, 153, 0, 7, 27, 167, 0, 16, 17, 252, 24, 42, 180, 0, 26, 104, 42]
abbrev dktX17_read_3 : List UInt8 := dkwX17_read_3 ++ dktX17_read_4
def dkwX17_read_2 : List UInt8 := [180, 0, 17, 4, 96, 181, 0, 17, 42, 182, 0, 36, 153, 0, 8, 42, 27, 182, 0, 52, 132, 1, 1]
abbrev dktX17_read_2 : List UInt8 := dkwX17_read_2 ++ dktX17_read_3
def dkwX17_read_1 : List UInt8 := [162, 0, 49, 42, 182, 0, 32, 16, 59, 159, 0, 12, 42, 4, 42, 180, 0, 17, 182, 0, 44, 42, 89]
abbrev dktX17_read_1 : List UInt8 := dkwX17_read_1 ++ dktX17_read_2
def dkwX17_read_0 : List UInt8 := [42, 3, 182, 0, 52, 4, 60, 42, 182, 0, 36, 153, 0, 60, 42, 180, 0, 17, 42, 180, 0, 13]
abbrev dktX17_read_0 : List UInt8 := dkwX17_read_0 ++ dktX17_read_1
theorem dksX17_read_0 : cX17_read.data.toList.drop 0 = dktX17_read_0 := by decide +kernel
theorem dksX17_read_1 : cX17_read.data.toList.drop 22 = dktX17_read_1 := dk_seg dksX17_read_0 22 rfl rfl
theorem dksX17_read_2 : cX17_read.data.toList.drop 45 = dktX17_read_2 := dk_seg dksX17_read_1 23 rfl rfl
theorem dksX17_read_3 : cX17_read.data.toList.drop 68 = dktX17_read_3 := dk_seg dksX17_read_2 23 rfl rfl
theorem dksX17_read_4 : cX17_read.data.toList.drop 91 = dktX17_read_4 := dk_seg dksX17_read_3 23 rfl rfl
theorem dX17_read_0 : decode cX17_read 0 = .ok (.aload_n 0, 1) := dk_42 (dk_at dksX17_read_0 0 rfl rfl)
theorem dX17_read_1 : decode cX17_read 1 = .ok (.iconst 0, 1) := dk_3 (dk_at dksX17_read_0 1 rfl rfl)
theorem dX17_read_2 : decode cX17_read 2 = .ok (.invokevirtual 52, 3) := dk_182 0 52 (dk_at dksX17_read_0 2 rfl rfl)
theorem dX17_read_5 : decode cX17_read 5 = .ok (.iconst 1, 1) := dk_4 (dk_at dksX17_read_0 5 rfl rfl)
theorem dX17_read_6 : decode cX17_read 6 = .ok (.istore_n 1, 1) := dk_60 (dk_at dksX17_read_0 6 rfl rfl)
theorem dX17_read_7 : decode cX17_read 7 = .ok (.aload_n 0, 1) := dk_42 (dk_at dksX17_read_0 7 rfl rfl)
theorem dX17_read_8 : decode cX17_read 8 = .ok (.invokevirtual 36, 3) := dk_182 0 36 (dk_at dksX17_read_0 8 rfl rfl)
theorem dX17_read_11 : decode cX17_read 11 = .ok (.ifCond .eq 60, 3) := dk_153 0 60 (dk_at dksX17_read_0 11 rfl rfl)
theorem dX17_read_14 : decode cX17_read 14 = .ok (.aload_n 0, 1) := dk_42 (dk_at dksX17_read_0 14 rfl rfl)
theorem dX17_read_15 : decode cX17_read 15 = .ok (.getfield 17, 3) := dk_180 0 17 (dk_at dksX17_read_0 15 rfl rfl)
theorem dX17_read_18 : decode cX17_read 18 = .ok (.aload_n 0, 1) := dk_42 (dk_at dksX17_read_0 18 rfl rfl)
theorem dX17_read_19 : decode cX17_read 19 = .ok (.getfield 13, 3) := dk_180 0 13 (dk_at dksX17_read_0 19 rfl rfl)
theorem dX17_read_22 : decode cX17_read 22 = .ok (.if_icmp .ge 49, 3) := dk_162 0 49 (dk_at dksX17_read_1 0 rfl rfl)
theorem dX17_read_25 : decode cX17_read 25 = .ok (.aload_n 0, 1) := dk_42 (dk_at dksX17_read_1 3 rfl rfl)
theorem dX17_read_26 : decode cX17_read 26 = .ok (.invokevirtual 32, 3) := dk_182 0 32 (dk_at dksX17_read_1 4 rfl rfl)
theorem dX17_read_29 : decode cX17_read 29 = .ok (.bipush 59, 2) := dk_16 59 (dk_at dksX17_read_1 7 rfl rfl)
theorem dX17_read_31 : decode cX17_read 31 = .ok (.if_icmp .eq 12, 3) := dk_159 0 12 (dk_at dksX17_read_1 9 rfl rfl)
theorem dX17_read_34 : decode cX17_read 34 = .ok (.aload_n 0, 1) := dk_42 (dk_at dksX17_read_1 12 rfl rfl)
theorem dX17_read_35 : decode cX17_read 35 = .ok (.iconst 1, 1) := dk_4 (dk_at dksX17_read_1 13 rfl rfl)
theorem dX17_read_36 : decode cX17_read 36 = .ok (.aload_n 0, 1) := dk_42 (dk_at dksX17_read_1 14 rfl rfl)
theorem dX17_read_37 : decode cX17_read 37 = .ok (.getfield 17, 3) := dk_180 0 17 (dk_at dksX17_read_1 15 rfl rfl)
theorem dX17_read_40 : decode cX17_read 40 = .ok (.invokevirtual 44, 3) := dk_182 0 44 (dk_at dksX17_read_1 18 rfl rfl)
theorem dX17_read_43 : decode cX17_read 43 = .ok (.aload_n 0, 1) := dk_42 (dk_at dksX17_read_1 21 rfl rfl)
theorem dX17_read_44 : decode cX17_read 44 = .ok (.dup, 1) := dk_89 (dk_at dksX17_read_1 22 rfl rfl)
theorem dX17_read_45 : decode cX17_read 45 = .ok (.getfield 17, 3) := dk_180 0 17 (dk_at dksX17_read_2 0 rfl rfl)
theorem dX17_read_48 : decode cX17_read 48 = .ok (.iconst 1, 1) := dk_4 (dk_at dksX17_read_2 3 rfl rfl)
theorem dX17_read_49 : decode cX17_read 49 = .ok (.iadd, 1) := dk_96 (dk_at dksX17_read_2 4 rfl rfl)
theorem dX17_read_50 : decode cX17_read 50 = .ok (.putfield 17, 3) := dk_181 0 17 (dk_at dksX17_read_2 5 rfl rfl)
theorem dX17_read_53 : decode cX17_read 53 = .ok (.aload_n 0, 1) := dk_42 (dk_at dksX17_read_2 8 rfl rfl)
theorem dX17_read_54 : decode cX17_read 54 = .ok (.invokevirtual 36, 3) := dk_182 0 36 (dk_at dksX17_read_2 9 rfl rfl)
theorem dX17_read_57 : decode cX17_read 57 = .ok (.ifCond .eq 8, 3) := dk_153 0 8 (dk_at dksX17_read_2 12 rfl rfl)
theorem dX17_read_60 : decode cX17_read 60 = .ok (.aload_n 0, 1) := dk_42 (dk_at dksX17_read_2 15 rfl rfl)
theorem dX17_read_61 : decode cX17_read 61 = .ok (.iload_n 1, 1) := dk_27 (dk_at dksX17_read_2 16 rfl rfl)
theorem dX17_read_62 : decode cX17_read 62 = .ok (.invokevirtual 52, 3) := dk_182 0 52 (dk_at dksX17_read_2 17 rfl rfl)
theorem dX17_read_65 : decode cX17_read 65 = .ok (.iinc 1 1, 3) := dk_132 1 1 (dk_at dksX17_read_2 20 rfl rfl)
theorem dX17_read_68 : decode cX17_read 68 = .ok (.goto (-61), 3) := dk_167 255 195 (dk_at dksX17_read_3 0 rfl rfl)
theorem dX17_read_71 : decode cX17_read 71 = .ok (.aload_n 0, 1) := dk_42 (dk_at dksX17_read_3 3 rfl rfl)
theorem dX17_read_72 : decode cX17_read 72 = .ok (.invokevirtual 36, 3) := dk_182 0 36 (dk_at dksX17_read_3 4 rfl rfl)
theorem dX17_read_75 : decode cX17_read 75 = .ok (.ifCond .eq 7, 3) := dk_153 0 7 (dk_at dksX17_read_3 7 rfl rfl)
theorem dX17_read_78 : decode cX17_read 78 = .ok (.iload_n 1, 1) := dk_27 (dk_at dksX17_read_3 10 rfl rfl)
theorem dX17_read_79 : decode cX17_read 79 = .ok (.goto 16, 3) := dk_167 0 16 (dk_at dksX17_read_3 11 rfl rfl)
theorem dX17_read_82 : decode cX17_read 82 = .ok (.sipush (-1000), 3) := dk_17 252 24 (dk_at dksX17_read_3 14 rfl rfl)
theorem dX17_read_85 : decode cX17_read 85 = .ok (.aload_n 0, 1) := dk_42 (dk_at dksX17_read_3 17 rfl rfl)
theorem dX17_read_86 : decode cX17_read 86 = .ok (.getfield 26, 3) := dk_180 0 26 (dk_at dksX17_read_3 18 rfl rfl)
theorem dX17_read_89 : decode cX17_read 89 = .ok (.imul, 1) := dk_104 (dk_at dksX17_read_3 21 rfl rfl)
theorem dX17_read_90 : decode cX17_read 90 = .ok (.aload_n 0, 1) := dk_42 (dk_at dksX17_read_3 22 rfl rfl)
theorem dX17_read_91 : decode cX17_read 91 = .ok (.getfield 29, 3) := dk_180 0 29 (dk_at dksX17_read_4 0 rfl rfl)
theorem dX17_read_94 : decode cX17_read 94 = .ok (.isub, 1) := dk_100 (dk_at dksX17_read_4 3 rfl rfl)
theorem dX17_read_95 : decode cX17_read 95 = .ok (.ireturn, 1) := dk_172 (dk_at dksX17_read_4 4 rfl rfl)
abbrev cX17_place : ByteArray := prog_15_method_3_code
def yX17_place : MethodName := ⟨RX17, "place", "()I"⟩
theorem dX17_place_0 : decode cX17_place 0 = .ok (.aload_n 0, 1) := by decide +kernel
theorem dX17_place_1 : decode cX17_place 1 = .ok (.getfield 17, 3) := by decide +kernel
theorem dX17_place_4 : decode cX17_place 4 = .ok (.ireturn, 1) := by decide +kernel
abbrev cX17_sees : ByteArray := prog_15_method_7_code
def yX17_sees : MethodName := ⟨RX17, "sees", "(II)Z"⟩
def dkwX17_sees_0 : List UInt8 := [42, 182, 0, 32, 27, 161, 0, 15, 42, 182, 0, 32, 28, 163, 0, 7, 4, 167, 0, 4, 3, 172]
abbrev dktX17_sees_0 : List UInt8 := dkwX17_sees_0 ++ []
theorem dksX17_sees_0 : cX17_sees.data.toList.drop 0 = dktX17_sees_0 := by decide +kernel
theorem dX17_sees_0 : decode cX17_sees 0 = .ok (.aload_n 0, 1) := dk_42 (dk_at dksX17_sees_0 0 rfl rfl)
theorem dX17_sees_1 : decode cX17_sees 1 = .ok (.invokevirtual 32, 3) := dk_182 0 32 (dk_at dksX17_sees_0 1 rfl rfl)
theorem dX17_sees_4 : decode cX17_sees 4 = .ok (.iload_n 1, 1) := dk_27 (dk_at dksX17_sees_0 4 rfl rfl)
theorem dX17_sees_5 : decode cX17_sees 5 = .ok (.if_icmp .lt 15, 3) := dk_161 0 15 (dk_at dksX17_sees_0 5 rfl rfl)
theorem dX17_sees_8 : decode cX17_sees 8 = .ok (.aload_n 0, 1) := dk_42 (dk_at dksX17_sees_0 8 rfl rfl)
theorem dX17_sees_9 : decode cX17_sees 9 = .ok (.invokevirtual 32, 3) := dk_182 0 32 (dk_at dksX17_sees_0 9 rfl rfl)
theorem dX17_sees_12 : decode cX17_sees 12 = .ok (.iload_n 2, 1) := dk_28 (dk_at dksX17_sees_0 12 rfl rfl)
theorem dX17_sees_13 : decode cX17_sees 13 = .ok (.if_icmp .gt 7, 3) := dk_163 0 7 (dk_at dksX17_sees_0 13 rfl rfl)
theorem dX17_sees_16 : decode cX17_sees 16 = .ok (.iconst 1, 1) := dk_4 (dk_at dksX17_sees_0 16 rfl rfl)
theorem dX17_sees_17 : decode cX17_sees 17 = .ok (.goto 4, 3) := dk_167 0 4 (dk_at dksX17_sees_0 17 rfl rfl)
theorem dX17_sees_20 : decode cX17_sees 20 = .ok (.iconst 0, 1) := dk_3 (dk_at dksX17_sees_0 20 rfl rfl)
theorem dX17_sees_21 : decode cX17_sees 21 = .ok (.ireturn, 1) := dk_172 (dk_at dksX17_sees_0 21 rfl rfl)
abbrev cX17_here : ByteArray := prog_15_method_2_code
def yX17_here : MethodName := ⟨RX17, "here", "()I"⟩
def dkwX17_here_1 : List UInt8 := [17, 0, 255, 126, 167, 0, 4, 3, 172]
abbrev dktX17_here_1 : List UInt8 := dkwX17_here_1 ++ []
def dkwX17_here_0 : List UInt8 := [42, 180, 0, 17, 42, 180, 0, 13, 162, 0, 22, 42, 180, 0, 1, 180, 0, 20, 42, 180, 0, 17, 51]
abbrev dktX17_here_0 : List UInt8 := dkwX17_here_0 ++ dktX17_here_1
theorem dksX17_here_0 : cX17_here.data.toList.drop 0 = dktX17_here_0 := by decide +kernel
theorem dksX17_here_1 : cX17_here.data.toList.drop 23 = dktX17_here_1 := dk_seg dksX17_here_0 23 rfl rfl
theorem dX17_here_0 : decode cX17_here 0 = .ok (.aload_n 0, 1) := dk_42 (dk_at dksX17_here_0 0 rfl rfl)
theorem dX17_here_1 : decode cX17_here 1 = .ok (.getfield 17, 3) := dk_180 0 17 (dk_at dksX17_here_0 1 rfl rfl)
theorem dX17_here_4 : decode cX17_here 4 = .ok (.aload_n 0, 1) := dk_42 (dk_at dksX17_here_0 4 rfl rfl)
theorem dX17_here_5 : decode cX17_here 5 = .ok (.getfield 13, 3) := dk_180 0 13 (dk_at dksX17_here_0 5 rfl rfl)
theorem dX17_here_8 : decode cX17_here 8 = .ok (.if_icmp .ge 22, 3) := dk_162 0 22 (dk_at dksX17_here_0 8 rfl rfl)
theorem dX17_here_11 : decode cX17_here 11 = .ok (.aload_n 0, 1) := dk_42 (dk_at dksX17_here_0 11 rfl rfl)
theorem dX17_here_12 : decode cX17_here 12 = .ok (.getfield 1, 3) := dk_180 0 1 (dk_at dksX17_here_0 12 rfl rfl)
theorem dX17_here_15 : decode cX17_here 15 = .ok (.getfield 20, 3) := dk_180 0 20 (dk_at dksX17_here_0 15 rfl rfl)
theorem dX17_here_18 : decode cX17_here 18 = .ok (.aload_n 0, 1) := dk_42 (dk_at dksX17_here_0 18 rfl rfl)
theorem dX17_here_19 : decode cX17_here 19 = .ok (.getfield 17, 3) := dk_180 0 17 (dk_at dksX17_here_0 19 rfl rfl)
theorem dX17_here_22 : decode cX17_here 22 = .ok (.baload, 1) := dk_51 (dk_at dksX17_here_0 22 rfl rfl)
theorem dX17_here_23 : decode cX17_here 23 = .ok (.sipush 255, 3) := dk_17 0 255 (dk_at dksX17_here_1 0 rfl rfl)
theorem dX17_here_26 : decode cX17_here 26 = .ok (.iand, 1) := dk_126 (dk_at dksX17_here_1 3 rfl rfl)
theorem dX17_here_27 : decode cX17_here 27 = .ok (.goto 4, 3) := dk_167 0 4 (dk_at dksX17_here_1 4 rfl rfl)
theorem dX17_here_30 : decode cX17_here 30 = .ok (.iconst 0, 1) := dk_3 (dk_at dksX17_here_1 7 rfl rfl)
theorem dX17_here_31 : decode cX17_here 31 = .ok (.ireturn, 1) := dk_172 (dk_at dksX17_here_1 8 rfl rfl)
abbrev cX17_bad : ByteArray := prog_15_method_5_code
def yX17_bad : MethodName := ⟨RX17, "bad", "(II)V"⟩
def dkwX17_bad_0 : List UInt8 := [42, 180, 0, 26, 158, 0, 4, 177, 42, 27, 181, 0, 26, 42, 28, 181, 0, 29, 177]
abbrev dktX17_bad_0 : List UInt8 := dkwX17_bad_0 ++ []
theorem dksX17_bad_0 : cX17_bad.data.toList.drop 0 = dktX17_bad_0 := by decide +kernel
theorem dX17_bad_0 : decode cX17_bad 0 = .ok (.aload_n 0, 1) := dk_42 (dk_at dksX17_bad_0 0 rfl rfl)
theorem dX17_bad_1 : decode cX17_bad 1 = .ok (.getfield 26, 3) := dk_180 0 26 (dk_at dksX17_bad_0 1 rfl rfl)
theorem dX17_bad_4 : decode cX17_bad 4 = .ok (.ifCond .le 4, 3) := dk_158 0 4 (dk_at dksX17_bad_0 4 rfl rfl)
theorem dX17_bad_7 : decode cX17_bad 7 = .ok (.return_, 1) := dk_177 (dk_at dksX17_bad_0 7 rfl rfl)
theorem dX17_bad_8 : decode cX17_bad 8 = .ok (.aload_n 0, 1) := dk_42 (dk_at dksX17_bad_0 8 rfl rfl)
theorem dX17_bad_9 : decode cX17_bad 9 = .ok (.iload_n 1, 1) := dk_27 (dk_at dksX17_bad_0 9 rfl rfl)
theorem dX17_bad_10 : decode cX17_bad 10 = .ok (.putfield 26, 3) := dk_181 0 26 (dk_at dksX17_bad_0 10 rfl rfl)
theorem dX17_bad_13 : decode cX17_bad 13 = .ok (.aload_n 0, 1) := dk_42 (dk_at dksX17_bad_0 13 rfl rfl)
theorem dX17_bad_14 : decode cX17_bad 14 = .ok (.iload_n 2, 1) := dk_28 (dk_at dksX17_bad_0 14 rfl rfl)
theorem dX17_bad_15 : decode cX17_bad 15 = .ok (.putfield 29, 3) := dk_181 0 29 (dk_at dksX17_bad_0 15 rfl rfl)
theorem dX17_bad_18 : decode cX17_bad 18 = .ok (.return_, 1) := dk_177 (dk_at dksX17_bad_0 18 rfl rfl)
abbrev cX17_isGood : ByteArray := prog_15_method_6_code
def yX17_isGood : MethodName := ⟨RX17, "isGood", "()Z"⟩
def dkwX17_isGood_0 : List UInt8 := [42, 180, 0, 26, 154, 0, 7, 4, 167, 0, 4, 3, 172]
abbrev dktX17_isGood_0 : List UInt8 := dkwX17_isGood_0 ++ []
theorem dksX17_isGood_0 : cX17_isGood.data.toList.drop 0 = dktX17_isGood_0 := by decide +kernel
theorem dX17_isGood_0 : decode cX17_isGood 0 = .ok (.aload_n 0, 1) := dk_42 (dk_at dksX17_isGood_0 0 rfl rfl)
theorem dX17_isGood_1 : decode cX17_isGood 1 = .ok (.getfield 26, 3) := dk_180 0 26 (dk_at dksX17_isGood_0 1 rfl rfl)
theorem dX17_isGood_4 : decode cX17_isGood 4 = .ok (.ifCond .ne 7, 3) := dk_154 0 7 (dk_at dksX17_isGood_0 4 rfl rfl)
theorem dX17_isGood_7 : decode cX17_isGood 7 = .ok (.iconst 1, 1) := dk_4 (dk_at dksX17_isGood_0 7 rfl rfl)
theorem dX17_isGood_8 : decode cX17_isGood 8 = .ok (.goto 4, 3) := dk_167 0 4 (dk_at dksX17_isGood_0 8 rfl rfl)
theorem dX17_isGood_11 : decode cX17_isGood 11 = .ok (.iconst 0, 1) := dk_3 (dk_at dksX17_isGood_0 11 rfl rfl)
theorem dX17_isGood_12 : decode cX17_isGood 12 = .ok (.ireturn, 1) := dk_172 (dk_at dksX17_isGood_0 12 rfl rfl)
abbrev cX17_goes : ByteArray := prog_15_method_4_code
def yX17_goes : MethodName := ⟨RX17, "goes", "()V"⟩
def dkwX17_goes_0 : List UInt8 := [42, 89, 180, 0, 17, 4, 96, 181, 0, 17, 177]
abbrev dktX17_goes_0 : List UInt8 := dkwX17_goes_0 ++ []
theorem dksX17_goes_0 : cX17_goes.data.toList.drop 0 = dktX17_goes_0 := by decide +kernel
theorem dX17_goes_0 : decode cX17_goes 0 = .ok (.aload_n 0, 1) := dk_42 (dk_at dksX17_goes_0 0 rfl rfl)
theorem dX17_goes_1 : decode cX17_goes 1 = .ok (.dup, 1) := dk_89 (dk_at dksX17_goes_0 1 rfl rfl)
theorem dX17_goes_2 : decode cX17_goes 2 = .ok (.getfield 17, 3) := dk_180 0 17 (dk_at dksX17_goes_0 2 rfl rfl)
theorem dX17_goes_5 : decode cX17_goes 5 = .ok (.iconst 1, 1) := dk_4 (dk_at dksX17_goes_0 5 rfl rfl)
theorem dX17_goes_6 : decode cX17_goes 6 = .ok (.iadd, 1) := dk_96 (dk_at dksX17_goes_0 6 rfl rfl)
theorem dX17_goes_7 : decode cX17_goes 7 = .ok (.putfield 17, 3) := dk_181 0 17 (dk_at dksX17_goes_0 7 rfl rfl)
theorem dX17_goes_10 : decode cX17_goes 10 = .ok (.return_, 1) := dk_177 (dk_at dksX17_goes_0 10 rfl rfl)
abbrev cX17_number : ByteArray := prog_15_method_8_code
def yX17_number : MethodName := ⟨RX17, "number", "(III)I"⟩
def dkwX17_number_5 : List UInt8 := [42, 6, 21, 5, 182, 0, 44, 21, 4, 172]
abbrev dktX17_number_5 : List UInt8 := dkwX17_number_5 ++ []
def dkwX17_number_4 : List UInt8 := [96, 181, 0, 17, 167, 255, 193, 42, 182, 0, 36, 153, 0, 20, 21, 4, 28, 29, 184, 0, 48, 154, 0, 10]
abbrev dktX17_number_4 : List UInt8 := dkwX17_number_4 ++ dktX17_number_5
def dkwX17_number_3 : List UInt8 := [182, 0, 44, 16, 10, 21, 4, 104, 42, 182, 0, 32, 96, 16, 48, 100, 54, 4, 42, 89, 180, 0, 17, 4]
abbrev dktX17_number_3 : List UInt8 := dkwX17_number_3 ++ dktX17_number_4
def dkwX17_number_2 : List UInt8 := [182, 0, 40, 153, 0, 51, 42, 180, 0, 17, 21, 5, 27, 96, 160, 0, 12, 42, 5, 42, 180, 0, 17]
abbrev dktX17_number_2 : List UInt8 := dkwX17_number_2 ++ dktX17_number_3
def dkwX17_number_1 : List UInt8 := [154, 0, 10, 42, 4, 21, 5, 182, 0, 44, 42, 182, 0, 36, 153, 0, 62, 42, 16, 48, 16, 57]
abbrev dktX17_number_1 : List UInt8 := dkwX17_number_1 ++ dktX17_number_2
def dkwX17_number_0 : List UInt8 := [3, 54, 4, 42, 180, 0, 17, 54, 5, 42, 182, 0, 36, 153, 0, 21, 42, 16, 48, 16, 57, 182, 0, 40]
abbrev dktX17_number_0 : List UInt8 := dkwX17_number_0 ++ dktX17_number_1
theorem dksX17_number_0 : cX17_number.data.toList.drop 0 = dktX17_number_0 := by decide +kernel
theorem dksX17_number_1 : cX17_number.data.toList.drop 24 = dktX17_number_1 := dk_seg dksX17_number_0 24 rfl rfl
theorem dksX17_number_2 : cX17_number.data.toList.drop 46 = dktX17_number_2 := dk_seg dksX17_number_1 22 rfl rfl
theorem dksX17_number_3 : cX17_number.data.toList.drop 69 = dktX17_number_3 := dk_seg dksX17_number_2 23 rfl rfl
theorem dksX17_number_4 : cX17_number.data.toList.drop 93 = dktX17_number_4 := dk_seg dksX17_number_3 24 rfl rfl
theorem dksX17_number_5 : cX17_number.data.toList.drop 117 = dktX17_number_5 := dk_seg dksX17_number_4 24 rfl rfl
theorem dX17_number_0 : decode cX17_number 0 = .ok (.iconst 0, 1) := dk_3 (dk_at dksX17_number_0 0 rfl rfl)
theorem dX17_number_1 : decode cX17_number 1 = .ok (.istore 4, 2) := dk_54 4 (dk_at dksX17_number_0 1 rfl rfl)
theorem dX17_number_3 : decode cX17_number 3 = .ok (.aload_n 0, 1) := dk_42 (dk_at dksX17_number_0 3 rfl rfl)
theorem dX17_number_4 : decode cX17_number 4 = .ok (.getfield 17, 3) := dk_180 0 17 (dk_at dksX17_number_0 4 rfl rfl)
theorem dX17_number_7 : decode cX17_number 7 = .ok (.istore 5, 2) := dk_54 5 (dk_at dksX17_number_0 7 rfl rfl)
theorem dX17_number_9 : decode cX17_number 9 = .ok (.aload_n 0, 1) := dk_42 (dk_at dksX17_number_0 9 rfl rfl)
theorem dX17_number_10 : decode cX17_number 10 = .ok (.invokevirtual 36, 3) := dk_182 0 36 (dk_at dksX17_number_0 10 rfl rfl)
theorem dX17_number_13 : decode cX17_number 13 = .ok (.ifCond .eq 21, 3) := dk_153 0 21 (dk_at dksX17_number_0 13 rfl rfl)
theorem dX17_number_16 : decode cX17_number 16 = .ok (.aload_n 0, 1) := dk_42 (dk_at dksX17_number_0 16 rfl rfl)
theorem dX17_number_17 : decode cX17_number 17 = .ok (.bipush 48, 2) := dk_16 48 (dk_at dksX17_number_0 17 rfl rfl)
theorem dX17_number_19 : decode cX17_number 19 = .ok (.bipush 57, 2) := dk_16 57 (dk_at dksX17_number_0 19 rfl rfl)
theorem dX17_number_21 : decode cX17_number 21 = .ok (.invokevirtual 40, 3) := dk_182 0 40 (dk_at dksX17_number_0 21 rfl rfl)
theorem dX17_number_24 : decode cX17_number 24 = .ok (.ifCond .ne 10, 3) := dk_154 0 10 (dk_at dksX17_number_1 0 rfl rfl)
theorem dX17_number_27 : decode cX17_number 27 = .ok (.aload_n 0, 1) := dk_42 (dk_at dksX17_number_1 3 rfl rfl)
theorem dX17_number_28 : decode cX17_number 28 = .ok (.iconst 1, 1) := dk_4 (dk_at dksX17_number_1 4 rfl rfl)
theorem dX17_number_29 : decode cX17_number 29 = .ok (.iload 5, 2) := dk_21 5 (dk_at dksX17_number_1 5 rfl rfl)
theorem dX17_number_31 : decode cX17_number 31 = .ok (.invokevirtual 44, 3) := dk_182 0 44 (dk_at dksX17_number_1 7 rfl rfl)
theorem dX17_number_34 : decode cX17_number 34 = .ok (.aload_n 0, 1) := dk_42 (dk_at dksX17_number_1 10 rfl rfl)
theorem dX17_number_35 : decode cX17_number 35 = .ok (.invokevirtual 36, 3) := dk_182 0 36 (dk_at dksX17_number_1 11 rfl rfl)
theorem dX17_number_38 : decode cX17_number 38 = .ok (.ifCond .eq 62, 3) := dk_153 0 62 (dk_at dksX17_number_1 14 rfl rfl)
theorem dX17_number_41 : decode cX17_number 41 = .ok (.aload_n 0, 1) := dk_42 (dk_at dksX17_number_1 17 rfl rfl)
theorem dX17_number_42 : decode cX17_number 42 = .ok (.bipush 48, 2) := dk_16 48 (dk_at dksX17_number_1 18 rfl rfl)
theorem dX17_number_44 : decode cX17_number 44 = .ok (.bipush 57, 2) := dk_16 57 (dk_at dksX17_number_1 20 rfl rfl)
theorem dX17_number_46 : decode cX17_number 46 = .ok (.invokevirtual 40, 3) := dk_182 0 40 (dk_at dksX17_number_2 0 rfl rfl)
theorem dX17_number_49 : decode cX17_number 49 = .ok (.ifCond .eq 51, 3) := dk_153 0 51 (dk_at dksX17_number_2 3 rfl rfl)
theorem dX17_number_52 : decode cX17_number 52 = .ok (.aload_n 0, 1) := dk_42 (dk_at dksX17_number_2 6 rfl rfl)
theorem dX17_number_53 : decode cX17_number 53 = .ok (.getfield 17, 3) := dk_180 0 17 (dk_at dksX17_number_2 7 rfl rfl)
theorem dX17_number_56 : decode cX17_number 56 = .ok (.iload 5, 2) := dk_21 5 (dk_at dksX17_number_2 10 rfl rfl)
theorem dX17_number_58 : decode cX17_number 58 = .ok (.iload_n 1, 1) := dk_27 (dk_at dksX17_number_2 12 rfl rfl)
theorem dX17_number_59 : decode cX17_number 59 = .ok (.iadd, 1) := dk_96 (dk_at dksX17_number_2 13 rfl rfl)
theorem dX17_number_60 : decode cX17_number 60 = .ok (.if_icmp .ne 12, 3) := dk_160 0 12 (dk_at dksX17_number_2 14 rfl rfl)
theorem dX17_number_63 : decode cX17_number 63 = .ok (.aload_n 0, 1) := dk_42 (dk_at dksX17_number_2 17 rfl rfl)
theorem dX17_number_64 : decode cX17_number 64 = .ok (.iconst 2, 1) := dk_5 (dk_at dksX17_number_2 18 rfl rfl)
theorem dX17_number_65 : decode cX17_number 65 = .ok (.aload_n 0, 1) := dk_42 (dk_at dksX17_number_2 19 rfl rfl)
theorem dX17_number_66 : decode cX17_number 66 = .ok (.getfield 17, 3) := dk_180 0 17 (dk_at dksX17_number_2 20 rfl rfl)
theorem dX17_number_69 : decode cX17_number 69 = .ok (.invokevirtual 44, 3) := dk_182 0 44 (dk_at dksX17_number_3 0 rfl rfl)
theorem dX17_number_72 : decode cX17_number 72 = .ok (.bipush 10, 2) := dk_16 10 (dk_at dksX17_number_3 3 rfl rfl)
theorem dX17_number_74 : decode cX17_number 74 = .ok (.iload 4, 2) := dk_21 4 (dk_at dksX17_number_3 5 rfl rfl)
theorem dX17_number_76 : decode cX17_number 76 = .ok (.imul, 1) := dk_104 (dk_at dksX17_number_3 7 rfl rfl)
theorem dX17_number_77 : decode cX17_number 77 = .ok (.aload_n 0, 1) := dk_42 (dk_at dksX17_number_3 8 rfl rfl)
theorem dX17_number_78 : decode cX17_number 78 = .ok (.invokevirtual 32, 3) := dk_182 0 32 (dk_at dksX17_number_3 9 rfl rfl)
theorem dX17_number_81 : decode cX17_number 81 = .ok (.iadd, 1) := dk_96 (dk_at dksX17_number_3 12 rfl rfl)
theorem dX17_number_82 : decode cX17_number 82 = .ok (.bipush 48, 2) := dk_16 48 (dk_at dksX17_number_3 13 rfl rfl)
theorem dX17_number_84 : decode cX17_number 84 = .ok (.isub, 1) := dk_100 (dk_at dksX17_number_3 15 rfl rfl)
theorem dX17_number_85 : decode cX17_number 85 = .ok (.istore 4, 2) := dk_54 4 (dk_at dksX17_number_3 16 rfl rfl)
theorem dX17_number_87 : decode cX17_number 87 = .ok (.aload_n 0, 1) := dk_42 (dk_at dksX17_number_3 18 rfl rfl)
theorem dX17_number_88 : decode cX17_number 88 = .ok (.dup, 1) := dk_89 (dk_at dksX17_number_3 19 rfl rfl)
theorem dX17_number_89 : decode cX17_number 89 = .ok (.getfield 17, 3) := dk_180 0 17 (dk_at dksX17_number_3 20 rfl rfl)
theorem dX17_number_92 : decode cX17_number 92 = .ok (.iconst 1, 1) := dk_4 (dk_at dksX17_number_3 23 rfl rfl)
theorem dX17_number_93 : decode cX17_number 93 = .ok (.iadd, 1) := dk_96 (dk_at dksX17_number_4 0 rfl rfl)
theorem dX17_number_94 : decode cX17_number 94 = .ok (.putfield 17, 3) := dk_181 0 17 (dk_at dksX17_number_4 1 rfl rfl)
theorem dX17_number_97 : decode cX17_number 97 = .ok (.goto (-63), 3) := dk_167 255 193 (dk_at dksX17_number_4 4 rfl rfl)
theorem dX17_number_100 : decode cX17_number 100 = .ok (.aload_n 0, 1) := dk_42 (dk_at dksX17_number_4 7 rfl rfl)
theorem dX17_number_101 : decode cX17_number 101 = .ok (.invokevirtual 36, 3) := dk_182 0 36 (dk_at dksX17_number_4 8 rfl rfl)
theorem dX17_number_104 : decode cX17_number 104 = .ok (.ifCond .eq 20, 3) := dk_153 0 20 (dk_at dksX17_number_4 11 rfl rfl)
theorem dX17_number_107 : decode cX17_number 107 = .ok (.iload 4, 2) := dk_21 4 (dk_at dksX17_number_4 14 rfl rfl)
theorem dX17_number_109 : decode cX17_number 109 = .ok (.iload_n 2, 1) := dk_28 (dk_at dksX17_number_4 16 rfl rfl)
theorem dX17_number_110 : decode cX17_number 110 = .ok (.iload_n 3, 1) := dk_29 (dk_at dksX17_number_4 17 rfl rfl)
theorem dX17_number_111 : decode cX17_number 111 = .ok (.invokestatic 48, 3) := dk_184 0 48 (dk_at dksX17_number_4 18 rfl rfl)
theorem dX17_number_114 : decode cX17_number 114 = .ok (.ifCond .ne 10, 3) := dk_154 0 10 (dk_at dksX17_number_4 21 rfl rfl)
theorem dX17_number_117 : decode cX17_number 117 = .ok (.aload_n 0, 1) := dk_42 (dk_at dksX17_number_5 0 rfl rfl)
theorem dX17_number_118 : decode cX17_number 118 = .ok (.iconst 3, 1) := dk_6 (dk_at dksX17_number_5 1 rfl rfl)
theorem dX17_number_119 : decode cX17_number 119 = .ok (.iload 5, 2) := dk_21 5 (dk_at dksX17_number_5 2 rfl rfl)
theorem dX17_number_121 : decode cX17_number 121 = .ok (.invokevirtual 44, 3) := dk_182 0 44 (dk_at dksX17_number_5 4 rfl rfl)
theorem dX17_number_124 : decode cX17_number 124 = .ok (.iload 4, 2) := dk_21 4 (dk_at dksX17_number_5 7 rfl rfl)
theorem dX17_number_126 : decode cX17_number 126 = .ok (.ireturn, 1) := dk_172 (dk_at dksX17_number_5 9 rfl rfl)
theorem q125 : (Jvm.Cond.initialized "MissedTrains$Scribe") ∈ lw_all := lw_g (lw_at lw_m1 24 rfl) rfl
theorem q346 : (Jvm.Cond.fieldLinkNest "MissedTrains$Scribe" (20 : Nat) "MissedTrains" "tape" "[B" "MissedTrains") ∈ lw_tbl := lw_at lw_m2 5 rfl
theorem q712 : (Jvm.Cond.instanceMethod ({ cls := "MissedTrains$Scribe", name := "<init>", desc := "(LMissedTrains;I)V" } : Jvm.MethodName)) ∈ lw_all := lw_g (lw_at lw_m3 131 rfl) rfl
theorem q713 : (Jvm.Cond.code ({ cls := "MissedTrains$Scribe", name := "<init>", desc := "(LMissedTrains;I)V" } : Jvm.MethodName) prog_15_method_1_code (3 : Nat) (Option.none : Option Jvm.ClassFile.FieldType)) ∈ lw_all := lw_g (lw_at lw_m3 132 rfl) rfl
theorem q714 : (Jvm.Cond.methodLink "MissedTrains$Scribe" (7 : Nat) ({ cls := "java/lang/Object", name := "<init>", desc := "()V" } : Jvm.MethodName)) ∈ lw_all := lw_g (lw_at lw_m3 133 rfl) rfl
theorem q721 : (Jvm.Cond.fieldLink "MissedTrains$Scribe" (13 : Nat) "MissedTrains$Scribe" "n" "I") ∈ lw_all := lw_g (lw_at lw_m3 140 rfl) rfl
theorem q722 : (Jvm.Cond.fieldLink "MissedTrains$Scribe" (17 : Nat) "MissedTrains$Scribe" "at" "I") ∈ lw_all := lw_g (lw_at lw_m3 141 rfl) rfl
theorem q723 : (Jvm.Cond.fieldLink "MissedTrains$Scribe" (26 : Nat) "MissedTrains$Scribe" "fault" "I") ∈ lw_all := lw_g (lw_at lw_m3 142 rfl) rfl
theorem q724 : (Jvm.Cond.fieldLink "MissedTrains$Scribe" (29 : Nat) "MissedTrains$Scribe" "place" "I") ∈ lw_all := lw_g (lw_at lw_m3 143 rfl) rfl
theorem q725 : (Jvm.Cond.fieldLink "MissedTrains$Scribe" (1 : Nat) "MissedTrains$Scribe" "this$0" "LMissedTrains;") ∈ lw_all := lw_g (lw_at lw_m3 144 rfl) rfl
theorem q737 : (Jvm.Cond.soleField "MissedTrains$Scribe" "n") ∈ lw_all := lw_g (lw_at lw_m3 156 rfl) rfl
theorem q739 : (Jvm.Cond.soleField "MissedTrains$Scribe" "at") ∈ lw_all := lw_g (lw_at lw_m3 158 rfl) rfl
theorem q741 : (Jvm.Cond.soleField "MissedTrains$Scribe" "fault") ∈ lw_all := lw_g (lw_at lw_m3 160 rfl) rfl
theorem q743 : (Jvm.Cond.soleField "MissedTrains$Scribe" "place") ∈ lw_all := lw_g (lw_at lw_m3 162 rfl) rfl
theorem q745 : (Jvm.Cond.soleField "MissedTrains$Scribe" "this$0") ∈ lw_all := lw_g (lw_at lw_m3 164 rfl) rfl
theorem q749 : (Jvm.Cond.declares ({ cls := "MissedTrains$Scribe", name := "read", desc := "()I" } : Jvm.MethodName)) ∈ lw_tbl := lw_at lw_m3 168 rfl
theorem q751 : (Jvm.Cond.instanceMethod ({ cls := "MissedTrains$Scribe", name := "read", desc := "()I" } : Jvm.MethodName)) ∈ lw_all := lw_g (lw_at lw_m3 170 rfl) rfl
theorem q752 : (Jvm.Cond.code ({ cls := "MissedTrains$Scribe", name := "read", desc := "()I" } : Jvm.MethodName) prog_15_method_10_code (2 : Nat) (Option.some Jvm.ClassFile.FieldType.int)) ∈ lw_all := lw_g (lw_at lw_m3 171 rfl) rfl
theorem q753 : (Jvm.Cond.methodLink "MissedTrains$Scribe" (52 : Nat) ({ cls := "MissedTrains$Scribe", name := "line", desc := "(I)V" } : Jvm.MethodName)) ∈ lw_all := lw_g (lw_at lw_m3 172 rfl) rfl
theorem q754 : (Jvm.Cond.declares ({ cls := "MissedTrains$Scribe", name := "line", desc := "(I)V" } : Jvm.MethodName)) ∈ lw_tbl := lw_at lw_m3 173 rfl
theorem q755 : (Jvm.Cond.sameMethod "MissedTrains$Scribe" "MissedTrains$Scribe" "line" "(I)V") ∈ lw_all := lw_g (lw_at lw_m3 174 rfl) rfl
theorem q761 : (Jvm.Cond.declares ({ cls := "MissedTrains$Scribe", name := "place", desc := "()I" } : Jvm.MethodName)) ∈ lw_tbl := lw_at lw_m3 180 rfl
theorem q763 : (Jvm.Cond.instanceMethod ({ cls := "MissedTrains$Scribe", name := "place", desc := "()I" } : Jvm.MethodName)) ∈ lw_all := lw_g (lw_at lw_m3 182 rfl) rfl
theorem q764 : (Jvm.Cond.code ({ cls := "MissedTrains$Scribe", name := "place", desc := "()I" } : Jvm.MethodName) prog_15_method_3_code (1 : Nat) (Option.some Jvm.ClassFile.FieldType.int)) ∈ lw_all := lw_g (lw_at lw_m3 183 rfl) rfl
theorem q771 : (Jvm.Cond.declares ({ cls := "MissedTrains$Scribe", name := "sees", desc := "(II)Z" } : Jvm.MethodName)) ∈ lw_tbl := lw_at lw_m3 190 rfl
theorem q773 : (Jvm.Cond.instanceMethod ({ cls := "MissedTrains$Scribe", name := "sees", desc := "(II)Z" } : Jvm.MethodName)) ∈ lw_all := lw_g (lw_at lw_m3 192 rfl) rfl
theorem q774 : (Jvm.Cond.code ({ cls := "MissedTrains$Scribe", name := "sees", desc := "(II)Z" } : Jvm.MethodName) prog_15_method_7_code (3 : Nat) (Option.some Jvm.ClassFile.FieldType.boolean)) ∈ lw_all := lw_g (lw_at lw_m3 193 rfl) rfl
theorem q775 : (Jvm.Cond.methodLink "MissedTrains$Scribe" (32 : Nat) ({ cls := "MissedTrains$Scribe", name := "here", desc := "()I" } : Jvm.MethodName)) ∈ lw_all := lw_g (lw_at lw_m3 194 rfl) rfl
theorem q776 : (Jvm.Cond.instanceMethod ({ cls := "MissedTrains$Scribe", name := "here", desc := "()I" } : Jvm.MethodName)) ∈ lw_all := lw_g (lw_at lw_m3 195 rfl) rfl
theorem q777 : (Jvm.Cond.sameMethod "MissedTrains$Scribe" "MissedTrains$Scribe" "here" "()I") ∈ lw_all := lw_g (lw_at lw_m3 196 rfl) rfl
theorem q780 : (Jvm.Cond.code ({ cls := "MissedTrains$Scribe", name := "here", desc := "()I" } : Jvm.MethodName) prog_15_method_2_code (1 : Nat) (Option.some Jvm.ClassFile.FieldType.int)) ∈ lw_all := lw_g (lw_at lw_m3 199 rfl) rfl
theorem q783 : (Jvm.Cond.declares ({ cls := "MissedTrains$Scribe", name := "bad", desc := "(II)V" } : Jvm.MethodName)) ∈ lw_tbl := lw_at lw_m3 202 rfl
theorem q785 : (Jvm.Cond.instanceMethod ({ cls := "MissedTrains$Scribe", name := "bad", desc := "(II)V" } : Jvm.MethodName)) ∈ lw_all := lw_g (lw_at lw_m3 204 rfl) rfl
theorem q786 : (Jvm.Cond.code ({ cls := "MissedTrains$Scribe", name := "bad", desc := "(II)V" } : Jvm.MethodName) prog_15_method_5_code (3 : Nat) (Option.none : Option Jvm.ClassFile.FieldType)) ∈ lw_all := lw_g (lw_at lw_m3 205 rfl) rfl
theorem q789 : (Jvm.Cond.declares ({ cls := "MissedTrains$Scribe", name := "isGood", desc := "()Z" } : Jvm.MethodName)) ∈ lw_tbl := lw_at lw_m3 208 rfl
theorem q791 : (Jvm.Cond.instanceMethod ({ cls := "MissedTrains$Scribe", name := "isGood", desc := "()Z" } : Jvm.MethodName)) ∈ lw_all := lw_g (lw_at lw_m3 210 rfl) rfl
theorem q792 : (Jvm.Cond.code ({ cls := "MissedTrains$Scribe", name := "isGood", desc := "()Z" } : Jvm.MethodName) prog_15_method_6_code (1 : Nat) (Option.some Jvm.ClassFile.FieldType.boolean)) ∈ lw_all := lw_g (lw_at lw_m3 211 rfl) rfl
theorem q800 : (Jvm.Cond.declares ({ cls := "MissedTrains$Scribe", name := "here", desc := "()I" } : Jvm.MethodName)) ∈ lw_tbl := lw_at lw_m3 219 rfl
theorem q808 : (Jvm.Cond.declares ({ cls := "MissedTrains$Scribe", name := "goes", desc := "()V" } : Jvm.MethodName)) ∈ lw_tbl := lw_at lw_m3 227 rfl
theorem q810 : (Jvm.Cond.instanceMethod ({ cls := "MissedTrains$Scribe", name := "goes", desc := "()V" } : Jvm.MethodName)) ∈ lw_all := lw_g (lw_at lw_m3 229 rfl) rfl
theorem q811 : (Jvm.Cond.code ({ cls := "MissedTrains$Scribe", name := "goes", desc := "()V" } : Jvm.MethodName) prog_15_method_4_code (1 : Nat) (Option.none : Option Jvm.ClassFile.FieldType)) ∈ lw_all := lw_g (lw_at lw_m3 230 rfl) rfl
theorem q814 : (Jvm.Cond.declares ({ cls := "MissedTrains$Scribe", name := "number", desc := "(III)I" } : Jvm.MethodName)) ∈ lw_tbl := lw_at lw_m3 233 rfl
theorem q816 : (Jvm.Cond.instanceMethod ({ cls := "MissedTrains$Scribe", name := "number", desc := "(III)I" } : Jvm.MethodName)) ∈ lw_all := lw_g (lw_at lw_m3 235 rfl) rfl
theorem q817 : (Jvm.Cond.code ({ cls := "MissedTrains$Scribe", name := "number", desc := "(III)I" } : Jvm.MethodName) prog_15_method_8_code (6 : Nat) (Option.some Jvm.ClassFile.FieldType.int)) ∈ lw_all := lw_g (lw_at lw_m3 236 rfl) rfl
theorem q818 : (Jvm.Cond.methodLink "MissedTrains$Scribe" (36 : Nat) ({ cls := "MissedTrains$Scribe", name := "isGood", desc := "()Z" } : Jvm.MethodName)) ∈ lw_all := lw_g (lw_at lw_m3 237 rfl) rfl
theorem q819 : (Jvm.Cond.methodLink "MissedTrains$Scribe" (40 : Nat) ({ cls := "MissedTrains$Scribe", name := "sees", desc := "(II)Z" } : Jvm.MethodName)) ∈ lw_all := lw_g (lw_at lw_m3 238 rfl) rfl
theorem q820 : (Jvm.Cond.methodLink "MissedTrains$Scribe" (44 : Nat) ({ cls := "MissedTrains$Scribe", name := "bad", desc := "(II)V" } : Jvm.MethodName)) ∈ lw_all := lw_g (lw_at lw_m3 239 rfl) rfl
theorem q821 : (Jvm.Cond.methodLinkNest "MissedTrains$Scribe" (48 : Nat) ({ cls := "MissedTrains", name := "within", desc := "(III)Z" } : Jvm.MethodName) "MissedTrains") ∈ lw_tbl := lw_at lw_m4 0 rfl
theorem q1822 : (Jvm.Cond.sameMethod "MissedTrains$Scribe" "MissedTrains$Scribe" "isGood" "()Z") ∈ lw_all := lw_g (lw_at lw_m8 41 rfl) rfl
theorem q1825 : (Jvm.Cond.sameMethod "MissedTrains$Scribe" "MissedTrains$Scribe" "sees" "(II)Z") ∈ lw_all := lw_g (lw_at lw_m8 44 rfl) rfl
theorem q1828 : (Jvm.Cond.sameMethod "MissedTrains$Scribe" "MissedTrains$Scribe" "bad" "(II)V") ∈ lw_all := lw_g (lw_at lw_m8 47 rfl) rfl
/-! MissedTrains$Clerk -/
set_option maxRecDepth 100000
def RX18 : String := "MissedTrains$Clerk"
def TX18 : u_T := fun k => match k with
  | 0 => ("MissedTrains$Scribe", "n", "I", true)
  | 1 => ("MissedTrains$Scribe", "at", "I", false)
  | 2 => ("MissedTrains$Scribe", "fault", "I", false)
  | 3 => ("MissedTrains$Scribe", "place", "I", false)
  | 4 => ("MissedTrains$Scribe", "this$0", "LMissedTrains;", true)
  | 5 => ("MissedTrains$Clerk", "told", "[LMissedTrains$Train;", true)
  | 6 => ("MissedTrains$Clerk", "often", "[I", true)
  | 7 => ("MissedTrains$Clerk", "every", "[I", true)
  | 8 => ("MissedTrains$Clerk", "all", "I", false)
  | _ => ("MissedTrains$Clerk", "this$0", "LMissedTrains;", true)
def tyX18 : Nat → FieldType := fun k => match k with
  | 0 => .int
  | 1 => .int
  | 2 => .int
  | 3 => .int
  | 4 => .object "MissedTrains"
  | 5 => .array (.object "MissedTrains$Train")
  | 6 => .array .int
  | 7 => .array .int
  | 8 => .int
  | _ => .object "MissedTrains"
abbrev wsX180 : List Cond := u_ws RX18 TX18 10
-- two fields of one name: no nmX18
theorem tyX18_ok : ∀ k, k < 10 → parseFieldDescriptor (TX18 k).2.2.1 = some (tyX18 k) := by decide +kernel
abbrev cX18_init : ByteArray := prog_3_method_1_code
def yX18_init : MethodName := ⟨RX18, "<init>", "(LMissedTrains;I)V"⟩
def dkwX18_init_1 : List UInt8 := [188, 10, 181, 0, 21, 42, 16, 16, 188, 10, 181, 0, 25, 177]
abbrev dktX18_init_1 : List UInt8 := dkwX18_init_1 ++ []
def dkwX18_init_0 : List UInt8 := [42, 43, 181, 0, 3, 42, 43, 28, 183, 0, 9, 42, 16, 16, 189, 0, 15, 181, 0, 17, 42, 16, 16]
abbrev dktX18_init_0 : List UInt8 := dkwX18_init_0 ++ dktX18_init_1
theorem dksX18_init_0 : cX18_init.data.toList.drop 0 = dktX18_init_0 := by decide +kernel
theorem dksX18_init_1 : cX18_init.data.toList.drop 23 = dktX18_init_1 := dk_seg dksX18_init_0 23 rfl rfl
theorem dX18_init_0 : decode cX18_init 0 = .ok (.aload_n 0, 1) := dk_42 (dk_at dksX18_init_0 0 rfl rfl)
theorem dX18_init_1 : decode cX18_init 1 = .ok (.aload_n 1, 1) := dk_43 (dk_at dksX18_init_0 1 rfl rfl)
theorem dX18_init_2 : decode cX18_init 2 = .ok (.putfield 3, 3) := dk_181 0 3 (dk_at dksX18_init_0 2 rfl rfl)
theorem dX18_init_5 : decode cX18_init 5 = .ok (.aload_n 0, 1) := dk_42 (dk_at dksX18_init_0 5 rfl rfl)
theorem dX18_init_6 : decode cX18_init 6 = .ok (.aload_n 1, 1) := dk_43 (dk_at dksX18_init_0 6 rfl rfl)
theorem dX18_init_7 : decode cX18_init 7 = .ok (.iload_n 2, 1) := dk_28 (dk_at dksX18_init_0 7 rfl rfl)
theorem dX18_init_8 : decode cX18_init 8 = .ok (.invokespecial 9, 3) := dk_183 0 9 (dk_at dksX18_init_0 8 rfl rfl)
theorem dX18_init_11 : decode cX18_init 11 = .ok (.aload_n 0, 1) := dk_42 (dk_at dksX18_init_0 11 rfl rfl)
theorem dX18_init_12 : decode cX18_init 12 = .ok (.bipush 16, 2) := dk_16 16 (dk_at dksX18_init_0 12 rfl rfl)
theorem dX18_init_14 : decode cX18_init 14 = .ok (.anewarray 15, 3) := dk_189 0 15 (dk_at dksX18_init_0 14 rfl rfl)
theorem dX18_init_17 : decode cX18_init 17 = .ok (.putfield 17, 3) := dk_181 0 17 (dk_at dksX18_init_0 17 rfl rfl)
theorem dX18_init_20 : decode cX18_init 20 = .ok (.aload_n 0, 1) := dk_42 (dk_at dksX18_init_0 20 rfl rfl)
theorem dX18_init_21 : decode cX18_init 21 = .ok (.bipush 16, 2) := dk_16 16 (dk_at dksX18_init_0 21 rfl rfl)
theorem dX18_init_23 : decode cX18_init 23 = .ok (.newarray .int, 2) := dk_188_10 (dk_at dksX18_init_1 0 rfl rfl)
theorem dX18_init_25 : decode cX18_init 25 = .ok (.putfield 21, 3) := dk_181 0 21 (dk_at dksX18_init_1 2 rfl rfl)
theorem dX18_init_28 : decode cX18_init 28 = .ok (.aload_n 0, 1) := dk_42 (dk_at dksX18_init_1 5 rfl rfl)
theorem dX18_init_29 : decode cX18_init 29 = .ok (.bipush 16, 2) := dk_16 16 (dk_at dksX18_init_1 6 rfl rfl)
theorem dX18_init_31 : decode cX18_init 31 = .ok (.newarray .int, 2) := dk_188_10 (dk_at dksX18_init_1 8 rfl rfl)
theorem dX18_init_33 : decode cX18_init 33 = .ok (.putfield 25, 3) := dk_181 0 25 (dk_at dksX18_init_1 10 rfl rfl)
theorem dX18_init_36 : decode cX18_init 36 = .ok (.return_, 1) := dk_177 (dk_at dksX18_init_1 13 rfl rfl)
abbrev cX18_line : ByteArray := prog_3_method_4_code
def yX18_line : MethodName := ⟨RX18, "line", "(I)V"⟩
def dkwX18_line_6 : List UInt8 := [182, 0, 66, 153, 0, 19, 42, 180, 0, 82, 16, 48, 164, 0, 10, 42, 16, 8, 28, 182, 0, 43, 177]
abbrev dktX18_line_6 : List UInt8 := dkwX18_line_6 ++ []
def dkwX18_line_5 : List UInt8 := [160, 0, 8, 42, 27, 182, 0, 78, 42, 89, 180, 0, 82, 42, 180, 0, 21, 27, 46, 96, 181, 0, 82, 42]
abbrev dktX18_line_5 : List UInt8 := dkwX18_line_5 ++ dktX18_line_6
def dkwX18_line_4 : List UInt8 := [45, 83, 42, 180, 0, 21, 27, 4, 79, 42, 182, 0, 66, 153, 0, 17, 42, 182, 0, 36, 16, 120]
abbrev dktX18_line_4 : List UInt8 := dkwX18_line_4 ++ dktX18_line_5
def dkwX18_line_3 : List UInt8 := [153, 0, 11, 42, 45, 182, 0, 74, 167, 255, 237, 42, 182, 0, 66, 154, 0, 4, 177, 42, 180, 0, 17, 27]
abbrev dktX18_line_3 : List UInt8 := dkwX18_line_3 ++ dktX18_line_4
def dkwX18_line_2 : List UInt8 := [182, 0, 66, 153, 0, 8, 42, 45, 182, 0, 74, 42, 182, 0, 66, 153, 0, 18, 42, 182, 0, 39]
abbrev dktX18_line_2 : List UInt8 := dkwX18_line_2 ++ dktX18_line_3
def dkwX18_line_1 : List UInt8 := [42, 182, 0, 66, 154, 0, 4, 177, 187, 0, 15, 89, 183, 0, 72, 78, 42, 45, 182, 0, 74, 42]
abbrev dktX18_line_1 : List UInt8 := dkwX18_line_1 ++ dktX18_line_2
def dkwX18_line_0 : List UInt8 := [42, 182, 0, 32, 61, 42, 182, 0, 39, 153, 0, 15, 27, 16, 16, 160, 0, 9, 42, 7, 28, 182, 0, 43]
abbrev dktX18_line_0 : List UInt8 := dkwX18_line_0 ++ dktX18_line_1
theorem dksX18_line_0 : cX18_line.data.toList.drop 0 = dktX18_line_0 := by decide +kernel
theorem dksX18_line_1 : cX18_line.data.toList.drop 24 = dktX18_line_1 := dk_seg dksX18_line_0 24 rfl rfl
theorem dksX18_line_2 : cX18_line.data.toList.drop 46 = dktX18_line_2 := dk_seg dksX18_line_1 22 rfl rfl
theorem dksX18_line_3 : cX18_line.data.toList.drop 68 = dktX18_line_3 := dk_seg dksX18_line_2 22 rfl rfl
theorem dksX18_line_4 : cX18_line.data.toList.drop 92 = dktX18_line_4 := dk_seg dksX18_line_3 24 rfl rfl
theorem dksX18_line_5 : cX18_line.data.toList.drop 114 = dktX18_line_5 := dk_seg dksX18_line_4 22 rfl rfl
theorem dksX18_line_6 : cX18_line.data.toList.drop 138 = dktX18_line_6 := dk_seg dksX18_line_5 24 rfl rfl
theorem dX18_line_0 : decode cX18_line 0 = .ok (.aload_n 0, 1) := dk_42 (dk_at dksX18_line_0 0 rfl rfl)
theorem dX18_line_1 : decode cX18_line 1 = .ok (.invokevirtual 32, 3) := dk_182 0 32 (dk_at dksX18_line_0 1 rfl rfl)
theorem dX18_line_4 : decode cX18_line 4 = .ok (.istore_n 2, 1) := dk_61 (dk_at dksX18_line_0 4 rfl rfl)
theorem dX18_line_5 : decode cX18_line 5 = .ok (.aload_n 0, 1) := dk_42 (dk_at dksX18_line_0 5 rfl rfl)
theorem dX18_line_6 : decode cX18_line 6 = .ok (.invokevirtual 39, 3) := dk_182 0 39 (dk_at dksX18_line_0 6 rfl rfl)
theorem dX18_line_9 : decode cX18_line 9 = .ok (.ifCond .eq 15, 3) := dk_153 0 15 (dk_at dksX18_line_0 9 rfl rfl)
theorem dX18_line_12 : decode cX18_line 12 = .ok (.iload_n 1, 1) := dk_27 (dk_at dksX18_line_0 12 rfl rfl)
theorem dX18_line_13 : decode cX18_line 13 = .ok (.bipush 16, 2) := dk_16 16 (dk_at dksX18_line_0 13 rfl rfl)
theorem dX18_line_15 : decode cX18_line 15 = .ok (.if_icmp .ne 9, 3) := dk_160 0 9 (dk_at dksX18_line_0 15 rfl rfl)
theorem dX18_line_18 : decode cX18_line 18 = .ok (.aload_n 0, 1) := dk_42 (dk_at dksX18_line_0 18 rfl rfl)
theorem dX18_line_19 : decode cX18_line 19 = .ok (.iconst 4, 1) := dk_7 (dk_at dksX18_line_0 19 rfl rfl)
theorem dX18_line_20 : decode cX18_line 20 = .ok (.iload_n 2, 1) := dk_28 (dk_at dksX18_line_0 20 rfl rfl)
theorem dX18_line_21 : decode cX18_line 21 = .ok (.invokevirtual 43, 3) := dk_182 0 43 (dk_at dksX18_line_0 21 rfl rfl)
theorem dX18_line_24 : decode cX18_line 24 = .ok (.aload_n 0, 1) := dk_42 (dk_at dksX18_line_1 0 rfl rfl)
theorem dX18_line_25 : decode cX18_line 25 = .ok (.invokevirtual 66, 3) := dk_182 0 66 (dk_at dksX18_line_1 1 rfl rfl)
theorem dX18_line_28 : decode cX18_line 28 = .ok (.ifCond .ne 4, 3) := dk_154 0 4 (dk_at dksX18_line_1 4 rfl rfl)
theorem dX18_line_31 : decode cX18_line 31 = .ok (.return_, 1) := dk_177 (dk_at dksX18_line_1 7 rfl rfl)
theorem dX18_line_32 : decode cX18_line 32 = .ok (.new 15, 3) := dk_187 0 15 (dk_at dksX18_line_1 8 rfl rfl)
theorem dX18_line_35 : decode cX18_line 35 = .ok (.dup, 1) := dk_89 (dk_at dksX18_line_1 11 rfl rfl)
theorem dX18_line_36 : decode cX18_line 36 = .ok (.invokespecial 72, 3) := dk_183 0 72 (dk_at dksX18_line_1 12 rfl rfl)
theorem dX18_line_39 : decode cX18_line 39 = .ok (.astore_n 3, 1) := dk_78 (dk_at dksX18_line_1 15 rfl rfl)
theorem dX18_line_40 : decode cX18_line 40 = .ok (.aload_n 0, 1) := dk_42 (dk_at dksX18_line_1 16 rfl rfl)
theorem dX18_line_41 : decode cX18_line 41 = .ok (.aload_n 3, 1) := dk_45 (dk_at dksX18_line_1 17 rfl rfl)
theorem dX18_line_42 : decode cX18_line 42 = .ok (.invokevirtual 74, 3) := dk_182 0 74 (dk_at dksX18_line_1 18 rfl rfl)
theorem dX18_line_45 : decode cX18_line 45 = .ok (.aload_n 0, 1) := dk_42 (dk_at dksX18_line_1 21 rfl rfl)
theorem dX18_line_46 : decode cX18_line 46 = .ok (.invokevirtual 66, 3) := dk_182 0 66 (dk_at dksX18_line_2 0 rfl rfl)
theorem dX18_line_49 : decode cX18_line 49 = .ok (.ifCond .eq 8, 3) := dk_153 0 8 (dk_at dksX18_line_2 3 rfl rfl)
theorem dX18_line_52 : decode cX18_line 52 = .ok (.aload_n 0, 1) := dk_42 (dk_at dksX18_line_2 6 rfl rfl)
theorem dX18_line_53 : decode cX18_line 53 = .ok (.aload_n 3, 1) := dk_45 (dk_at dksX18_line_2 7 rfl rfl)
theorem dX18_line_54 : decode cX18_line 54 = .ok (.invokevirtual 74, 3) := dk_182 0 74 (dk_at dksX18_line_2 8 rfl rfl)
theorem dX18_line_57 : decode cX18_line 57 = .ok (.aload_n 0, 1) := dk_42 (dk_at dksX18_line_2 11 rfl rfl)
theorem dX18_line_58 : decode cX18_line 58 = .ok (.invokevirtual 66, 3) := dk_182 0 66 (dk_at dksX18_line_2 12 rfl rfl)
theorem dX18_line_61 : decode cX18_line 61 = .ok (.ifCond .eq 18, 3) := dk_153 0 18 (dk_at dksX18_line_2 15 rfl rfl)
theorem dX18_line_64 : decode cX18_line 64 = .ok (.aload_n 0, 1) := dk_42 (dk_at dksX18_line_2 18 rfl rfl)
theorem dX18_line_65 : decode cX18_line 65 = .ok (.invokevirtual 39, 3) := dk_182 0 39 (dk_at dksX18_line_2 19 rfl rfl)
theorem dX18_line_68 : decode cX18_line 68 = .ok (.ifCond .eq 11, 3) := dk_153 0 11 (dk_at dksX18_line_3 0 rfl rfl)
theorem dX18_line_71 : decode cX18_line 71 = .ok (.aload_n 0, 1) := dk_42 (dk_at dksX18_line_3 3 rfl rfl)
theorem dX18_line_72 : decode cX18_line 72 = .ok (.aload_n 3, 1) := dk_45 (dk_at dksX18_line_3 4 rfl rfl)
theorem dX18_line_73 : decode cX18_line 73 = .ok (.invokevirtual 74, 3) := dk_182 0 74 (dk_at dksX18_line_3 5 rfl rfl)
theorem dX18_line_76 : decode cX18_line 76 = .ok (.goto (-19), 3) := dk_167 255 237 (dk_at dksX18_line_3 8 rfl rfl)
theorem dX18_line_79 : decode cX18_line 79 = .ok (.aload_n 0, 1) := dk_42 (dk_at dksX18_line_3 11 rfl rfl)
theorem dX18_line_80 : decode cX18_line 80 = .ok (.invokevirtual 66, 3) := dk_182 0 66 (dk_at dksX18_line_3 12 rfl rfl)
theorem dX18_line_83 : decode cX18_line 83 = .ok (.ifCond .ne 4, 3) := dk_154 0 4 (dk_at dksX18_line_3 15 rfl rfl)
theorem dX18_line_86 : decode cX18_line 86 = .ok (.return_, 1) := dk_177 (dk_at dksX18_line_3 18 rfl rfl)
theorem dX18_line_87 : decode cX18_line 87 = .ok (.aload_n 0, 1) := dk_42 (dk_at dksX18_line_3 19 rfl rfl)
theorem dX18_line_88 : decode cX18_line 88 = .ok (.getfield 17, 3) := dk_180 0 17 (dk_at dksX18_line_3 20 rfl rfl)
theorem dX18_line_91 : decode cX18_line 91 = .ok (.iload_n 1, 1) := dk_27 (dk_at dksX18_line_3 23 rfl rfl)
theorem dX18_line_92 : decode cX18_line 92 = .ok (.aload_n 3, 1) := dk_45 (dk_at dksX18_line_4 0 rfl rfl)
theorem dX18_line_93 : decode cX18_line 93 = .ok (.aastore, 1) := dk_83 (dk_at dksX18_line_4 1 rfl rfl)
theorem dX18_line_94 : decode cX18_line 94 = .ok (.aload_n 0, 1) := dk_42 (dk_at dksX18_line_4 2 rfl rfl)
theorem dX18_line_95 : decode cX18_line 95 = .ok (.getfield 21, 3) := dk_180 0 21 (dk_at dksX18_line_4 3 rfl rfl)
theorem dX18_line_98 : decode cX18_line 98 = .ok (.iload_n 1, 1) := dk_27 (dk_at dksX18_line_4 6 rfl rfl)
theorem dX18_line_99 : decode cX18_line 99 = .ok (.iconst 1, 1) := dk_4 (dk_at dksX18_line_4 7 rfl rfl)
theorem dX18_line_100 : decode cX18_line 100 = .ok (.iastore, 1) := dk_79 (dk_at dksX18_line_4 8 rfl rfl)
theorem dX18_line_101 : decode cX18_line 101 = .ok (.aload_n 0, 1) := dk_42 (dk_at dksX18_line_4 9 rfl rfl)
theorem dX18_line_102 : decode cX18_line 102 = .ok (.invokevirtual 66, 3) := dk_182 0 66 (dk_at dksX18_line_4 10 rfl rfl)
theorem dX18_line_105 : decode cX18_line 105 = .ok (.ifCond .eq 17, 3) := dk_153 0 17 (dk_at dksX18_line_4 13 rfl rfl)
theorem dX18_line_108 : decode cX18_line 108 = .ok (.aload_n 0, 1) := dk_42 (dk_at dksX18_line_4 16 rfl rfl)
theorem dX18_line_109 : decode cX18_line 109 = .ok (.invokevirtual 36, 3) := dk_182 0 36 (dk_at dksX18_line_4 17 rfl rfl)
theorem dX18_line_112 : decode cX18_line 112 = .ok (.bipush 120, 2) := dk_16 120 (dk_at dksX18_line_4 20 rfl rfl)
theorem dX18_line_114 : decode cX18_line 114 = .ok (.if_icmp .ne 8, 3) := dk_160 0 8 (dk_at dksX18_line_5 0 rfl rfl)
theorem dX18_line_117 : decode cX18_line 117 = .ok (.aload_n 0, 1) := dk_42 (dk_at dksX18_line_5 3 rfl rfl)
theorem dX18_line_118 : decode cX18_line 118 = .ok (.iload_n 1, 1) := dk_27 (dk_at dksX18_line_5 4 rfl rfl)
theorem dX18_line_119 : decode cX18_line 119 = .ok (.invokevirtual 78, 3) := dk_182 0 78 (dk_at dksX18_line_5 5 rfl rfl)
theorem dX18_line_122 : decode cX18_line 122 = .ok (.aload_n 0, 1) := dk_42 (dk_at dksX18_line_5 8 rfl rfl)
theorem dX18_line_123 : decode cX18_line 123 = .ok (.dup, 1) := dk_89 (dk_at dksX18_line_5 9 rfl rfl)
theorem dX18_line_124 : decode cX18_line 124 = .ok (.getfield 82, 3) := dk_180 0 82 (dk_at dksX18_line_5 10 rfl rfl)
theorem dX18_line_127 : decode cX18_line 127 = .ok (.aload_n 0, 1) := dk_42 (dk_at dksX18_line_5 13 rfl rfl)
theorem dX18_line_128 : decode cX18_line 128 = .ok (.getfield 21, 3) := dk_180 0 21 (dk_at dksX18_line_5 14 rfl rfl)
theorem dX18_line_131 : decode cX18_line 131 = .ok (.iload_n 1, 1) := dk_27 (dk_at dksX18_line_5 17 rfl rfl)
theorem dX18_line_132 : decode cX18_line 132 = .ok (.iaload, 1) := dk_46 (dk_at dksX18_line_5 18 rfl rfl)
theorem dX18_line_133 : decode cX18_line 133 = .ok (.iadd, 1) := dk_96 (dk_at dksX18_line_5 19 rfl rfl)
theorem dX18_line_134 : decode cX18_line 134 = .ok (.putfield 82, 3) := dk_181 0 82 (dk_at dksX18_line_5 20 rfl rfl)
theorem dX18_line_137 : decode cX18_line 137 = .ok (.aload_n 0, 1) := dk_42 (dk_at dksX18_line_5 23 rfl rfl)
theorem dX18_line_138 : decode cX18_line 138 = .ok (.invokevirtual 66, 3) := dk_182 0 66 (dk_at dksX18_line_6 0 rfl rfl)
theorem dX18_line_141 : decode cX18_line 141 = .ok (.ifCond .eq 19, 3) := dk_153 0 19 (dk_at dksX18_line_6 3 rfl rfl)
theorem dX18_line_144 : decode cX18_line 144 = .ok (.aload_n 0, 1) := dk_42 (dk_at dksX18_line_6 6 rfl rfl)
theorem dX18_line_145 : decode cX18_line 145 = .ok (.getfield 82, 3) := dk_180 0 82 (dk_at dksX18_line_6 7 rfl rfl)
theorem dX18_line_148 : decode cX18_line 148 = .ok (.bipush 48, 2) := dk_16 48 (dk_at dksX18_line_6 10 rfl rfl)
theorem dX18_line_150 : decode cX18_line 150 = .ok (.if_icmp .le 10, 3) := dk_164 0 10 (dk_at dksX18_line_6 12 rfl rfl)
theorem dX18_line_153 : decode cX18_line 153 = .ok (.aload_n 0, 1) := dk_42 (dk_at dksX18_line_6 15 rfl rfl)
theorem dX18_line_154 : decode cX18_line 154 = .ok (.bipush 8, 2) := dk_16 8 (dk_at dksX18_line_6 16 rfl rfl)
theorem dX18_line_156 : decode cX18_line 156 = .ok (.iload_n 2, 1) := dk_28 (dk_at dksX18_line_6 18 rfl rfl)
theorem dX18_line_157 : decode cX18_line 157 = .ok (.invokevirtual 43, 3) := dk_182 0 43 (dk_at dksX18_line_6 19 rfl rfl)
theorem dX18_line_160 : decode cX18_line 160 = .ok (.return_, 1) := dk_177 (dk_at dksX18_line_6 22 rfl rfl)
abbrev cX18_seesStation : ByteArray := prog_3_method_2_code
def yX18_seesStation : MethodName := ⟨RX18, "seesStation", "()Z"⟩
def dkwX18_seesStation_0 : List UInt8 := [42, 16, 97, 16, 106, 182, 0, 28, 172]
abbrev dktX18_seesStation_0 : List UInt8 := dkwX18_seesStation_0 ++ []
theorem dksX18_seesStation_0 : cX18_seesStation.data.toList.drop 0 = dktX18_seesStation_0 := by decide +kernel
theorem dX18_seesStation_0 : decode cX18_seesStation 0 = .ok (.aload_n 0, 1) := dk_42 (dk_at dksX18_seesStation_0 0 rfl rfl)
theorem dX18_seesStation_1 : decode cX18_seesStation 1 = .ok (.bipush 97, 2) := dk_16 97 (dk_at dksX18_seesStation_0 1 rfl rfl)
theorem dX18_seesStation_3 : decode cX18_seesStation 3 = .ok (.bipush 106, 2) := dk_16 106 (dk_at dksX18_seesStation_0 3 rfl rfl)
theorem dX18_seesStation_5 : decode cX18_seesStation 5 = .ok (.invokevirtual 28, 3) := dk_182 0 28 (dk_at dksX18_seesStation_0 5 rfl rfl)
theorem dX18_seesStation_8 : decode cX18_seesStation 8 = .ok (.ireturn, 1) := dk_172 (dk_at dksX18_seesStation_0 8 rfl rfl)
abbrev cX18_stop : ByteArray := prog_3_method_3_code
def yX18_stop : MethodName := ⟨RX18, "stop", "(LMissedTrains$Train;)V"⟩
def dkwX18_stop_5 : List UInt8 := [29, 79, 43, 180, 0, 59, 43, 180, 0, 51, 21, 4, 79, 43, 89, 180, 0, 51, 4, 96, 181, 0, 51, 177]
abbrev dktX18_stop_5 : List UInt8 := dkwX18_stop_5 ++ []
def dkwX18_stop_4 : List UInt8 := [17, 5, 159, 182, 0, 62, 54, 4, 42, 182, 0, 66, 154, 0, 4, 177, 43, 180, 0, 69, 43, 180, 0, 51]
abbrev dktX18_stop_4 : List UInt8 := dkwX18_stop_4 ++ dktX18_stop_5
def dkwX18_stop_3 : List UInt8 := [43, 180, 0, 51, 154, 0, 7, 3, 167, 0, 16, 43, 180, 0, 59, 43, 180, 0, 51, 4, 100, 46, 4, 96]
abbrev dktX18_stop_3 : List UInt8 := dkwX18_stop_3 ++ dktX18_stop_4
def dkwX18_stop_2 : List UInt8 := [167, 0, 18, 43, 180, 0, 51, 16, 8, 160, 0, 9, 42, 8, 28, 182, 0, 43, 42, 182, 0, 55, 42, 7]
abbrev dktX18_stop_2 : List UInt8 := dkwX18_stop_2 ++ dktX18_stop_3
def dkwX18_stop_1 : List UInt8 := [182, 0, 43, 167, 0, 37, 43, 29, 182, 0, 47, 2, 159, 0, 13, 42, 16, 6, 28, 182, 0, 43]
abbrev dktX18_stop_1 : List UInt8 := dkwX18_stop_1 ++ dktX18_stop_2
def dkwX18_stop_0 : List UInt8 := [42, 182, 0, 32, 61, 42, 182, 0, 36, 16, 97, 100, 62, 42, 182, 0, 39, 154, 0, 12, 42, 4, 28]
abbrev dktX18_stop_0 : List UInt8 := dkwX18_stop_0 ++ dktX18_stop_1
theorem dksX18_stop_0 : cX18_stop.data.toList.drop 0 = dktX18_stop_0 := by decide +kernel
theorem dksX18_stop_1 : cX18_stop.data.toList.drop 23 = dktX18_stop_1 := dk_seg dksX18_stop_0 23 rfl rfl
theorem dksX18_stop_2 : cX18_stop.data.toList.drop 45 = dktX18_stop_2 := dk_seg dksX18_stop_1 22 rfl rfl
theorem dksX18_stop_3 : cX18_stop.data.toList.drop 69 = dktX18_stop_3 := dk_seg dksX18_stop_2 24 rfl rfl
theorem dksX18_stop_4 : cX18_stop.data.toList.drop 93 = dktX18_stop_4 := dk_seg dksX18_stop_3 24 rfl rfl
theorem dksX18_stop_5 : cX18_stop.data.toList.drop 117 = dktX18_stop_5 := dk_seg dksX18_stop_4 24 rfl rfl
theorem dX18_stop_0 : decode cX18_stop 0 = .ok (.aload_n 0, 1) := dk_42 (dk_at dksX18_stop_0 0 rfl rfl)
theorem dX18_stop_1 : decode cX18_stop 1 = .ok (.invokevirtual 32, 3) := dk_182 0 32 (dk_at dksX18_stop_0 1 rfl rfl)
theorem dX18_stop_4 : decode cX18_stop 4 = .ok (.istore_n 2, 1) := dk_61 (dk_at dksX18_stop_0 4 rfl rfl)
theorem dX18_stop_5 : decode cX18_stop 5 = .ok (.aload_n 0, 1) := dk_42 (dk_at dksX18_stop_0 5 rfl rfl)
theorem dX18_stop_6 : decode cX18_stop 6 = .ok (.invokevirtual 36, 3) := dk_182 0 36 (dk_at dksX18_stop_0 6 rfl rfl)
theorem dX18_stop_9 : decode cX18_stop 9 = .ok (.bipush 97, 2) := dk_16 97 (dk_at dksX18_stop_0 9 rfl rfl)
theorem dX18_stop_11 : decode cX18_stop 11 = .ok (.isub, 1) := dk_100 (dk_at dksX18_stop_0 11 rfl rfl)
theorem dX18_stop_12 : decode cX18_stop 12 = .ok (.istore_n 3, 1) := dk_62 (dk_at dksX18_stop_0 12 rfl rfl)
theorem dX18_stop_13 : decode cX18_stop 13 = .ok (.aload_n 0, 1) := dk_42 (dk_at dksX18_stop_0 13 rfl rfl)
theorem dX18_stop_14 : decode cX18_stop 14 = .ok (.invokevirtual 39, 3) := dk_182 0 39 (dk_at dksX18_stop_0 14 rfl rfl)
theorem dX18_stop_17 : decode cX18_stop 17 = .ok (.ifCond .ne 12, 3) := dk_154 0 12 (dk_at dksX18_stop_0 17 rfl rfl)
theorem dX18_stop_20 : decode cX18_stop 20 = .ok (.aload_n 0, 1) := dk_42 (dk_at dksX18_stop_0 20 rfl rfl)
theorem dX18_stop_21 : decode cX18_stop 21 = .ok (.iconst 1, 1) := dk_4 (dk_at dksX18_stop_0 21 rfl rfl)
theorem dX18_stop_22 : decode cX18_stop 22 = .ok (.iload_n 2, 1) := dk_28 (dk_at dksX18_stop_0 22 rfl rfl)
theorem dX18_stop_23 : decode cX18_stop 23 = .ok (.invokevirtual 43, 3) := dk_182 0 43 (dk_at dksX18_stop_1 0 rfl rfl)
theorem dX18_stop_26 : decode cX18_stop 26 = .ok (.goto 37, 3) := dk_167 0 37 (dk_at dksX18_stop_1 3 rfl rfl)
theorem dX18_stop_29 : decode cX18_stop 29 = .ok (.aload_n 1, 1) := dk_43 (dk_at dksX18_stop_1 6 rfl rfl)
theorem dX18_stop_30 : decode cX18_stop 30 = .ok (.iload_n 3, 1) := dk_29 (dk_at dksX18_stop_1 7 rfl rfl)
theorem dX18_stop_31 : decode cX18_stop 31 = .ok (.invokevirtual 47, 3) := dk_182 0 47 (dk_at dksX18_stop_1 8 rfl rfl)
theorem dX18_stop_34 : decode cX18_stop 34 = .ok (.iconst (-1), 1) := dk_2 (dk_at dksX18_stop_1 11 rfl rfl)
theorem dX18_stop_35 : decode cX18_stop 35 = .ok (.if_icmp .eq 13, 3) := dk_159 0 13 (dk_at dksX18_stop_1 12 rfl rfl)
theorem dX18_stop_38 : decode cX18_stop 38 = .ok (.aload_n 0, 1) := dk_42 (dk_at dksX18_stop_1 15 rfl rfl)
theorem dX18_stop_39 : decode cX18_stop 39 = .ok (.bipush 6, 2) := dk_16 6 (dk_at dksX18_stop_1 16 rfl rfl)
theorem dX18_stop_41 : decode cX18_stop 41 = .ok (.iload_n 2, 1) := dk_28 (dk_at dksX18_stop_1 18 rfl rfl)
theorem dX18_stop_42 : decode cX18_stop 42 = .ok (.invokevirtual 43, 3) := dk_182 0 43 (dk_at dksX18_stop_1 19 rfl rfl)
theorem dX18_stop_45 : decode cX18_stop 45 = .ok (.goto 18, 3) := dk_167 0 18 (dk_at dksX18_stop_2 0 rfl rfl)
theorem dX18_stop_48 : decode cX18_stop 48 = .ok (.aload_n 1, 1) := dk_43 (dk_at dksX18_stop_2 3 rfl rfl)
theorem dX18_stop_49 : decode cX18_stop 49 = .ok (.getfield 51, 3) := dk_180 0 51 (dk_at dksX18_stop_2 4 rfl rfl)
theorem dX18_stop_52 : decode cX18_stop 52 = .ok (.bipush 8, 2) := dk_16 8 (dk_at dksX18_stop_2 7 rfl rfl)
theorem dX18_stop_54 : decode cX18_stop 54 = .ok (.if_icmp .ne 9, 3) := dk_160 0 9 (dk_at dksX18_stop_2 9 rfl rfl)
theorem dX18_stop_57 : decode cX18_stop 57 = .ok (.aload_n 0, 1) := dk_42 (dk_at dksX18_stop_2 12 rfl rfl)
theorem dX18_stop_58 : decode cX18_stop 58 = .ok (.iconst 5, 1) := dk_8 (dk_at dksX18_stop_2 13 rfl rfl)
theorem dX18_stop_59 : decode cX18_stop 59 = .ok (.iload_n 2, 1) := dk_28 (dk_at dksX18_stop_2 14 rfl rfl)
theorem dX18_stop_60 : decode cX18_stop 60 = .ok (.invokevirtual 43, 3) := dk_182 0 43 (dk_at dksX18_stop_2 15 rfl rfl)
theorem dX18_stop_63 : decode cX18_stop 63 = .ok (.aload_n 0, 1) := dk_42 (dk_at dksX18_stop_2 18 rfl rfl)
theorem dX18_stop_64 : decode cX18_stop 64 = .ok (.invokevirtual 55, 3) := dk_182 0 55 (dk_at dksX18_stop_2 19 rfl rfl)
theorem dX18_stop_67 : decode cX18_stop 67 = .ok (.aload_n 0, 1) := dk_42 (dk_at dksX18_stop_2 22 rfl rfl)
theorem dX18_stop_68 : decode cX18_stop 68 = .ok (.iconst 4, 1) := dk_7 (dk_at dksX18_stop_2 23 rfl rfl)
theorem dX18_stop_69 : decode cX18_stop 69 = .ok (.aload_n 1, 1) := dk_43 (dk_at dksX18_stop_3 0 rfl rfl)
theorem dX18_stop_70 : decode cX18_stop 70 = .ok (.getfield 51, 3) := dk_180 0 51 (dk_at dksX18_stop_3 1 rfl rfl)
theorem dX18_stop_73 : decode cX18_stop 73 = .ok (.ifCond .ne 7, 3) := dk_154 0 7 (dk_at dksX18_stop_3 4 rfl rfl)
theorem dX18_stop_76 : decode cX18_stop 76 = .ok (.iconst 0, 1) := dk_3 (dk_at dksX18_stop_3 7 rfl rfl)
theorem dX18_stop_77 : decode cX18_stop 77 = .ok (.goto 16, 3) := dk_167 0 16 (dk_at dksX18_stop_3 8 rfl rfl)
theorem dX18_stop_80 : decode cX18_stop 80 = .ok (.aload_n 1, 1) := dk_43 (dk_at dksX18_stop_3 11 rfl rfl)
theorem dX18_stop_81 : decode cX18_stop 81 = .ok (.getfield 59, 3) := dk_180 0 59 (dk_at dksX18_stop_3 12 rfl rfl)
theorem dX18_stop_84 : decode cX18_stop 84 = .ok (.aload_n 1, 1) := dk_43 (dk_at dksX18_stop_3 15 rfl rfl)
theorem dX18_stop_85 : decode cX18_stop 85 = .ok (.getfield 51, 3) := dk_180 0 51 (dk_at dksX18_stop_3 16 rfl rfl)
theorem dX18_stop_88 : decode cX18_stop 88 = .ok (.iconst 1, 1) := dk_4 (dk_at dksX18_stop_3 19 rfl rfl)
theorem dX18_stop_89 : decode cX18_stop 89 = .ok (.isub, 1) := dk_100 (dk_at dksX18_stop_3 20 rfl rfl)
theorem dX18_stop_90 : decode cX18_stop 90 = .ok (.iaload, 1) := dk_46 (dk_at dksX18_stop_3 21 rfl rfl)
theorem dX18_stop_91 : decode cX18_stop 91 = .ok (.iconst 1, 1) := dk_4 (dk_at dksX18_stop_3 22 rfl rfl)
theorem dX18_stop_92 : decode cX18_stop 92 = .ok (.iadd, 1) := dk_96 (dk_at dksX18_stop_3 23 rfl rfl)
theorem dX18_stop_93 : decode cX18_stop 93 = .ok (.sipush 1439, 3) := dk_17 5 159 (dk_at dksX18_stop_4 0 rfl rfl)
theorem dX18_stop_96 : decode cX18_stop 96 = .ok (.invokevirtual 62, 3) := dk_182 0 62 (dk_at dksX18_stop_4 3 rfl rfl)
theorem dX18_stop_99 : decode cX18_stop 99 = .ok (.istore 4, 2) := dk_54 4 (dk_at dksX18_stop_4 6 rfl rfl)
theorem dX18_stop_101 : decode cX18_stop 101 = .ok (.aload_n 0, 1) := dk_42 (dk_at dksX18_stop_4 8 rfl rfl)
theorem dX18_stop_102 : decode cX18_stop 102 = .ok (.invokevirtual 66, 3) := dk_182 0 66 (dk_at dksX18_stop_4 9 rfl rfl)
theorem dX18_stop_105 : decode cX18_stop 105 = .ok (.ifCond .ne 4, 3) := dk_154 0 4 (dk_at dksX18_stop_4 12 rfl rfl)
theorem dX18_stop_108 : decode cX18_stop 108 = .ok (.return_, 1) := dk_177 (dk_at dksX18_stop_4 15 rfl rfl)
theorem dX18_stop_109 : decode cX18_stop 109 = .ok (.aload_n 1, 1) := dk_43 (dk_at dksX18_stop_4 16 rfl rfl)
theorem dX18_stop_110 : decode cX18_stop 110 = .ok (.getfield 69, 3) := dk_180 0 69 (dk_at dksX18_stop_4 17 rfl rfl)
theorem dX18_stop_113 : decode cX18_stop 113 = .ok (.aload_n 1, 1) := dk_43 (dk_at dksX18_stop_4 20 rfl rfl)
theorem dX18_stop_114 : decode cX18_stop 114 = .ok (.getfield 51, 3) := dk_180 0 51 (dk_at dksX18_stop_4 21 rfl rfl)
theorem dX18_stop_117 : decode cX18_stop 117 = .ok (.iload_n 3, 1) := dk_29 (dk_at dksX18_stop_5 0 rfl rfl)
theorem dX18_stop_118 : decode cX18_stop 118 = .ok (.iastore, 1) := dk_79 (dk_at dksX18_stop_5 1 rfl rfl)
theorem dX18_stop_119 : decode cX18_stop 119 = .ok (.aload_n 1, 1) := dk_43 (dk_at dksX18_stop_5 2 rfl rfl)
theorem dX18_stop_120 : decode cX18_stop 120 = .ok (.getfield 59, 3) := dk_180 0 59 (dk_at dksX18_stop_5 3 rfl rfl)
theorem dX18_stop_123 : decode cX18_stop 123 = .ok (.aload_n 1, 1) := dk_43 (dk_at dksX18_stop_5 6 rfl rfl)
theorem dX18_stop_124 : decode cX18_stop 124 = .ok (.getfield 51, 3) := dk_180 0 51 (dk_at dksX18_stop_5 7 rfl rfl)
theorem dX18_stop_127 : decode cX18_stop 127 = .ok (.iload 4, 2) := dk_21 4 (dk_at dksX18_stop_5 10 rfl rfl)
theorem dX18_stop_129 : decode cX18_stop 129 = .ok (.iastore, 1) := dk_79 (dk_at dksX18_stop_5 12 rfl rfl)
theorem dX18_stop_130 : decode cX18_stop 130 = .ok (.aload_n 1, 1) := dk_43 (dk_at dksX18_stop_5 13 rfl rfl)
theorem dX18_stop_131 : decode cX18_stop 131 = .ok (.dup, 1) := dk_89 (dk_at dksX18_stop_5 14 rfl rfl)
theorem dX18_stop_132 : decode cX18_stop 132 = .ok (.getfield 51, 3) := dk_180 0 51 (dk_at dksX18_stop_5 15 rfl rfl)
theorem dX18_stop_135 : decode cX18_stop 135 = .ok (.iconst 1, 1) := dk_4 (dk_at dksX18_stop_5 18 rfl rfl)
theorem dX18_stop_136 : decode cX18_stop 136 = .ok (.iadd, 1) := dk_96 (dk_at dksX18_stop_5 19 rfl rfl)
theorem dX18_stop_137 : decode cX18_stop 137 = .ok (.putfield 51, 3) := dk_181 0 51 (dk_at dksX18_stop_5 20 rfl rfl)
theorem dX18_stop_140 : decode cX18_stop 140 = .ok (.return_, 1) := dk_177 (dk_at dksX18_stop_5 23 rfl rfl)
abbrev cX18_repeats : ByteArray := prog_3_method_5_code
def yX18_repeats : MethodName := ⟨RX18, "repeats", "(I)V"⟩
def dkwX18_repeats_4 : List UInt8 := [180, 0, 25, 27, 46, 104, 96, 17, 5, 160, 161, 0, 9, 42, 6, 28, 182, 0, 43, 177]
abbrev dktX18_repeats_4 : List UInt8 := dkwX18_repeats_4 ++ []
def dkwX18_repeats_3 : List UInt8 := [182, 0, 66, 153, 0, 40, 42, 180, 0, 17, 27, 50, 182, 0, 85, 42, 180, 0, 21, 27, 46, 4, 100, 42]
abbrev dktX18_repeats_3 : List UInt8 := dkwX18_repeats_3 ++ dktX18_repeats_4
def dkwX18_repeats_2 : List UInt8 := [182, 0, 55, 42, 182, 0, 32, 61, 42, 180, 0, 25, 27, 42, 6, 4, 17, 2, 208, 182, 0, 62, 79, 42]
abbrev dktX18_repeats_2 : List UInt8 := dkwX18_repeats_2 ++ dktX18_repeats_3
def dkwX18_repeats_1 : List UInt8 := [153, 0, 21, 42, 182, 0, 36, 16, 43, 159, 0, 12, 42, 4, 42, 182, 0, 32, 182, 0, 43, 42]
abbrev dktX18_repeats_1 : List UInt8 := dkwX18_repeats_1 ++ dktX18_repeats_2
def dkwX18_repeats_0 : List UInt8 := [42, 182, 0, 55, 42, 180, 0, 21, 27, 42, 5, 5, 16, 24, 182, 0, 62, 79, 42, 182, 0, 66]
abbrev dktX18_repeats_0 : List UInt8 := dkwX18_repeats_0 ++ dktX18_repeats_1
theorem dksX18_repeats_0 : cX18_repeats.data.toList.drop 0 = dktX18_repeats_0 := by decide +kernel
theorem dksX18_repeats_1 : cX18_repeats.data.toList.drop 22 = dktX18_repeats_1 := dk_seg dksX18_repeats_0 22 rfl rfl
theorem dksX18_repeats_2 : cX18_repeats.data.toList.drop 44 = dktX18_repeats_2 := dk_seg dksX18_repeats_1 22 rfl rfl
theorem dksX18_repeats_3 : cX18_repeats.data.toList.drop 68 = dktX18_repeats_3 := dk_seg dksX18_repeats_2 24 rfl rfl
theorem dksX18_repeats_4 : cX18_repeats.data.toList.drop 92 = dktX18_repeats_4 := dk_seg dksX18_repeats_3 24 rfl rfl
theorem dX18_repeats_0 : decode cX18_repeats 0 = .ok (.aload_n 0, 1) := dk_42 (dk_at dksX18_repeats_0 0 rfl rfl)
theorem dX18_repeats_1 : decode cX18_repeats 1 = .ok (.invokevirtual 55, 3) := dk_182 0 55 (dk_at dksX18_repeats_0 1 rfl rfl)
theorem dX18_repeats_4 : decode cX18_repeats 4 = .ok (.aload_n 0, 1) := dk_42 (dk_at dksX18_repeats_0 4 rfl rfl)
theorem dX18_repeats_5 : decode cX18_repeats 5 = .ok (.getfield 21, 3) := dk_180 0 21 (dk_at dksX18_repeats_0 5 rfl rfl)
theorem dX18_repeats_8 : decode cX18_repeats 8 = .ok (.iload_n 1, 1) := dk_27 (dk_at dksX18_repeats_0 8 rfl rfl)
theorem dX18_repeats_9 : decode cX18_repeats 9 = .ok (.aload_n 0, 1) := dk_42 (dk_at dksX18_repeats_0 9 rfl rfl)
theorem dX18_repeats_10 : decode cX18_repeats 10 = .ok (.iconst 2, 1) := dk_5 (dk_at dksX18_repeats_0 10 rfl rfl)
theorem dX18_repeats_11 : decode cX18_repeats 11 = .ok (.iconst 2, 1) := dk_5 (dk_at dksX18_repeats_0 11 rfl rfl)
theorem dX18_repeats_12 : decode cX18_repeats 12 = .ok (.bipush 24, 2) := dk_16 24 (dk_at dksX18_repeats_0 12 rfl rfl)
theorem dX18_repeats_14 : decode cX18_repeats 14 = .ok (.invokevirtual 62, 3) := dk_182 0 62 (dk_at dksX18_repeats_0 14 rfl rfl)
theorem dX18_repeats_17 : decode cX18_repeats 17 = .ok (.iastore, 1) := dk_79 (dk_at dksX18_repeats_0 17 rfl rfl)
theorem dX18_repeats_18 : decode cX18_repeats 18 = .ok (.aload_n 0, 1) := dk_42 (dk_at dksX18_repeats_0 18 rfl rfl)
theorem dX18_repeats_19 : decode cX18_repeats 19 = .ok (.invokevirtual 66, 3) := dk_182 0 66 (dk_at dksX18_repeats_0 19 rfl rfl)
theorem dX18_repeats_22 : decode cX18_repeats 22 = .ok (.ifCond .eq 21, 3) := dk_153 0 21 (dk_at dksX18_repeats_1 0 rfl rfl)
theorem dX18_repeats_25 : decode cX18_repeats 25 = .ok (.aload_n 0, 1) := dk_42 (dk_at dksX18_repeats_1 3 rfl rfl)
theorem dX18_repeats_26 : decode cX18_repeats 26 = .ok (.invokevirtual 36, 3) := dk_182 0 36 (dk_at dksX18_repeats_1 4 rfl rfl)
theorem dX18_repeats_29 : decode cX18_repeats 29 = .ok (.bipush 43, 2) := dk_16 43 (dk_at dksX18_repeats_1 7 rfl rfl)
theorem dX18_repeats_31 : decode cX18_repeats 31 = .ok (.if_icmp .eq 12, 3) := dk_159 0 12 (dk_at dksX18_repeats_1 9 rfl rfl)
theorem dX18_repeats_34 : decode cX18_repeats 34 = .ok (.aload_n 0, 1) := dk_42 (dk_at dksX18_repeats_1 12 rfl rfl)
theorem dX18_repeats_35 : decode cX18_repeats 35 = .ok (.iconst 1, 1) := dk_4 (dk_at dksX18_repeats_1 13 rfl rfl)
theorem dX18_repeats_36 : decode cX18_repeats 36 = .ok (.aload_n 0, 1) := dk_42 (dk_at dksX18_repeats_1 14 rfl rfl)
theorem dX18_repeats_37 : decode cX18_repeats 37 = .ok (.invokevirtual 32, 3) := dk_182 0 32 (dk_at dksX18_repeats_1 15 rfl rfl)
theorem dX18_repeats_40 : decode cX18_repeats 40 = .ok (.invokevirtual 43, 3) := dk_182 0 43 (dk_at dksX18_repeats_1 18 rfl rfl)
theorem dX18_repeats_43 : decode cX18_repeats 43 = .ok (.aload_n 0, 1) := dk_42 (dk_at dksX18_repeats_1 21 rfl rfl)
theorem dX18_repeats_44 : decode cX18_repeats 44 = .ok (.invokevirtual 55, 3) := dk_182 0 55 (dk_at dksX18_repeats_2 0 rfl rfl)
theorem dX18_repeats_47 : decode cX18_repeats 47 = .ok (.aload_n 0, 1) := dk_42 (dk_at dksX18_repeats_2 3 rfl rfl)
theorem dX18_repeats_48 : decode cX18_repeats 48 = .ok (.invokevirtual 32, 3) := dk_182 0 32 (dk_at dksX18_repeats_2 4 rfl rfl)
theorem dX18_repeats_51 : decode cX18_repeats 51 = .ok (.istore_n 2, 1) := dk_61 (dk_at dksX18_repeats_2 7 rfl rfl)
theorem dX18_repeats_52 : decode cX18_repeats 52 = .ok (.aload_n 0, 1) := dk_42 (dk_at dksX18_repeats_2 8 rfl rfl)
theorem dX18_repeats_53 : decode cX18_repeats 53 = .ok (.getfield 25, 3) := dk_180 0 25 (dk_at dksX18_repeats_2 9 rfl rfl)
theorem dX18_repeats_56 : decode cX18_repeats 56 = .ok (.iload_n 1, 1) := dk_27 (dk_at dksX18_repeats_2 12 rfl rfl)
theorem dX18_repeats_57 : decode cX18_repeats 57 = .ok (.aload_n 0, 1) := dk_42 (dk_at dksX18_repeats_2 13 rfl rfl)
theorem dX18_repeats_58 : decode cX18_repeats 58 = .ok (.iconst 3, 1) := dk_6 (dk_at dksX18_repeats_2 14 rfl rfl)
theorem dX18_repeats_59 : decode cX18_repeats 59 = .ok (.iconst 1, 1) := dk_4 (dk_at dksX18_repeats_2 15 rfl rfl)
theorem dX18_repeats_60 : decode cX18_repeats 60 = .ok (.sipush 720, 3) := dk_17 2 208 (dk_at dksX18_repeats_2 16 rfl rfl)
theorem dX18_repeats_63 : decode cX18_repeats 63 = .ok (.invokevirtual 62, 3) := dk_182 0 62 (dk_at dksX18_repeats_2 19 rfl rfl)
theorem dX18_repeats_66 : decode cX18_repeats 66 = .ok (.iastore, 1) := dk_79 (dk_at dksX18_repeats_2 22 rfl rfl)
theorem dX18_repeats_67 : decode cX18_repeats 67 = .ok (.aload_n 0, 1) := dk_42 (dk_at dksX18_repeats_2 23 rfl rfl)
theorem dX18_repeats_68 : decode cX18_repeats 68 = .ok (.invokevirtual 66, 3) := dk_182 0 66 (dk_at dksX18_repeats_3 0 rfl rfl)
theorem dX18_repeats_71 : decode cX18_repeats 71 = .ok (.ifCond .eq 40, 3) := dk_153 0 40 (dk_at dksX18_repeats_3 3 rfl rfl)
theorem dX18_repeats_74 : decode cX18_repeats 74 = .ok (.aload_n 0, 1) := dk_42 (dk_at dksX18_repeats_3 6 rfl rfl)
theorem dX18_repeats_75 : decode cX18_repeats 75 = .ok (.getfield 17, 3) := dk_180 0 17 (dk_at dksX18_repeats_3 7 rfl rfl)
theorem dX18_repeats_78 : decode cX18_repeats 78 = .ok (.iload_n 1, 1) := dk_27 (dk_at dksX18_repeats_3 10 rfl rfl)
theorem dX18_repeats_79 : decode cX18_repeats 79 = .ok (.aaload, 1) := dk_50 (dk_at dksX18_repeats_3 11 rfl rfl)
theorem dX18_repeats_80 : decode cX18_repeats 80 = .ok (.invokevirtual 85, 3) := dk_182 0 85 (dk_at dksX18_repeats_3 12 rfl rfl)
theorem dX18_repeats_83 : decode cX18_repeats 83 = .ok (.aload_n 0, 1) := dk_42 (dk_at dksX18_repeats_3 15 rfl rfl)
theorem dX18_repeats_84 : decode cX18_repeats 84 = .ok (.getfield 21, 3) := dk_180 0 21 (dk_at dksX18_repeats_3 16 rfl rfl)
theorem dX18_repeats_87 : decode cX18_repeats 87 = .ok (.iload_n 1, 1) := dk_27 (dk_at dksX18_repeats_3 19 rfl rfl)
theorem dX18_repeats_88 : decode cX18_repeats 88 = .ok (.iaload, 1) := dk_46 (dk_at dksX18_repeats_3 20 rfl rfl)
theorem dX18_repeats_89 : decode cX18_repeats 89 = .ok (.iconst 1, 1) := dk_4 (dk_at dksX18_repeats_3 21 rfl rfl)
theorem dX18_repeats_90 : decode cX18_repeats 90 = .ok (.isub, 1) := dk_100 (dk_at dksX18_repeats_3 22 rfl rfl)
theorem dX18_repeats_91 : decode cX18_repeats 91 = .ok (.aload_n 0, 1) := dk_42 (dk_at dksX18_repeats_3 23 rfl rfl)
theorem dX18_repeats_92 : decode cX18_repeats 92 = .ok (.getfield 25, 3) := dk_180 0 25 (dk_at dksX18_repeats_4 0 rfl rfl)
theorem dX18_repeats_95 : decode cX18_repeats 95 = .ok (.iload_n 1, 1) := dk_27 (dk_at dksX18_repeats_4 3 rfl rfl)
theorem dX18_repeats_96 : decode cX18_repeats 96 = .ok (.iaload, 1) := dk_46 (dk_at dksX18_repeats_4 4 rfl rfl)
theorem dX18_repeats_97 : decode cX18_repeats 97 = .ok (.imul, 1) := dk_104 (dk_at dksX18_repeats_4 5 rfl rfl)
theorem dX18_repeats_98 : decode cX18_repeats 98 = .ok (.iadd, 1) := dk_96 (dk_at dksX18_repeats_4 6 rfl rfl)
theorem dX18_repeats_99 : decode cX18_repeats 99 = .ok (.sipush 1440, 3) := dk_17 5 160 (dk_at dksX18_repeats_4 7 rfl rfl)
theorem dX18_repeats_102 : decode cX18_repeats 102 = .ok (.if_icmp .lt 9, 3) := dk_161 0 9 (dk_at dksX18_repeats_4 10 rfl rfl)
theorem dX18_repeats_105 : decode cX18_repeats 105 = .ok (.aload_n 0, 1) := dk_42 (dk_at dksX18_repeats_4 13 rfl rfl)
theorem dX18_repeats_106 : decode cX18_repeats 106 = .ok (.iconst 3, 1) := dk_6 (dk_at dksX18_repeats_4 14 rfl rfl)
theorem dX18_repeats_107 : decode cX18_repeats 107 = .ok (.iload_n 2, 1) := dk_28 (dk_at dksX18_repeats_4 15 rfl rfl)
theorem dX18_repeats_108 : decode cX18_repeats 108 = .ok (.invokevirtual 43, 3) := dk_182 0 43 (dk_at dksX18_repeats_4 16 rfl rfl)
theorem dX18_repeats_111 : decode cX18_repeats 111 = .ok (.return_, 1) := dk_177 (dk_at dksX18_repeats_4 19 rfl rfl)
abbrev cX18_stands : ByteArray := prog_3_method_6_code
def yX18_stands : MethodName := ⟨RX18, "stands", "(I)I"⟩
def dkwX18_stands_2 : List UInt8 := [182, 0, 91, 132, 2, 1, 132, 4, 1, 167, 255, 212, 132, 3, 1, 167, 255, 198, 28, 172]
abbrev dktX18_stands_2 : List UInt8 := dkwX18_stands_2 ++ []
def dkwX18_stands_1 : List UInt8 := [180, 0, 3, 180, 0, 88, 28, 50, 42, 180, 0, 17, 29, 50, 21, 4, 42, 180, 0, 25, 29, 46, 104]
abbrev dktX18_stands_1 : List UInt8 := dkwX18_stands_1 ++ dktX18_stands_2
def dkwX18_stands_0 : List UInt8 := [3, 61, 3, 62, 29, 27, 162, 0, 59, 3, 54, 4, 21, 4, 42, 180, 0, 21, 29, 46, 162, 0, 39, 42]
abbrev dktX18_stands_0 : List UInt8 := dkwX18_stands_0 ++ dktX18_stands_1
theorem dksX18_stands_0 : cX18_stands.data.toList.drop 0 = dktX18_stands_0 := by decide +kernel
theorem dksX18_stands_1 : cX18_stands.data.toList.drop 24 = dktX18_stands_1 := dk_seg dksX18_stands_0 24 rfl rfl
theorem dksX18_stands_2 : cX18_stands.data.toList.drop 47 = dktX18_stands_2 := dk_seg dksX18_stands_1 23 rfl rfl
theorem dX18_stands_0 : decode cX18_stands 0 = .ok (.iconst 0, 1) := dk_3 (dk_at dksX18_stands_0 0 rfl rfl)
theorem dX18_stands_1 : decode cX18_stands 1 = .ok (.istore_n 2, 1) := dk_61 (dk_at dksX18_stands_0 1 rfl rfl)
theorem dX18_stands_2 : decode cX18_stands 2 = .ok (.iconst 0, 1) := dk_3 (dk_at dksX18_stands_0 2 rfl rfl)
theorem dX18_stands_3 : decode cX18_stands 3 = .ok (.istore_n 3, 1) := dk_62 (dk_at dksX18_stands_0 3 rfl rfl)
theorem dX18_stands_4 : decode cX18_stands 4 = .ok (.iload_n 3, 1) := dk_29 (dk_at dksX18_stands_0 4 rfl rfl)
theorem dX18_stands_5 : decode cX18_stands 5 = .ok (.iload_n 1, 1) := dk_27 (dk_at dksX18_stands_0 5 rfl rfl)
theorem dX18_stands_6 : decode cX18_stands 6 = .ok (.if_icmp .ge 59, 3) := dk_162 0 59 (dk_at dksX18_stands_0 6 rfl rfl)
theorem dX18_stands_9 : decode cX18_stands 9 = .ok (.iconst 0, 1) := dk_3 (dk_at dksX18_stands_0 9 rfl rfl)
theorem dX18_stands_10 : decode cX18_stands 10 = .ok (.istore 4, 2) := dk_54 4 (dk_at dksX18_stands_0 10 rfl rfl)
theorem dX18_stands_12 : decode cX18_stands 12 = .ok (.iload 4, 2) := dk_21 4 (dk_at dksX18_stands_0 12 rfl rfl)
theorem dX18_stands_14 : decode cX18_stands 14 = .ok (.aload_n 0, 1) := dk_42 (dk_at dksX18_stands_0 14 rfl rfl)
theorem dX18_stands_15 : decode cX18_stands 15 = .ok (.getfield 21, 3) := dk_180 0 21 (dk_at dksX18_stands_0 15 rfl rfl)
theorem dX18_stands_18 : decode cX18_stands 18 = .ok (.iload_n 3, 1) := dk_29 (dk_at dksX18_stands_0 18 rfl rfl)
theorem dX18_stands_19 : decode cX18_stands 19 = .ok (.iaload, 1) := dk_46 (dk_at dksX18_stands_0 19 rfl rfl)
theorem dX18_stands_20 : decode cX18_stands 20 = .ok (.if_icmp .ge 39, 3) := dk_162 0 39 (dk_at dksX18_stands_0 20 rfl rfl)
theorem dX18_stands_23 : decode cX18_stands 23 = .ok (.aload_n 0, 1) := dk_42 (dk_at dksX18_stands_0 23 rfl rfl)
theorem dX18_stands_24 : decode cX18_stands 24 = .ok (.getfield 3, 3) := dk_180 0 3 (dk_at dksX18_stands_1 0 rfl rfl)
theorem dX18_stands_27 : decode cX18_stands 27 = .ok (.getfield 88, 3) := dk_180 0 88 (dk_at dksX18_stands_1 3 rfl rfl)
theorem dX18_stands_30 : decode cX18_stands 30 = .ok (.iload_n 2, 1) := dk_28 (dk_at dksX18_stands_1 6 rfl rfl)
theorem dX18_stands_31 : decode cX18_stands 31 = .ok (.aaload, 1) := dk_50 (dk_at dksX18_stands_1 7 rfl rfl)
theorem dX18_stands_32 : decode cX18_stands 32 = .ok (.aload_n 0, 1) := dk_42 (dk_at dksX18_stands_1 8 rfl rfl)
theorem dX18_stands_33 : decode cX18_stands 33 = .ok (.getfield 17, 3) := dk_180 0 17 (dk_at dksX18_stands_1 9 rfl rfl)
theorem dX18_stands_36 : decode cX18_stands 36 = .ok (.iload_n 3, 1) := dk_29 (dk_at dksX18_stands_1 12 rfl rfl)
theorem dX18_stands_37 : decode cX18_stands 37 = .ok (.aaload, 1) := dk_50 (dk_at dksX18_stands_1 13 rfl rfl)
theorem dX18_stands_38 : decode cX18_stands 38 = .ok (.iload 4, 2) := dk_21 4 (dk_at dksX18_stands_1 14 rfl rfl)
theorem dX18_stands_40 : decode cX18_stands 40 = .ok (.aload_n 0, 1) := dk_42 (dk_at dksX18_stands_1 16 rfl rfl)
theorem dX18_stands_41 : decode cX18_stands 41 = .ok (.getfield 25, 3) := dk_180 0 25 (dk_at dksX18_stands_1 17 rfl rfl)
theorem dX18_stands_44 : decode cX18_stands 44 = .ok (.iload_n 3, 1) := dk_29 (dk_at dksX18_stands_1 20 rfl rfl)
theorem dX18_stands_45 : decode cX18_stands 45 = .ok (.iaload, 1) := dk_46 (dk_at dksX18_stands_1 21 rfl rfl)
theorem dX18_stands_46 : decode cX18_stands 46 = .ok (.imul, 1) := dk_104 (dk_at dksX18_stands_1 22 rfl rfl)
theorem dX18_stands_47 : decode cX18_stands 47 = .ok (.invokevirtual 91, 3) := dk_182 0 91 (dk_at dksX18_stands_2 0 rfl rfl)
theorem dX18_stands_50 : decode cX18_stands 50 = .ok (.iinc 2 1, 3) := dk_132 2 1 (dk_at dksX18_stands_2 3 rfl rfl)
theorem dX18_stands_53 : decode cX18_stands 53 = .ok (.iinc 4 1, 3) := dk_132 4 1 (dk_at dksX18_stands_2 6 rfl rfl)
theorem dX18_stands_56 : decode cX18_stands 56 = .ok (.goto (-44), 3) := dk_167 255 212 (dk_at dksX18_stands_2 9 rfl rfl)
theorem dX18_stands_59 : decode cX18_stands 59 = .ok (.iinc 3 1, 3) := dk_132 3 1 (dk_at dksX18_stands_2 12 rfl rfl)
theorem dX18_stands_62 : decode cX18_stands 62 = .ok (.goto (-58), 3) := dk_167 255 198 (dk_at dksX18_stands_2 15 rfl rfl)
theorem dX18_stands_65 : decode cX18_stands 65 = .ok (.iload_n 2, 1) := dk_28 (dk_at dksX18_stands_2 18 rfl rfl)
theorem dX18_stands_66 : decode cX18_stands 66 = .ok (.ireturn, 1) := dk_172 (dk_at dksX18_stands_2 19 rfl rfl)
theorem q126 : (Jvm.Cond.initialized "MissedTrains$Clerk") ∈ lw_all := lw_g (lw_at lw_m1 25 rfl) rfl
theorem q296 : (Jvm.Cond.fieldLinkNest "MissedTrains$Clerk" (69 : Nat) "MissedTrains$Train" "stations" "[I" "MissedTrains") ∈ lw_tbl := lw_at lw_m1 195 rfl
theorem q300 : (Jvm.Cond.fieldLinkNest "MissedTrains$Clerk" (59 : Nat) "MissedTrains$Train" "minutes" "[I" "MissedTrains") ∈ lw_tbl := lw_at lw_m1 199 rfl
theorem q304 : (Jvm.Cond.fieldLinkNest "MissedTrains$Clerk" (51 : Nat) "MissedTrains$Train" "many" "I" "MissedTrains") ∈ lw_tbl := lw_at lw_m1 203 rfl
theorem q327 : (Jvm.Cond.fieldLinkNest "MissedTrains$Clerk" (88 : Nat) "MissedTrains" "trains" "[LMissedTrains$Train;" "MissedTrains") ∈ lw_tbl := lw_at lw_m1 226 rfl
theorem q707 : (Jvm.Cond.instantiable "MissedTrains$Clerk" (10 : Nat)) ∈ lw_all := lw_g (lw_at lw_m3 126 rfl) rfl
theorem q709 : (Jvm.Cond.instanceMethod ({ cls := "MissedTrains$Clerk", name := "<init>", desc := "(LMissedTrains;I)V" } : Jvm.MethodName)) ∈ lw_all := lw_g (lw_at lw_m3 128 rfl) rfl
theorem q710 : (Jvm.Cond.code ({ cls := "MissedTrains$Clerk", name := "<init>", desc := "(LMissedTrains;I)V" } : Jvm.MethodName) prog_3_method_1_code (3 : Nat) (Option.none : Option Jvm.ClassFile.FieldType)) ∈ lw_all := lw_g (lw_at lw_m3 129 rfl) rfl
theorem q711 : (Jvm.Cond.methodLink "MissedTrains$Clerk" (9 : Nat) ({ cls := "MissedTrains$Scribe", name := "<init>", desc := "(LMissedTrains;I)V" } : Jvm.MethodName)) ∈ lw_all := lw_g (lw_at lw_m3 130 rfl) rfl
theorem q715 : (Jvm.Cond.classLink "MissedTrains$Clerk" (15 : Nat) "MissedTrains$Train") ∈ lw_all := lw_g (lw_at lw_m3 134 rfl) rfl
theorem q716 : (Jvm.Cond.fieldLink "MissedTrains$Clerk" (17 : Nat) "MissedTrains$Clerk" "told" "[LMissedTrains$Train;") ∈ lw_all := lw_g (lw_at lw_m3 135 rfl) rfl
theorem q717 : (Jvm.Cond.fieldLink "MissedTrains$Clerk" (21 : Nat) "MissedTrains$Clerk" "often" "[I") ∈ lw_all := lw_g (lw_at lw_m3 136 rfl) rfl
theorem q718 : (Jvm.Cond.fieldLink "MissedTrains$Clerk" (25 : Nat) "MissedTrains$Clerk" "every" "[I") ∈ lw_all := lw_g (lw_at lw_m3 137 rfl) rfl
theorem q719 : (Jvm.Cond.fieldLink "MissedTrains$Clerk" (82 : Nat) "MissedTrains$Clerk" "all" "I") ∈ lw_all := lw_g (lw_at lw_m3 138 rfl) rfl
theorem q720 : (Jvm.Cond.fieldLink "MissedTrains$Clerk" (3 : Nat) "MissedTrains$Clerk" "this$0" "LMissedTrains;") ∈ lw_all := lw_g (lw_at lw_m3 139 rfl) rfl
theorem q726 : (Jvm.Cond.laysFinal "MissedTrains$Clerk" "MissedTrains$Clerk" "told" "[LMissedTrains$Train;") ∈ lw_all := lw_g (lw_at lw_m3 145 rfl) rfl
theorem q727 : (Jvm.Cond.soleField "MissedTrains$Clerk" "told") ∈ lw_all := lw_g (lw_at lw_m3 146 rfl) rfl
theorem q728 : (Jvm.Cond.laysFinal "MissedTrains$Clerk" "MissedTrains$Clerk" "often" "[I") ∈ lw_all := lw_g (lw_at lw_m3 147 rfl) rfl
theorem q729 : (Jvm.Cond.soleField "MissedTrains$Clerk" "often") ∈ lw_all := lw_g (lw_at lw_m3 148 rfl) rfl
theorem q730 : (Jvm.Cond.laysFinal "MissedTrains$Clerk" "MissedTrains$Clerk" "every" "[I") ∈ lw_all := lw_g (lw_at lw_m3 149 rfl) rfl
theorem q731 : (Jvm.Cond.soleField "MissedTrains$Clerk" "every") ∈ lw_all := lw_g (lw_at lw_m3 150 rfl) rfl
theorem q732 : (Jvm.Cond.lays "MissedTrains$Clerk" "MissedTrains$Clerk" "all" "I") ∈ lw_all := lw_g (lw_at lw_m3 151 rfl) rfl
theorem q733 : (Jvm.Cond.soleField "MissedTrains$Clerk" "all") ∈ lw_all := lw_g (lw_at lw_m3 152 rfl) rfl
theorem q734 : (Jvm.Cond.laysFinal "MissedTrains$Clerk" "MissedTrains$Clerk" "this$0" "LMissedTrains;") ∈ lw_all := lw_g (lw_at lw_m3 153 rfl) rfl
theorem q735 : (Jvm.Cond.soleField "MissedTrains$Clerk" "this$0") ∈ lw_all := lw_g (lw_at lw_m3 154 rfl) rfl
theorem q736 : (Jvm.Cond.laysFinal "MissedTrains$Clerk" "MissedTrains$Scribe" "n" "I") ∈ lw_all := lw_g (lw_at lw_m3 155 rfl) rfl
theorem q738 : (Jvm.Cond.lays "MissedTrains$Clerk" "MissedTrains$Scribe" "at" "I") ∈ lw_all := lw_g (lw_at lw_m3 157 rfl) rfl
theorem q740 : (Jvm.Cond.lays "MissedTrains$Clerk" "MissedTrains$Scribe" "fault" "I") ∈ lw_all := lw_g (lw_at lw_m3 159 rfl) rfl
theorem q742 : (Jvm.Cond.lays "MissedTrains$Clerk" "MissedTrains$Scribe" "place" "I") ∈ lw_all := lw_g (lw_at lw_m3 161 rfl) rfl
theorem q744 : (Jvm.Cond.laysFinal "MissedTrains$Clerk" "MissedTrains$Scribe" "this$0" "LMissedTrains;") ∈ lw_all := lw_g (lw_at lw_m3 163 rfl) rfl
theorem q746 : (Jvm.Cond.superclass "MissedTrains$Clerk" "MissedTrains$Scribe") ∈ lw_all := lw_g (lw_at lw_m3 165 rfl) rfl
theorem q748 : (Jvm.Cond.sameMethod "MissedTrains$Clerk" "MissedTrains$Scribe" "read" "()I") ∈ lw_all := lw_g (lw_at lw_m3 167 rfl) rfl
theorem q750 : (Jvm.Cond.selects "MissedTrains$Clerk" ({ cls := "MissedTrains$Clerk", name := "read", desc := "()I" } : Jvm.MethodName) ({ cls := "MissedTrains$Scribe", name := "read", desc := "()I" } : Jvm.MethodName)) ∈ lw_all := lw_g (lw_at lw_m3 169 rfl) rfl
theorem q756 : (Jvm.Cond.selects "MissedTrains$Clerk" ({ cls := "MissedTrains$Scribe", name := "line", desc := "(I)V" } : Jvm.MethodName) ({ cls := "MissedTrains$Clerk", name := "line", desc := "(I)V" } : Jvm.MethodName)) ∈ lw_all := lw_g (lw_at lw_m3 175 rfl) rfl
theorem q757 : (Jvm.Cond.instanceMethod ({ cls := "MissedTrains$Clerk", name := "line", desc := "(I)V" } : Jvm.MethodName)) ∈ lw_all := lw_g (lw_at lw_m3 176 rfl) rfl
theorem q758 : (Jvm.Cond.code ({ cls := "MissedTrains$Clerk", name := "line", desc := "(I)V" } : Jvm.MethodName) prog_3_method_4_code (4 : Nat) (Option.none : Option Jvm.ClassFile.FieldType)) ∈ lw_all := lw_g (lw_at lw_m3 177 rfl) rfl
theorem q759 : (Jvm.Cond.methodLink "MissedTrains$Clerk" (32 : Nat) ({ cls := "MissedTrains$Clerk", name := "place", desc := "()I" } : Jvm.MethodName)) ∈ lw_all := lw_g (lw_at lw_m3 178 rfl) rfl
theorem q760 : (Jvm.Cond.sameMethod "MissedTrains$Clerk" "MissedTrains$Scribe" "place" "()I") ∈ lw_all := lw_g (lw_at lw_m3 179 rfl) rfl
theorem q762 : (Jvm.Cond.selects "MissedTrains$Clerk" ({ cls := "MissedTrains$Clerk", name := "place", desc := "()I" } : Jvm.MethodName) ({ cls := "MissedTrains$Scribe", name := "place", desc := "()I" } : Jvm.MethodName)) ∈ lw_all := lw_g (lw_at lw_m3 181 rfl) rfl
theorem q765 : (Jvm.Cond.methodLink "MissedTrains$Clerk" (39 : Nat) ({ cls := "MissedTrains$Clerk", name := "seesStation", desc := "()Z" } : Jvm.MethodName)) ∈ lw_all := lw_g (lw_at lw_m3 184 rfl) rfl
theorem q766 : (Jvm.Cond.privateMethod ({ cls := "MissedTrains$Clerk", name := "seesStation", desc := "()Z" } : Jvm.MethodName)) ∈ lw_tbl := lw_at lw_m3 185 rfl
theorem q767 : (Jvm.Cond.instanceMethod ({ cls := "MissedTrains$Clerk", name := "seesStation", desc := "()Z" } : Jvm.MethodName)) ∈ lw_all := lw_g (lw_at lw_m3 186 rfl) rfl
theorem q768 : (Jvm.Cond.code ({ cls := "MissedTrains$Clerk", name := "seesStation", desc := "()Z" } : Jvm.MethodName) prog_3_method_2_code (1 : Nat) (Option.some Jvm.ClassFile.FieldType.boolean)) ∈ lw_all := lw_g (lw_at lw_m3 187 rfl) rfl
theorem q769 : (Jvm.Cond.methodLink "MissedTrains$Clerk" (28 : Nat) ({ cls := "MissedTrains$Clerk", name := "sees", desc := "(II)Z" } : Jvm.MethodName)) ∈ lw_all := lw_g (lw_at lw_m3 188 rfl) rfl
theorem q770 : (Jvm.Cond.sameMethod "MissedTrains$Clerk" "MissedTrains$Scribe" "sees" "(II)Z") ∈ lw_all := lw_g (lw_at lw_m3 189 rfl) rfl
theorem q772 : (Jvm.Cond.selects "MissedTrains$Clerk" ({ cls := "MissedTrains$Clerk", name := "sees", desc := "(II)Z" } : Jvm.MethodName) ({ cls := "MissedTrains$Scribe", name := "sees", desc := "(II)Z" } : Jvm.MethodName)) ∈ lw_all := lw_g (lw_at lw_m3 191 rfl) rfl
theorem q778 : (Jvm.Cond.selects "MissedTrains$Clerk" ({ cls := "MissedTrains$Scribe", name := "here", desc := "()I" } : Jvm.MethodName) ({ cls := "MissedTrains$Scribe", name := "here", desc := "()I" } : Jvm.MethodName)) ∈ lw_all := lw_g (lw_at lw_m3 197 rfl) rfl
theorem q781 : (Jvm.Cond.methodLink "MissedTrains$Clerk" (43 : Nat) ({ cls := "MissedTrains$Clerk", name := "bad", desc := "(II)V" } : Jvm.MethodName)) ∈ lw_all := lw_g (lw_at lw_m3 200 rfl) rfl
theorem q782 : (Jvm.Cond.sameMethod "MissedTrains$Clerk" "MissedTrains$Scribe" "bad" "(II)V") ∈ lw_all := lw_g (lw_at lw_m3 201 rfl) rfl
theorem q784 : (Jvm.Cond.selects "MissedTrains$Clerk" ({ cls := "MissedTrains$Clerk", name := "bad", desc := "(II)V" } : Jvm.MethodName) ({ cls := "MissedTrains$Scribe", name := "bad", desc := "(II)V" } : Jvm.MethodName)) ∈ lw_all := lw_g (lw_at lw_m3 203 rfl) rfl
theorem q787 : (Jvm.Cond.methodLink "MissedTrains$Clerk" (66 : Nat) ({ cls := "MissedTrains$Clerk", name := "isGood", desc := "()Z" } : Jvm.MethodName)) ∈ lw_all := lw_g (lw_at lw_m3 206 rfl) rfl
theorem q788 : (Jvm.Cond.sameMethod "MissedTrains$Clerk" "MissedTrains$Scribe" "isGood" "()Z") ∈ lw_all := lw_g (lw_at lw_m3 207 rfl) rfl
theorem q790 : (Jvm.Cond.selects "MissedTrains$Clerk" ({ cls := "MissedTrains$Clerk", name := "isGood", desc := "()Z" } : Jvm.MethodName) ({ cls := "MissedTrains$Scribe", name := "isGood", desc := "()Z" } : Jvm.MethodName)) ∈ lw_all := lw_g (lw_at lw_m3 209 rfl) rfl
theorem q793 : (Jvm.Cond.methodLinkNest "MissedTrains$Clerk" (72 : Nat) ({ cls := "MissedTrains$Train", name := "<init>", desc := "()V" } : Jvm.MethodName) "MissedTrains") ∈ lw_tbl := lw_at lw_m3 212 rfl
theorem q794 : (Jvm.Cond.methodLink "MissedTrains$Clerk" (74 : Nat) ({ cls := "MissedTrains$Clerk", name := "stop", desc := "(LMissedTrains$Train;)V" } : Jvm.MethodName)) ∈ lw_all := lw_g (lw_at lw_m3 213 rfl) rfl
theorem q795 : (Jvm.Cond.privateMethod ({ cls := "MissedTrains$Clerk", name := "stop", desc := "(LMissedTrains$Train;)V" } : Jvm.MethodName)) ∈ lw_tbl := lw_at lw_m3 214 rfl
theorem q796 : (Jvm.Cond.instanceMethod ({ cls := "MissedTrains$Clerk", name := "stop", desc := "(LMissedTrains$Train;)V" } : Jvm.MethodName)) ∈ lw_all := lw_g (lw_at lw_m3 215 rfl) rfl
theorem q797 : (Jvm.Cond.code ({ cls := "MissedTrains$Clerk", name := "stop", desc := "(LMissedTrains$Train;)V" } : Jvm.MethodName) prog_3_method_3_code (5 : Nat) (Option.none : Option Jvm.ClassFile.FieldType)) ∈ lw_all := lw_g (lw_at lw_m3 216 rfl) rfl
theorem q798 : (Jvm.Cond.methodLink "MissedTrains$Clerk" (36 : Nat) ({ cls := "MissedTrains$Clerk", name := "here", desc := "()I" } : Jvm.MethodName)) ∈ lw_all := lw_g (lw_at lw_m3 217 rfl) rfl
theorem q799 : (Jvm.Cond.sameMethod "MissedTrains$Clerk" "MissedTrains$Scribe" "here" "()I") ∈ lw_all := lw_g (lw_at lw_m3 218 rfl) rfl
theorem q801 : (Jvm.Cond.selects "MissedTrains$Clerk" ({ cls := "MissedTrains$Clerk", name := "here", desc := "()I" } : Jvm.MethodName) ({ cls := "MissedTrains$Scribe", name := "here", desc := "()I" } : Jvm.MethodName)) ∈ lw_all := lw_g (lw_at lw_m3 220 rfl) rfl
theorem q802 : (Jvm.Cond.methodLink "MissedTrains$Clerk" (47 : Nat) ({ cls := "MissedTrains$Train", name := "stopAt", desc := "(I)I" } : Jvm.MethodName)) ∈ lw_all := lw_g (lw_at lw_m3 221 rfl) rfl
theorem q806 : (Jvm.Cond.methodLink "MissedTrains$Clerk" (55 : Nat) ({ cls := "MissedTrains$Clerk", name := "goes", desc := "()V" } : Jvm.MethodName)) ∈ lw_all := lw_g (lw_at lw_m3 225 rfl) rfl
theorem q807 : (Jvm.Cond.sameMethod "MissedTrains$Clerk" "MissedTrains$Scribe" "goes" "()V") ∈ lw_all := lw_g (lw_at lw_m3 226 rfl) rfl
theorem q809 : (Jvm.Cond.selects "MissedTrains$Clerk" ({ cls := "MissedTrains$Clerk", name := "goes", desc := "()V" } : Jvm.MethodName) ({ cls := "MissedTrains$Scribe", name := "goes", desc := "()V" } : Jvm.MethodName)) ∈ lw_all := lw_g (lw_at lw_m3 228 rfl) rfl
theorem q812 : (Jvm.Cond.methodLink "MissedTrains$Clerk" (62 : Nat) ({ cls := "MissedTrains$Clerk", name := "number", desc := "(III)I" } : Jvm.MethodName)) ∈ lw_all := lw_g (lw_at lw_m3 231 rfl) rfl
theorem q813 : (Jvm.Cond.sameMethod "MissedTrains$Clerk" "MissedTrains$Scribe" "number" "(III)I") ∈ lw_all := lw_g (lw_at lw_m3 232 rfl) rfl
theorem q815 : (Jvm.Cond.selects "MissedTrains$Clerk" ({ cls := "MissedTrains$Clerk", name := "number", desc := "(III)I" } : Jvm.MethodName) ({ cls := "MissedTrains$Scribe", name := "number", desc := "(III)I" } : Jvm.MethodName)) ∈ lw_all := lw_g (lw_at lw_m3 234 rfl) rfl
theorem q822 : (Jvm.Cond.methodLink "MissedTrains$Clerk" (78 : Nat) ({ cls := "MissedTrains$Clerk", name := "repeats", desc := "(I)V" } : Jvm.MethodName)) ∈ lw_all := lw_g (lw_at lw_m4 1 rfl) rfl
theorem q823 : (Jvm.Cond.privateMethod ({ cls := "MissedTrains$Clerk", name := "repeats", desc := "(I)V" } : Jvm.MethodName)) ∈ lw_tbl := lw_at lw_m4 2 rfl
theorem q824 : (Jvm.Cond.instanceMethod ({ cls := "MissedTrains$Clerk", name := "repeats", desc := "(I)V" } : Jvm.MethodName)) ∈ lw_all := lw_g (lw_at lw_m4 3 rfl) rfl
theorem q825 : (Jvm.Cond.code ({ cls := "MissedTrains$Clerk", name := "repeats", desc := "(I)V" } : Jvm.MethodName) prog_3_method_5_code (3 : Nat) (Option.none : Option Jvm.ClassFile.FieldType)) ∈ lw_all := lw_g (lw_at lw_m4 4 rfl) rfl
theorem q826 : (Jvm.Cond.methodLink "MissedTrains$Clerk" (85 : Nat) ({ cls := "MissedTrains$Train", name := "ends", desc := "()I" } : Jvm.MethodName)) ∈ lw_all := lw_g (lw_at lw_m4 5 rfl) rfl
theorem q859 : (Jvm.Cond.instanceMethod ({ cls := "MissedTrains$Clerk", name := "stands", desc := "(I)I" } : Jvm.MethodName)) ∈ lw_all := lw_g (lw_at lw_m4 38 rfl) rfl
theorem q860 : (Jvm.Cond.selects "MissedTrains$Clerk" ({ cls := "MissedTrains$Clerk", name := "stands", desc := "(I)I" } : Jvm.MethodName) ({ cls := "MissedTrains$Clerk", name := "stands", desc := "(I)I" } : Jvm.MethodName)) ∈ lw_all := lw_g (lw_at lw_m4 39 rfl) rfl
theorem q861 : (Jvm.Cond.code ({ cls := "MissedTrains$Clerk", name := "stands", desc := "(I)I" } : Jvm.MethodName) prog_3_method_6_code (5 : Nat) (Option.some Jvm.ClassFile.FieldType.int)) ∈ lw_all := lw_g (lw_at lw_m4 40 rfl) rfl
theorem q862 : (Jvm.Cond.methodLink "MissedTrains$Clerk" (91 : Nat) ({ cls := "MissedTrains$Train", name := "takes", desc := "(LMissedTrains$Train;I)V" } : Jvm.MethodName)) ∈ lw_all := lw_g (lw_at lw_m4 41 rfl) rfl
theorem q1823 : (Jvm.Cond.selects "MissedTrains$Clerk" ({ cls := "MissedTrains$Scribe", name := "isGood", desc := "()Z" } : Jvm.MethodName) ({ cls := "MissedTrains$Scribe", name := "isGood", desc := "()Z" } : Jvm.MethodName)) ∈ lw_all := lw_g (lw_at lw_m8 42 rfl) rfl
theorem q1826 : (Jvm.Cond.selects "MissedTrains$Clerk" ({ cls := "MissedTrains$Scribe", name := "sees", desc := "(II)Z" } : Jvm.MethodName) ({ cls := "MissedTrains$Scribe", name := "sees", desc := "(II)Z" } : Jvm.MethodName)) ∈ lw_all := lw_g (lw_at lw_m8 45 rfl) rfl
theorem q1829 : (Jvm.Cond.selects "MissedTrains$Clerk" ({ cls := "MissedTrains$Scribe", name := "bad", desc := "(II)V" } : Jvm.MethodName) ({ cls := "MissedTrains$Scribe", name := "bad", desc := "(II)V" } : Jvm.MethodName)) ∈ lw_all := lw_g (lw_at lw_m8 48 rfl) rfl
theorem in_X18 : ∀ w ∈ wsX180, w ∈ lw_all := lw_in wsX180 [736, 738, 740, 742, 744, 726, 728, 730, 732, 734] (by decide +kernel) (by decide +kernel)
/-! MissedTrains$Porter -/
set_option maxRecDepth 100000
def RX19 : String := "MissedTrains$Porter"
def TX19 : u_T := fun k => match k with
  | 0 => ("MissedTrains$Scribe", "n", "I", true)
  | 1 => ("MissedTrains$Scribe", "at", "I", false)
  | 2 => ("MissedTrains$Scribe", "fault", "I", false)
  | 3 => ("MissedTrains$Scribe", "place", "I", false)
  | 4 => ("MissedTrains$Scribe", "this$0", "LMissedTrains;", true)
  | 5 => ("MissedTrains$Porter", "putLate", "[I", true)
  | 6 => ("MissedTrains$Porter", "runs", "[Z", true)
  | _ => ("MissedTrains$Porter", "this$0", "LMissedTrains;", true)
def tyX19 : Nat → FieldType := fun k => match k with
  | 0 => .int
  | 1 => .int
  | 2 => .int
  | 3 => .int
  | 4 => .object "MissedTrains"
  | 5 => .array .int
  | 6 => .array .boolean
  | _ => .object "MissedTrains"
abbrev wsX190 : List Cond := u_ws RX19 TX19 8
-- two fields of one name: no nmX19
theorem tyX19_ok : ∀ k, k < 8 → parseFieldDescriptor (TX19 k).2.2.1 = some (tyX19 k) := by decide +kernel
abbrev cX19_line : ByteArray := prog_12_method_2_code
def yX19_line : MethodName := ⟨RX19, "line", "(I)V"⟩
def dkwX19_line_7 : List UInt8 := [167, 0, 21, 42, 180, 0, 19, 29, 21, 4, 16, 63, 160, 0, 7, 4, 167, 0, 4, 3, 84, 177]
abbrev dktX19_line_7 : List UInt8 := dkwX19_line_7 ++ []
def dkwX19_line_6 : List UInt8 := [182, 0, 54, 154, 0, 4, 177, 21, 4, 16, 43, 160, 0, 14, 42, 180, 0, 15, 29, 21, 5, 79]
abbrev dktX19_line_6 : List UInt8 := dkwX19_line_6 ++ dktX19_line_7
def dkwX19_line_5 : List UInt8 := [21, 4, 16, 43, 160, 0, 15, 42, 5, 3, 17, 39, 15, 182, 0, 50, 167, 0, 4, 3, 54, 5, 42]
abbrev dktX19_line_5 : List UInt8 := dkwX19_line_5 ++ dktX19_line_6
def dkwX19_line_4 : List UInt8 := [159, 0, 12, 42, 4, 42, 182, 0, 38, 182, 0, 46, 42, 182, 0, 65, 42, 182, 0, 54, 153, 0, 22]
abbrev dktX19_line_4 : List UInt8 := dkwX19_line_4 ++ dktX19_line_5
def dkwX19_line_3 : List UInt8 := [182, 0, 54, 153, 0, 33, 21, 4, 16, 33, 159, 0, 26, 21, 4, 16, 63, 159, 0, 19, 21, 4, 16, 43]
abbrev dktX19_line_3 : List UInt8 := dkwX19_line_3 ++ dktX19_line_4
def dkwX19_line_2 : List UInt8 := [180, 0, 3, 29, 182, 0, 58, 154, 0, 10, 42, 16, 7, 28, 182, 0, 46, 42, 182, 0, 62, 54, 4, 42]
abbrev dktX19_line_2 : List UInt8 := dkwX19_line_2 ++ dktX19_line_3
def dkwX19_line_1 : List UInt8 := [28, 182, 0, 46, 42, 5, 3, 17, 39, 75, 182, 0, 50, 62, 42, 182, 0, 54, 153, 0, 21, 42]
abbrev dktX19_line_1 : List UInt8 := dkwX19_line_1 ++ dktX19_line_2
def dkwX19_line_0 : List UInt8 := [42, 182, 0, 38, 61, 42, 16, 48, 16, 57, 182, 0, 42, 153, 0, 15, 27, 16, 20, 160, 0, 9, 42, 7]
abbrev dktX19_line_0 : List UInt8 := dkwX19_line_0 ++ dktX19_line_1
theorem dksX19_line_0 : cX19_line.data.toList.drop 0 = dktX19_line_0 := by decide +kernel
theorem dksX19_line_1 : cX19_line.data.toList.drop 24 = dktX19_line_1 := dk_seg dksX19_line_0 24 rfl rfl
theorem dksX19_line_2 : cX19_line.data.toList.drop 46 = dktX19_line_2 := dk_seg dksX19_line_1 22 rfl rfl
theorem dksX19_line_3 : cX19_line.data.toList.drop 70 = dktX19_line_3 := dk_seg dksX19_line_2 24 rfl rfl
theorem dksX19_line_4 : cX19_line.data.toList.drop 94 = dktX19_line_4 := dk_seg dksX19_line_3 24 rfl rfl
theorem dksX19_line_5 : cX19_line.data.toList.drop 117 = dktX19_line_5 := dk_seg dksX19_line_4 23 rfl rfl
theorem dksX19_line_6 : cX19_line.data.toList.drop 140 = dktX19_line_6 := dk_seg dksX19_line_5 23 rfl rfl
theorem dksX19_line_7 : cX19_line.data.toList.drop 162 = dktX19_line_7 := dk_seg dksX19_line_6 22 rfl rfl
theorem dX19_line_0 : decode cX19_line 0 = .ok (.aload_n 0, 1) := dk_42 (dk_at dksX19_line_0 0 rfl rfl)
theorem dX19_line_1 : decode cX19_line 1 = .ok (.invokevirtual 38, 3) := dk_182 0 38 (dk_at dksX19_line_0 1 rfl rfl)
theorem dX19_line_4 : decode cX19_line 4 = .ok (.istore_n 2, 1) := dk_61 (dk_at dksX19_line_0 4 rfl rfl)
theorem dX19_line_5 : decode cX19_line 5 = .ok (.aload_n 0, 1) := dk_42 (dk_at dksX19_line_0 5 rfl rfl)
theorem dX19_line_6 : decode cX19_line 6 = .ok (.bipush 48, 2) := dk_16 48 (dk_at dksX19_line_0 6 rfl rfl)
theorem dX19_line_8 : decode cX19_line 8 = .ok (.bipush 57, 2) := dk_16 57 (dk_at dksX19_line_0 8 rfl rfl)
theorem dX19_line_10 : decode cX19_line 10 = .ok (.invokevirtual 42, 3) := dk_182 0 42 (dk_at dksX19_line_0 10 rfl rfl)
theorem dX19_line_13 : decode cX19_line 13 = .ok (.ifCond .eq 15, 3) := dk_153 0 15 (dk_at dksX19_line_0 13 rfl rfl)
theorem dX19_line_16 : decode cX19_line 16 = .ok (.iload_n 1, 1) := dk_27 (dk_at dksX19_line_0 16 rfl rfl)
theorem dX19_line_17 : decode cX19_line 17 = .ok (.bipush 20, 2) := dk_16 20 (dk_at dksX19_line_0 17 rfl rfl)
theorem dX19_line_19 : decode cX19_line 19 = .ok (.if_icmp .ne 9, 3) := dk_160 0 9 (dk_at dksX19_line_0 19 rfl rfl)
theorem dX19_line_22 : decode cX19_line 22 = .ok (.aload_n 0, 1) := dk_42 (dk_at dksX19_line_0 22 rfl rfl)
theorem dX19_line_23 : decode cX19_line 23 = .ok (.iconst 4, 1) := dk_7 (dk_at dksX19_line_0 23 rfl rfl)
theorem dX19_line_24 : decode cX19_line 24 = .ok (.iload_n 2, 1) := dk_28 (dk_at dksX19_line_1 0 rfl rfl)
theorem dX19_line_25 : decode cX19_line 25 = .ok (.invokevirtual 46, 3) := dk_182 0 46 (dk_at dksX19_line_1 1 rfl rfl)
theorem dX19_line_28 : decode cX19_line 28 = .ok (.aload_n 0, 1) := dk_42 (dk_at dksX19_line_1 4 rfl rfl)
theorem dX19_line_29 : decode cX19_line 29 = .ok (.iconst 2, 1) := dk_5 (dk_at dksX19_line_1 5 rfl rfl)
theorem dX19_line_30 : decode cX19_line 30 = .ok (.iconst 0, 1) := dk_3 (dk_at dksX19_line_1 6 rfl rfl)
theorem dX19_line_31 : decode cX19_line 31 = .ok (.sipush 10059, 3) := dk_17 39 75 (dk_at dksX19_line_1 7 rfl rfl)
theorem dX19_line_34 : decode cX19_line 34 = .ok (.invokevirtual 50, 3) := dk_182 0 50 (dk_at dksX19_line_1 10 rfl rfl)
theorem dX19_line_37 : decode cX19_line 37 = .ok (.istore_n 3, 1) := dk_62 (dk_at dksX19_line_1 13 rfl rfl)
theorem dX19_line_38 : decode cX19_line 38 = .ok (.aload_n 0, 1) := dk_42 (dk_at dksX19_line_1 14 rfl rfl)
theorem dX19_line_39 : decode cX19_line 39 = .ok (.invokevirtual 54, 3) := dk_182 0 54 (dk_at dksX19_line_1 15 rfl rfl)
theorem dX19_line_42 : decode cX19_line 42 = .ok (.ifCond .eq 21, 3) := dk_153 0 21 (dk_at dksX19_line_1 18 rfl rfl)
theorem dX19_line_45 : decode cX19_line 45 = .ok (.aload_n 0, 1) := dk_42 (dk_at dksX19_line_1 21 rfl rfl)
theorem dX19_line_46 : decode cX19_line 46 = .ok (.getfield 3, 3) := dk_180 0 3 (dk_at dksX19_line_2 0 rfl rfl)
theorem dX19_line_49 : decode cX19_line 49 = .ok (.iload_n 3, 1) := dk_29 (dk_at dksX19_line_2 3 rfl rfl)
theorem dX19_line_50 : decode cX19_line 50 = .ok (.invokevirtual 58, 3) := dk_182 0 58 (dk_at dksX19_line_2 4 rfl rfl)
theorem dX19_line_53 : decode cX19_line 53 = .ok (.ifCond .ne 10, 3) := dk_154 0 10 (dk_at dksX19_line_2 7 rfl rfl)
theorem dX19_line_56 : decode cX19_line 56 = .ok (.aload_n 0, 1) := dk_42 (dk_at dksX19_line_2 10 rfl rfl)
theorem dX19_line_57 : decode cX19_line 57 = .ok (.bipush 7, 2) := dk_16 7 (dk_at dksX19_line_2 11 rfl rfl)
theorem dX19_line_59 : decode cX19_line 59 = .ok (.iload_n 2, 1) := dk_28 (dk_at dksX19_line_2 13 rfl rfl)
theorem dX19_line_60 : decode cX19_line 60 = .ok (.invokevirtual 46, 3) := dk_182 0 46 (dk_at dksX19_line_2 14 rfl rfl)
theorem dX19_line_63 : decode cX19_line 63 = .ok (.aload_n 0, 1) := dk_42 (dk_at dksX19_line_2 17 rfl rfl)
theorem dX19_line_64 : decode cX19_line 64 = .ok (.invokevirtual 62, 3) := dk_182 0 62 (dk_at dksX19_line_2 18 rfl rfl)
theorem dX19_line_67 : decode cX19_line 67 = .ok (.istore 4, 2) := dk_54 4 (dk_at dksX19_line_2 21 rfl rfl)
theorem dX19_line_69 : decode cX19_line 69 = .ok (.aload_n 0, 1) := dk_42 (dk_at dksX19_line_2 23 rfl rfl)
theorem dX19_line_70 : decode cX19_line 70 = .ok (.invokevirtual 54, 3) := dk_182 0 54 (dk_at dksX19_line_3 0 rfl rfl)
theorem dX19_line_73 : decode cX19_line 73 = .ok (.ifCond .eq 33, 3) := dk_153 0 33 (dk_at dksX19_line_3 3 rfl rfl)
theorem dX19_line_76 : decode cX19_line 76 = .ok (.iload 4, 2) := dk_21 4 (dk_at dksX19_line_3 6 rfl rfl)
theorem dX19_line_78 : decode cX19_line 78 = .ok (.bipush 33, 2) := dk_16 33 (dk_at dksX19_line_3 8 rfl rfl)
theorem dX19_line_80 : decode cX19_line 80 = .ok (.if_icmp .eq 26, 3) := dk_159 0 26 (dk_at dksX19_line_3 10 rfl rfl)
theorem dX19_line_83 : decode cX19_line 83 = .ok (.iload 4, 2) := dk_21 4 (dk_at dksX19_line_3 13 rfl rfl)
theorem dX19_line_85 : decode cX19_line 85 = .ok (.bipush 63, 2) := dk_16 63 (dk_at dksX19_line_3 15 rfl rfl)
theorem dX19_line_87 : decode cX19_line 87 = .ok (.if_icmp .eq 19, 3) := dk_159 0 19 (dk_at dksX19_line_3 17 rfl rfl)
theorem dX19_line_90 : decode cX19_line 90 = .ok (.iload 4, 2) := dk_21 4 (dk_at dksX19_line_3 20 rfl rfl)
theorem dX19_line_92 : decode cX19_line 92 = .ok (.bipush 43, 2) := dk_16 43 (dk_at dksX19_line_3 22 rfl rfl)
theorem dX19_line_94 : decode cX19_line 94 = .ok (.if_icmp .eq 12, 3) := dk_159 0 12 (dk_at dksX19_line_4 0 rfl rfl)
theorem dX19_line_97 : decode cX19_line 97 = .ok (.aload_n 0, 1) := dk_42 (dk_at dksX19_line_4 3 rfl rfl)
theorem dX19_line_98 : decode cX19_line 98 = .ok (.iconst 1, 1) := dk_4 (dk_at dksX19_line_4 4 rfl rfl)
theorem dX19_line_99 : decode cX19_line 99 = .ok (.aload_n 0, 1) := dk_42 (dk_at dksX19_line_4 5 rfl rfl)
theorem dX19_line_100 : decode cX19_line 100 = .ok (.invokevirtual 38, 3) := dk_182 0 38 (dk_at dksX19_line_4 6 rfl rfl)
theorem dX19_line_103 : decode cX19_line 103 = .ok (.invokevirtual 46, 3) := dk_182 0 46 (dk_at dksX19_line_4 9 rfl rfl)
theorem dX19_line_106 : decode cX19_line 106 = .ok (.aload_n 0, 1) := dk_42 (dk_at dksX19_line_4 12 rfl rfl)
theorem dX19_line_107 : decode cX19_line 107 = .ok (.invokevirtual 65, 3) := dk_182 0 65 (dk_at dksX19_line_4 13 rfl rfl)
theorem dX19_line_110 : decode cX19_line 110 = .ok (.aload_n 0, 1) := dk_42 (dk_at dksX19_line_4 16 rfl rfl)
theorem dX19_line_111 : decode cX19_line 111 = .ok (.invokevirtual 54, 3) := dk_182 0 54 (dk_at dksX19_line_4 17 rfl rfl)
theorem dX19_line_114 : decode cX19_line 114 = .ok (.ifCond .eq 22, 3) := dk_153 0 22 (dk_at dksX19_line_4 20 rfl rfl)
theorem dX19_line_117 : decode cX19_line 117 = .ok (.iload 4, 2) := dk_21 4 (dk_at dksX19_line_5 0 rfl rfl)
theorem dX19_line_119 : decode cX19_line 119 = .ok (.bipush 43, 2) := dk_16 43 (dk_at dksX19_line_5 2 rfl rfl)
theorem dX19_line_121 : decode cX19_line 121 = .ok (.if_icmp .ne 15, 3) := dk_160 0 15 (dk_at dksX19_line_5 4 rfl rfl)
theorem dX19_line_124 : decode cX19_line 124 = .ok (.aload_n 0, 1) := dk_42 (dk_at dksX19_line_5 7 rfl rfl)
theorem dX19_line_125 : decode cX19_line 125 = .ok (.iconst 2, 1) := dk_5 (dk_at dksX19_line_5 8 rfl rfl)
theorem dX19_line_126 : decode cX19_line 126 = .ok (.iconst 0, 1) := dk_3 (dk_at dksX19_line_5 9 rfl rfl)
theorem dX19_line_127 : decode cX19_line 127 = .ok (.sipush 9999, 3) := dk_17 39 15 (dk_at dksX19_line_5 10 rfl rfl)
theorem dX19_line_130 : decode cX19_line 130 = .ok (.invokevirtual 50, 3) := dk_182 0 50 (dk_at dksX19_line_5 13 rfl rfl)
theorem dX19_line_133 : decode cX19_line 133 = .ok (.goto 4, 3) := dk_167 0 4 (dk_at dksX19_line_5 16 rfl rfl)
theorem dX19_line_136 : decode cX19_line 136 = .ok (.iconst 0, 1) := dk_3 (dk_at dksX19_line_5 19 rfl rfl)
theorem dX19_line_137 : decode cX19_line 137 = .ok (.istore 5, 2) := dk_54 5 (dk_at dksX19_line_5 20 rfl rfl)
theorem dX19_line_139 : decode cX19_line 139 = .ok (.aload_n 0, 1) := dk_42 (dk_at dksX19_line_5 22 rfl rfl)
theorem dX19_line_140 : decode cX19_line 140 = .ok (.invokevirtual 54, 3) := dk_182 0 54 (dk_at dksX19_line_6 0 rfl rfl)
theorem dX19_line_143 : decode cX19_line 143 = .ok (.ifCond .ne 4, 3) := dk_154 0 4 (dk_at dksX19_line_6 3 rfl rfl)
theorem dX19_line_146 : decode cX19_line 146 = .ok (.return_, 1) := dk_177 (dk_at dksX19_line_6 6 rfl rfl)
theorem dX19_line_147 : decode cX19_line 147 = .ok (.iload 4, 2) := dk_21 4 (dk_at dksX19_line_6 7 rfl rfl)
theorem dX19_line_149 : decode cX19_line 149 = .ok (.bipush 43, 2) := dk_16 43 (dk_at dksX19_line_6 9 rfl rfl)
theorem dX19_line_151 : decode cX19_line 151 = .ok (.if_icmp .ne 14, 3) := dk_160 0 14 (dk_at dksX19_line_6 11 rfl rfl)
theorem dX19_line_154 : decode cX19_line 154 = .ok (.aload_n 0, 1) := dk_42 (dk_at dksX19_line_6 14 rfl rfl)
theorem dX19_line_155 : decode cX19_line 155 = .ok (.getfield 15, 3) := dk_180 0 15 (dk_at dksX19_line_6 15 rfl rfl)
theorem dX19_line_158 : decode cX19_line 158 = .ok (.iload_n 3, 1) := dk_29 (dk_at dksX19_line_6 18 rfl rfl)
theorem dX19_line_159 : decode cX19_line 159 = .ok (.iload 5, 2) := dk_21 5 (dk_at dksX19_line_6 19 rfl rfl)
theorem dX19_line_161 : decode cX19_line 161 = .ok (.iastore, 1) := dk_79 (dk_at dksX19_line_6 21 rfl rfl)
theorem dX19_line_162 : decode cX19_line 162 = .ok (.goto 21, 3) := dk_167 0 21 (dk_at dksX19_line_7 0 rfl rfl)
theorem dX19_line_165 : decode cX19_line 165 = .ok (.aload_n 0, 1) := dk_42 (dk_at dksX19_line_7 3 rfl rfl)
theorem dX19_line_166 : decode cX19_line 166 = .ok (.getfield 19, 3) := dk_180 0 19 (dk_at dksX19_line_7 4 rfl rfl)
theorem dX19_line_169 : decode cX19_line 169 = .ok (.iload_n 3, 1) := dk_29 (dk_at dksX19_line_7 7 rfl rfl)
theorem dX19_line_170 : decode cX19_line 170 = .ok (.iload 4, 2) := dk_21 4 (dk_at dksX19_line_7 8 rfl rfl)
theorem dX19_line_172 : decode cX19_line 172 = .ok (.bipush 63, 2) := dk_16 63 (dk_at dksX19_line_7 10 rfl rfl)
theorem dX19_line_174 : decode cX19_line 174 = .ok (.if_icmp .ne 7, 3) := dk_160 0 7 (dk_at dksX19_line_7 12 rfl rfl)
theorem dX19_line_177 : decode cX19_line 177 = .ok (.iconst 1, 1) := dk_4 (dk_at dksX19_line_7 15 rfl rfl)
theorem dX19_line_178 : decode cX19_line 178 = .ok (.goto 4, 3) := dk_167 0 4 (dk_at dksX19_line_7 16 rfl rfl)
theorem dX19_line_181 : decode cX19_line 181 = .ok (.iconst 0, 1) := dk_3 (dk_at dksX19_line_7 19 rfl rfl)
theorem dX19_line_182 : decode cX19_line 182 = .ok (.bastore, 1) := dk_84 (dk_at dksX19_line_7 20 rfl rfl)
theorem dX19_line_183 : decode cX19_line 183 = .ok (.return_, 1) := dk_177 (dk_at dksX19_line_7 21 rfl rfl)
abbrev cX19_init : ByteArray := prog_12_method_1_code
def yX19_init : MethodName := ⟨RX19, "<init>", "(LMissedTrains;I)V"⟩
def dkwX19_init_3 : List UInt8 := [167, 255, 215, 177]
abbrev dktX19_init_3 : List UInt8 := dkwX19_init_3 ++ []
def dkwX19_init_2 : List UInt8 := [180, 0, 31, 79, 42, 180, 0, 19, 29, 43, 180, 0, 27, 29, 50, 180, 0, 35, 84, 132, 3, 1]
abbrev dktX19_init_2 : List UInt8 := dkwX19_init_2 ++ dktX19_init_3
def dkwX19_init_1 : List UInt8 := [181, 0, 19, 3, 62, 29, 43, 180, 0, 23, 162, 0, 39, 42, 180, 0, 15, 29, 43, 180, 0, 27, 29, 50]
abbrev dktX19_init_1 : List UInt8 := dkwX19_init_1 ++ dktX19_init_2
def dkwX19_init_0 : List UInt8 := [42, 43, 181, 0, 3, 42, 43, 28, 183, 0, 9, 42, 16, 48, 188, 10, 181, 0, 15, 42, 16, 48, 188, 4]
abbrev dktX19_init_0 : List UInt8 := dkwX19_init_0 ++ dktX19_init_1
theorem dksX19_init_0 : cX19_init.data.toList.drop 0 = dktX19_init_0 := by decide +kernel
theorem dksX19_init_1 : cX19_init.data.toList.drop 24 = dktX19_init_1 := dk_seg dksX19_init_0 24 rfl rfl
theorem dksX19_init_2 : cX19_init.data.toList.drop 48 = dktX19_init_2 := dk_seg dksX19_init_1 24 rfl rfl
theorem dksX19_init_3 : cX19_init.data.toList.drop 70 = dktX19_init_3 := dk_seg dksX19_init_2 22 rfl rfl
theorem dX19_init_0 : decode cX19_init 0 = .ok (.aload_n 0, 1) := dk_42 (dk_at dksX19_init_0 0 rfl rfl)
theorem dX19_init_1 : decode cX19_init 1 = .ok (.aload_n 1, 1) := dk_43 (dk_at dksX19_init_0 1 rfl rfl)
theorem dX19_init_2 : decode cX19_init 2 = .ok (.putfield 3, 3) := dk_181 0 3 (dk_at dksX19_init_0 2 rfl rfl)
theorem dX19_init_5 : decode cX19_init 5 = .ok (.aload_n 0, 1) := dk_42 (dk_at dksX19_init_0 5 rfl rfl)
theorem dX19_init_6 : decode cX19_init 6 = .ok (.aload_n 1, 1) := dk_43 (dk_at dksX19_init_0 6 rfl rfl)
theorem dX19_init_7 : decode cX19_init 7 = .ok (.iload_n 2, 1) := dk_28 (dk_at dksX19_init_0 7 rfl rfl)
theorem dX19_init_8 : decode cX19_init 8 = .ok (.invokespecial 9, 3) := dk_183 0 9 (dk_at dksX19_init_0 8 rfl rfl)
theorem dX19_init_11 : decode cX19_init 11 = .ok (.aload_n 0, 1) := dk_42 (dk_at dksX19_init_0 11 rfl rfl)
theorem dX19_init_12 : decode cX19_init 12 = .ok (.bipush 48, 2) := dk_16 48 (dk_at dksX19_init_0 12 rfl rfl)
theorem dX19_init_14 : decode cX19_init 14 = .ok (.newarray .int, 2) := dk_188_10 (dk_at dksX19_init_0 14 rfl rfl)
theorem dX19_init_16 : decode cX19_init 16 = .ok (.putfield 15, 3) := dk_181 0 15 (dk_at dksX19_init_0 16 rfl rfl)
theorem dX19_init_19 : decode cX19_init 19 = .ok (.aload_n 0, 1) := dk_42 (dk_at dksX19_init_0 19 rfl rfl)
theorem dX19_init_20 : decode cX19_init 20 = .ok (.bipush 48, 2) := dk_16 48 (dk_at dksX19_init_0 20 rfl rfl)
theorem dX19_init_22 : decode cX19_init 22 = .ok (.newarray .boolean, 2) := dk_188_4 (dk_at dksX19_init_0 22 rfl rfl)
theorem dX19_init_24 : decode cX19_init 24 = .ok (.putfield 19, 3) := dk_181 0 19 (dk_at dksX19_init_1 0 rfl rfl)
theorem dX19_init_27 : decode cX19_init 27 = .ok (.iconst 0, 1) := dk_3 (dk_at dksX19_init_1 3 rfl rfl)
theorem dX19_init_28 : decode cX19_init 28 = .ok (.istore_n 3, 1) := dk_62 (dk_at dksX19_init_1 4 rfl rfl)
theorem dX19_init_29 : decode cX19_init 29 = .ok (.iload_n 3, 1) := dk_29 (dk_at dksX19_init_1 5 rfl rfl)
theorem dX19_init_30 : decode cX19_init 30 = .ok (.aload_n 1, 1) := dk_43 (dk_at dksX19_init_1 6 rfl rfl)
theorem dX19_init_31 : decode cX19_init 31 = .ok (.getfield 23, 3) := dk_180 0 23 (dk_at dksX19_init_1 7 rfl rfl)
theorem dX19_init_34 : decode cX19_init 34 = .ok (.if_icmp .ge 39, 3) := dk_162 0 39 (dk_at dksX19_init_1 10 rfl rfl)
theorem dX19_init_37 : decode cX19_init 37 = .ok (.aload_n 0, 1) := dk_42 (dk_at dksX19_init_1 13 rfl rfl)
theorem dX19_init_38 : decode cX19_init 38 = .ok (.getfield 15, 3) := dk_180 0 15 (dk_at dksX19_init_1 14 rfl rfl)
theorem dX19_init_41 : decode cX19_init 41 = .ok (.iload_n 3, 1) := dk_29 (dk_at dksX19_init_1 17 rfl rfl)
theorem dX19_init_42 : decode cX19_init 42 = .ok (.aload_n 1, 1) := dk_43 (dk_at dksX19_init_1 18 rfl rfl)
theorem dX19_init_43 : decode cX19_init 43 = .ok (.getfield 27, 3) := dk_180 0 27 (dk_at dksX19_init_1 19 rfl rfl)
theorem dX19_init_46 : decode cX19_init 46 = .ok (.iload_n 3, 1) := dk_29 (dk_at dksX19_init_1 22 rfl rfl)
theorem dX19_init_47 : decode cX19_init 47 = .ok (.aaload, 1) := dk_50 (dk_at dksX19_init_1 23 rfl rfl)
theorem dX19_init_48 : decode cX19_init 48 = .ok (.getfield 31, 3) := dk_180 0 31 (dk_at dksX19_init_2 0 rfl rfl)
theorem dX19_init_51 : decode cX19_init 51 = .ok (.iastore, 1) := dk_79 (dk_at dksX19_init_2 3 rfl rfl)
theorem dX19_init_52 : decode cX19_init 52 = .ok (.aload_n 0, 1) := dk_42 (dk_at dksX19_init_2 4 rfl rfl)
theorem dX19_init_53 : decode cX19_init 53 = .ok (.getfield 19, 3) := dk_180 0 19 (dk_at dksX19_init_2 5 rfl rfl)
theorem dX19_init_56 : decode cX19_init 56 = .ok (.iload_n 3, 1) := dk_29 (dk_at dksX19_init_2 8 rfl rfl)
theorem dX19_init_57 : decode cX19_init 57 = .ok (.aload_n 1, 1) := dk_43 (dk_at dksX19_init_2 9 rfl rfl)
theorem dX19_init_58 : decode cX19_init 58 = .ok (.getfield 27, 3) := dk_180 0 27 (dk_at dksX19_init_2 10 rfl rfl)
theorem dX19_init_61 : decode cX19_init 61 = .ok (.iload_n 3, 1) := dk_29 (dk_at dksX19_init_2 13 rfl rfl)
theorem dX19_init_62 : decode cX19_init 62 = .ok (.aaload, 1) := dk_50 (dk_at dksX19_init_2 14 rfl rfl)
theorem dX19_init_63 : decode cX19_init 63 = .ok (.getfield 35, 3) := dk_180 0 35 (dk_at dksX19_init_2 15 rfl rfl)
theorem dX19_init_66 : decode cX19_init 66 = .ok (.bastore, 1) := dk_84 (dk_at dksX19_init_2 18 rfl rfl)
theorem dX19_init_67 : decode cX19_init 67 = .ok (.iinc 3 1, 3) := dk_132 3 1 (dk_at dksX19_init_2 19 rfl rfl)
theorem dX19_init_70 : decode cX19_init 70 = .ok (.goto (-41), 3) := dk_167 255 215 (dk_at dksX19_init_3 0 rfl rfl)
theorem dX19_init_73 : decode cX19_init 73 = .ok (.return_, 1) := dk_177 (dk_at dksX19_init_3 3 rfl rfl)
abbrev cX19_stands : ByteArray := prog_12_method_3_code
def yX19_stands : MethodName := ⟨RX19, "stands", "()V"⟩
def dkwX19_stands_2 : List UInt8 := [181, 0, 35, 132, 1, 1, 167, 255, 206, 177]
abbrev dktX19_stands_2 : List UInt8 := dkwX19_stands_2 ++ []
def dkwX19_stands_1 : List UInt8 := [180, 0, 15, 27, 46, 181, 0, 31, 42, 180, 0, 3, 180, 0, 27, 27, 50, 42, 180, 0, 19, 27, 51]
abbrev dktX19_stands_1 : List UInt8 := dkwX19_stands_1 ++ dktX19_stands_2
def dkwX19_stands_0 : List UInt8 := [3, 60, 27, 42, 180, 0, 3, 180, 0, 23, 162, 0, 45, 42, 180, 0, 3, 180, 0, 27, 27, 50, 42]
abbrev dktX19_stands_0 : List UInt8 := dkwX19_stands_0 ++ dktX19_stands_1
theorem dksX19_stands_0 : cX19_stands.data.toList.drop 0 = dktX19_stands_0 := by decide +kernel
theorem dksX19_stands_1 : cX19_stands.data.toList.drop 23 = dktX19_stands_1 := dk_seg dksX19_stands_0 23 rfl rfl
theorem dksX19_stands_2 : cX19_stands.data.toList.drop 46 = dktX19_stands_2 := dk_seg dksX19_stands_1 23 rfl rfl
theorem dX19_stands_0 : decode cX19_stands 0 = .ok (.iconst 0, 1) := dk_3 (dk_at dksX19_stands_0 0 rfl rfl)
theorem dX19_stands_1 : decode cX19_stands 1 = .ok (.istore_n 1, 1) := dk_60 (dk_at dksX19_stands_0 1 rfl rfl)
theorem dX19_stands_2 : decode cX19_stands 2 = .ok (.iload_n 1, 1) := dk_27 (dk_at dksX19_stands_0 2 rfl rfl)
theorem dX19_stands_3 : decode cX19_stands 3 = .ok (.aload_n 0, 1) := dk_42 (dk_at dksX19_stands_0 3 rfl rfl)
theorem dX19_stands_4 : decode cX19_stands 4 = .ok (.getfield 3, 3) := dk_180 0 3 (dk_at dksX19_stands_0 4 rfl rfl)
theorem dX19_stands_7 : decode cX19_stands 7 = .ok (.getfield 23, 3) := dk_180 0 23 (dk_at dksX19_stands_0 7 rfl rfl)
theorem dX19_stands_10 : decode cX19_stands 10 = .ok (.if_icmp .ge 45, 3) := dk_162 0 45 (dk_at dksX19_stands_0 10 rfl rfl)
theorem dX19_stands_13 : decode cX19_stands 13 = .ok (.aload_n 0, 1) := dk_42 (dk_at dksX19_stands_0 13 rfl rfl)
theorem dX19_stands_14 : decode cX19_stands 14 = .ok (.getfield 3, 3) := dk_180 0 3 (dk_at dksX19_stands_0 14 rfl rfl)
theorem dX19_stands_17 : decode cX19_stands 17 = .ok (.getfield 27, 3) := dk_180 0 27 (dk_at dksX19_stands_0 17 rfl rfl)
theorem dX19_stands_20 : decode cX19_stands 20 = .ok (.iload_n 1, 1) := dk_27 (dk_at dksX19_stands_0 20 rfl rfl)
theorem dX19_stands_21 : decode cX19_stands 21 = .ok (.aaload, 1) := dk_50 (dk_at dksX19_stands_0 21 rfl rfl)
theorem dX19_stands_22 : decode cX19_stands 22 = .ok (.aload_n 0, 1) := dk_42 (dk_at dksX19_stands_0 22 rfl rfl)
theorem dX19_stands_23 : decode cX19_stands 23 = .ok (.getfield 15, 3) := dk_180 0 15 (dk_at dksX19_stands_1 0 rfl rfl)
theorem dX19_stands_26 : decode cX19_stands 26 = .ok (.iload_n 1, 1) := dk_27 (dk_at dksX19_stands_1 3 rfl rfl)
theorem dX19_stands_27 : decode cX19_stands 27 = .ok (.iaload, 1) := dk_46 (dk_at dksX19_stands_1 4 rfl rfl)
theorem dX19_stands_28 : decode cX19_stands 28 = .ok (.putfield 31, 3) := dk_181 0 31 (dk_at dksX19_stands_1 5 rfl rfl)
theorem dX19_stands_31 : decode cX19_stands 31 = .ok (.aload_n 0, 1) := dk_42 (dk_at dksX19_stands_1 8 rfl rfl)
theorem dX19_stands_32 : decode cX19_stands 32 = .ok (.getfield 3, 3) := dk_180 0 3 (dk_at dksX19_stands_1 9 rfl rfl)
theorem dX19_stands_35 : decode cX19_stands 35 = .ok (.getfield 27, 3) := dk_180 0 27 (dk_at dksX19_stands_1 12 rfl rfl)
theorem dX19_stands_38 : decode cX19_stands 38 = .ok (.iload_n 1, 1) := dk_27 (dk_at dksX19_stands_1 15 rfl rfl)
theorem dX19_stands_39 : decode cX19_stands 39 = .ok (.aaload, 1) := dk_50 (dk_at dksX19_stands_1 16 rfl rfl)
theorem dX19_stands_40 : decode cX19_stands 40 = .ok (.aload_n 0, 1) := dk_42 (dk_at dksX19_stands_1 17 rfl rfl)
theorem dX19_stands_41 : decode cX19_stands 41 = .ok (.getfield 19, 3) := dk_180 0 19 (dk_at dksX19_stands_1 18 rfl rfl)
theorem dX19_stands_44 : decode cX19_stands 44 = .ok (.iload_n 1, 1) := dk_27 (dk_at dksX19_stands_1 21 rfl rfl)
theorem dX19_stands_45 : decode cX19_stands 45 = .ok (.baload, 1) := dk_51 (dk_at dksX19_stands_1 22 rfl rfl)
theorem dX19_stands_46 : decode cX19_stands 46 = .ok (.putfield 35, 3) := dk_181 0 35 (dk_at dksX19_stands_2 0 rfl rfl)
theorem dX19_stands_49 : decode cX19_stands 49 = .ok (.iinc 1 1, 3) := dk_132 1 1 (dk_at dksX19_stands_2 3 rfl rfl)
theorem dX19_stands_52 : decode cX19_stands 52 = .ok (.goto (-50), 3) := dk_167 255 206 (dk_at dksX19_stands_2 6 rfl rfl)
theorem dX19_stands_55 : decode cX19_stands 55 = .ok (.return_, 1) := dk_177 (dk_at dksX19_stands_2 9 rfl rfl)
theorem q127 : (Jvm.Cond.initialized "MissedTrains$Porter") ∈ lw_all := lw_g (lw_at lw_m1 26 rfl) rfl
theorem q306 : (Jvm.Cond.fieldLinkNest "MissedTrains$Porter" (31 : Nat) "MissedTrains$Train" "putLate" "I" "MissedTrains") ∈ lw_tbl := lw_at lw_m1 205 rfl
theorem q311 : (Jvm.Cond.fieldLinkNest "MissedTrains$Porter" (35 : Nat) "MissedTrains$Train" "runs" "Z" "MissedTrains") ∈ lw_tbl := lw_at lw_m1 210 rfl
theorem q326 : (Jvm.Cond.fieldLinkNest "MissedTrains$Porter" (27 : Nat) "MissedTrains" "trains" "[LMissedTrains$Train;" "MissedTrains") ∈ lw_tbl := lw_at lw_m1 225 rfl
theorem q334 : (Jvm.Cond.fieldLinkNest "MissedTrains$Porter" (23 : Nat) "MissedTrains" "many" "I" "MissedTrains") ∈ lw_tbl := lw_at lw_m1 233 rfl
theorem q779 : (Jvm.Cond.selects "MissedTrains$Porter" ({ cls := "MissedTrains$Scribe", name := "here", desc := "()I" } : Jvm.MethodName) ({ cls := "MissedTrains$Scribe", name := "here", desc := "()I" } : Jvm.MethodName)) ∈ lw_all := lw_g (lw_at lw_m3 198 rfl) rfl
theorem q830 : (Jvm.Cond.selects "MissedTrains$Porter" ({ cls := "MissedTrains$Scribe", name := "line", desc := "(I)V" } : Jvm.MethodName) ({ cls := "MissedTrains$Porter", name := "line", desc := "(I)V" } : Jvm.MethodName)) ∈ lw_all := lw_g (lw_at lw_m4 9 rfl) rfl
theorem q831 : (Jvm.Cond.instanceMethod ({ cls := "MissedTrains$Porter", name := "line", desc := "(I)V" } : Jvm.MethodName)) ∈ lw_all := lw_g (lw_at lw_m4 10 rfl) rfl
theorem q832 : (Jvm.Cond.code ({ cls := "MissedTrains$Porter", name := "line", desc := "(I)V" } : Jvm.MethodName) prog_12_method_2_code (6 : Nat) (Option.none : Option Jvm.ClassFile.FieldType)) ∈ lw_all := lw_g (lw_at lw_m4 11 rfl) rfl
theorem q833 : (Jvm.Cond.methodLink "MissedTrains$Porter" (38 : Nat) ({ cls := "MissedTrains$Porter", name := "place", desc := "()I" } : Jvm.MethodName)) ∈ lw_all := lw_g (lw_at lw_m4 12 rfl) rfl
theorem q834 : (Jvm.Cond.sameMethod "MissedTrains$Porter" "MissedTrains$Scribe" "place" "()I") ∈ lw_all := lw_g (lw_at lw_m4 13 rfl) rfl
theorem q835 : (Jvm.Cond.selects "MissedTrains$Porter" ({ cls := "MissedTrains$Porter", name := "place", desc := "()I" } : Jvm.MethodName) ({ cls := "MissedTrains$Scribe", name := "place", desc := "()I" } : Jvm.MethodName)) ∈ lw_all := lw_g (lw_at lw_m4 14 rfl) rfl
theorem q836 : (Jvm.Cond.methodLink "MissedTrains$Porter" (42 : Nat) ({ cls := "MissedTrains$Porter", name := "sees", desc := "(II)Z" } : Jvm.MethodName)) ∈ lw_all := lw_g (lw_at lw_m4 15 rfl) rfl
theorem q837 : (Jvm.Cond.sameMethod "MissedTrains$Porter" "MissedTrains$Scribe" "sees" "(II)Z") ∈ lw_all := lw_g (lw_at lw_m4 16 rfl) rfl
theorem q838 : (Jvm.Cond.selects "MissedTrains$Porter" ({ cls := "MissedTrains$Porter", name := "sees", desc := "(II)Z" } : Jvm.MethodName) ({ cls := "MissedTrains$Scribe", name := "sees", desc := "(II)Z" } : Jvm.MethodName)) ∈ lw_all := lw_g (lw_at lw_m4 17 rfl) rfl
theorem q839 : (Jvm.Cond.methodLink "MissedTrains$Porter" (46 : Nat) ({ cls := "MissedTrains$Porter", name := "bad", desc := "(II)V" } : Jvm.MethodName)) ∈ lw_all := lw_g (lw_at lw_m4 18 rfl) rfl
theorem q840 : (Jvm.Cond.sameMethod "MissedTrains$Porter" "MissedTrains$Scribe" "bad" "(II)V") ∈ lw_all := lw_g (lw_at lw_m4 19 rfl) rfl
theorem q841 : (Jvm.Cond.selects "MissedTrains$Porter" ({ cls := "MissedTrains$Porter", name := "bad", desc := "(II)V" } : Jvm.MethodName) ({ cls := "MissedTrains$Scribe", name := "bad", desc := "(II)V" } : Jvm.MethodName)) ∈ lw_all := lw_g (lw_at lw_m4 20 rfl) rfl
theorem q842 : (Jvm.Cond.methodLink "MissedTrains$Porter" (50 : Nat) ({ cls := "MissedTrains$Porter", name := "number", desc := "(III)I" } : Jvm.MethodName)) ∈ lw_all := lw_g (lw_at lw_m4 21 rfl) rfl
theorem q843 : (Jvm.Cond.sameMethod "MissedTrains$Porter" "MissedTrains$Scribe" "number" "(III)I") ∈ lw_all := lw_g (lw_at lw_m4 22 rfl) rfl
theorem q844 : (Jvm.Cond.selects "MissedTrains$Porter" ({ cls := "MissedTrains$Porter", name := "number", desc := "(III)I" } : Jvm.MethodName) ({ cls := "MissedTrains$Scribe", name := "number", desc := "(III)I" } : Jvm.MethodName)) ∈ lw_all := lw_g (lw_at lw_m4 23 rfl) rfl
theorem q845 : (Jvm.Cond.methodLink "MissedTrains$Porter" (54 : Nat) ({ cls := "MissedTrains$Porter", name := "isGood", desc := "()Z" } : Jvm.MethodName)) ∈ lw_all := lw_g (lw_at lw_m4 24 rfl) rfl
theorem q846 : (Jvm.Cond.sameMethod "MissedTrains$Porter" "MissedTrains$Scribe" "isGood" "()Z") ∈ lw_all := lw_g (lw_at lw_m4 25 rfl) rfl
theorem q847 : (Jvm.Cond.selects "MissedTrains$Porter" ({ cls := "MissedTrains$Porter", name := "isGood", desc := "()Z" } : Jvm.MethodName) ({ cls := "MissedTrains$Scribe", name := "isGood", desc := "()Z" } : Jvm.MethodName)) ∈ lw_all := lw_g (lw_at lw_m4 26 rfl) rfl
theorem q848 : (Jvm.Cond.methodLinkNest "MissedTrains$Porter" (58 : Nat) ({ cls := "MissedTrains", name := "isTrain", desc := "(I)Z" } : Jvm.MethodName) "MissedTrains") ∈ lw_tbl := lw_at lw_m4 27 rfl
theorem q852 : (Jvm.Cond.methodLink "MissedTrains$Porter" (62 : Nat) ({ cls := "MissedTrains$Porter", name := "here", desc := "()I" } : Jvm.MethodName)) ∈ lw_all := lw_g (lw_at lw_m4 31 rfl) rfl
theorem q853 : (Jvm.Cond.sameMethod "MissedTrains$Porter" "MissedTrains$Scribe" "here" "()I") ∈ lw_all := lw_g (lw_at lw_m4 32 rfl) rfl
theorem q854 : (Jvm.Cond.selects "MissedTrains$Porter" ({ cls := "MissedTrains$Porter", name := "here", desc := "()I" } : Jvm.MethodName) ({ cls := "MissedTrains$Scribe", name := "here", desc := "()I" } : Jvm.MethodName)) ∈ lw_all := lw_g (lw_at lw_m4 33 rfl) rfl
theorem q855 : (Jvm.Cond.methodLink "MissedTrains$Porter" (65 : Nat) ({ cls := "MissedTrains$Porter", name := "goes", desc := "()V" } : Jvm.MethodName)) ∈ lw_all := lw_g (lw_at lw_m4 34 rfl) rfl
theorem q856 : (Jvm.Cond.sameMethod "MissedTrains$Porter" "MissedTrains$Scribe" "goes" "()V") ∈ lw_all := lw_g (lw_at lw_m4 35 rfl) rfl
theorem q857 : (Jvm.Cond.selects "MissedTrains$Porter" ({ cls := "MissedTrains$Porter", name := "goes", desc := "()V" } : Jvm.MethodName) ({ cls := "MissedTrains$Scribe", name := "goes", desc := "()V" } : Jvm.MethodName)) ∈ lw_all := lw_g (lw_at lw_m4 36 rfl) rfl
theorem q879 : (Jvm.Cond.instantiable "MissedTrains$Porter" (8 : Nat)) ∈ lw_all := lw_g (lw_at lw_m4 58 rfl) rfl
theorem q881 : (Jvm.Cond.instanceMethod ({ cls := "MissedTrains$Porter", name := "<init>", desc := "(LMissedTrains;I)V" } : Jvm.MethodName)) ∈ lw_all := lw_g (lw_at lw_m4 60 rfl) rfl
theorem q882 : (Jvm.Cond.code ({ cls := "MissedTrains$Porter", name := "<init>", desc := "(LMissedTrains;I)V" } : Jvm.MethodName) prog_12_method_1_code (4 : Nat) (Option.none : Option Jvm.ClassFile.FieldType)) ∈ lw_all := lw_g (lw_at lw_m4 61 rfl) rfl
theorem q883 : (Jvm.Cond.methodLink "MissedTrains$Porter" (9 : Nat) ({ cls := "MissedTrains$Scribe", name := "<init>", desc := "(LMissedTrains;I)V" } : Jvm.MethodName)) ∈ lw_all := lw_g (lw_at lw_m4 62 rfl) rfl
theorem q884 : (Jvm.Cond.fieldLink "MissedTrains$Porter" (15 : Nat) "MissedTrains$Porter" "putLate" "[I") ∈ lw_all := lw_g (lw_at lw_m4 63 rfl) rfl
theorem q885 : (Jvm.Cond.fieldLink "MissedTrains$Porter" (19 : Nat) "MissedTrains$Porter" "runs" "[Z") ∈ lw_all := lw_g (lw_at lw_m4 64 rfl) rfl
theorem q886 : (Jvm.Cond.fieldLink "MissedTrains$Porter" (3 : Nat) "MissedTrains$Porter" "this$0" "LMissedTrains;") ∈ lw_all := lw_g (lw_at lw_m4 65 rfl) rfl
theorem q887 : (Jvm.Cond.laysFinal "MissedTrains$Porter" "MissedTrains$Porter" "putLate" "[I") ∈ lw_all := lw_g (lw_at lw_m4 66 rfl) rfl
theorem q888 : (Jvm.Cond.soleField "MissedTrains$Porter" "putLate") ∈ lw_all := lw_g (lw_at lw_m4 67 rfl) rfl
theorem q889 : (Jvm.Cond.laysFinal "MissedTrains$Porter" "MissedTrains$Porter" "runs" "[Z") ∈ lw_all := lw_g (lw_at lw_m4 68 rfl) rfl
theorem q890 : (Jvm.Cond.soleField "MissedTrains$Porter" "runs") ∈ lw_all := lw_g (lw_at lw_m4 69 rfl) rfl
theorem q891 : (Jvm.Cond.laysFinal "MissedTrains$Porter" "MissedTrains$Porter" "this$0" "LMissedTrains;") ∈ lw_all := lw_g (lw_at lw_m4 70 rfl) rfl
theorem q892 : (Jvm.Cond.soleField "MissedTrains$Porter" "this$0") ∈ lw_all := lw_g (lw_at lw_m4 71 rfl) rfl
theorem q893 : (Jvm.Cond.laysFinal "MissedTrains$Porter" "MissedTrains$Scribe" "n" "I") ∈ lw_all := lw_g (lw_at lw_m4 72 rfl) rfl
theorem q894 : (Jvm.Cond.lays "MissedTrains$Porter" "MissedTrains$Scribe" "at" "I") ∈ lw_all := lw_g (lw_at lw_m4 73 rfl) rfl
theorem q895 : (Jvm.Cond.lays "MissedTrains$Porter" "MissedTrains$Scribe" "fault" "I") ∈ lw_all := lw_g (lw_at lw_m4 74 rfl) rfl
theorem q896 : (Jvm.Cond.lays "MissedTrains$Porter" "MissedTrains$Scribe" "place" "I") ∈ lw_all := lw_g (lw_at lw_m4 75 rfl) rfl
theorem q897 : (Jvm.Cond.laysFinal "MissedTrains$Porter" "MissedTrains$Scribe" "this$0" "LMissedTrains;") ∈ lw_all := lw_g (lw_at lw_m4 76 rfl) rfl
theorem q898 : (Jvm.Cond.superclass "MissedTrains$Porter" "MissedTrains$Scribe") ∈ lw_all := lw_g (lw_at lw_m4 77 rfl) rfl
theorem q900 : (Jvm.Cond.sameMethod "MissedTrains$Porter" "MissedTrains$Scribe" "read" "()I") ∈ lw_all := lw_g (lw_at lw_m4 79 rfl) rfl
theorem q901 : (Jvm.Cond.selects "MissedTrains$Porter" ({ cls := "MissedTrains$Porter", name := "read", desc := "()I" } : Jvm.MethodName) ({ cls := "MissedTrains$Scribe", name := "read", desc := "()I" } : Jvm.MethodName)) ∈ lw_all := lw_g (lw_at lw_m4 80 rfl) rfl
theorem q903 : (Jvm.Cond.instanceMethod ({ cls := "MissedTrains$Porter", name := "stands", desc := "()V" } : Jvm.MethodName)) ∈ lw_all := lw_g (lw_at lw_m4 82 rfl) rfl
theorem q904 : (Jvm.Cond.selects "MissedTrains$Porter" ({ cls := "MissedTrains$Porter", name := "stands", desc := "()V" } : Jvm.MethodName) ({ cls := "MissedTrains$Porter", name := "stands", desc := "()V" } : Jvm.MethodName)) ∈ lw_all := lw_g (lw_at lw_m4 83 rfl) rfl
theorem q905 : (Jvm.Cond.code ({ cls := "MissedTrains$Porter", name := "stands", desc := "()V" } : Jvm.MethodName) prog_12_method_3_code (2 : Nat) (Option.none : Option Jvm.ClassFile.FieldType)) ∈ lw_all := lw_g (lw_at lw_m4 84 rfl) rfl
theorem q1824 : (Jvm.Cond.selects "MissedTrains$Porter" ({ cls := "MissedTrains$Scribe", name := "isGood", desc := "()Z" } : Jvm.MethodName) ({ cls := "MissedTrains$Scribe", name := "isGood", desc := "()Z" } : Jvm.MethodName)) ∈ lw_all := lw_g (lw_at lw_m8 43 rfl) rfl
theorem q1827 : (Jvm.Cond.selects "MissedTrains$Porter" ({ cls := "MissedTrains$Scribe", name := "sees", desc := "(II)Z" } : Jvm.MethodName) ({ cls := "MissedTrains$Scribe", name := "sees", desc := "(II)Z" } : Jvm.MethodName)) ∈ lw_all := lw_g (lw_at lw_m8 46 rfl) rfl
theorem q1830 : (Jvm.Cond.selects "MissedTrains$Porter" ({ cls := "MissedTrains$Scribe", name := "bad", desc := "(II)V" } : Jvm.MethodName) ({ cls := "MissedTrains$Scribe", name := "bad", desc := "(II)V" } : Jvm.MethodName)) ∈ lw_all := lw_g (lw_at lw_m8 49 rfl) rfl
theorem in_X19 : ∀ w ∈ wsX190, w ∈ lw_all := lw_in wsX190 [893, 894, 895, 896, 897, 887, 889, 891] (by decide +kernel) (by decide +kernel)
/-! java/lang/String -/
set_option maxRecDepth 100000
def RJ0 : String := "java/lang/String"
abbrev cJ0_indexOf : ByteArray := prog_24_method_79_code
def yJ0_indexOf : MethodName := ⟨RJ0, "indexOf", "(I)I"⟩
def dkwJ0_indexOf_0 : List UInt8 := [42, 27, 3, 182, 2, 121, 172]
abbrev dktJ0_indexOf_0 : List UInt8 := dkwJ0_indexOf_0 ++ []
theorem dksJ0_indexOf_0 : cJ0_indexOf.data.toList.drop 0 = dktJ0_indexOf_0 := by decide +kernel
theorem dJ0_indexOf_0 : decode cJ0_indexOf 0 = .ok (.aload_n 0, 1) := dk_42 (dk_at dksJ0_indexOf_0 0 rfl rfl)
theorem dJ0_indexOf_1 : decode cJ0_indexOf 1 = .ok (.iload_n 1, 1) := dk_27 (dk_at dksJ0_indexOf_0 1 rfl rfl)
theorem dJ0_indexOf_2 : decode cJ0_indexOf 2 = .ok (.iconst 0, 1) := dk_3 (dk_at dksJ0_indexOf_0 2 rfl rfl)
theorem dJ0_indexOf_3 : decode cJ0_indexOf 3 = .ok (.invokevirtual 633, 3) := dk_182 2 121 (dk_at dksJ0_indexOf_0 3 rfl rfl)
theorem dJ0_indexOf_6 : decode cJ0_indexOf 6 = .ok (.ireturn, 1) := dk_172 (dk_at dksJ0_indexOf_0 6 rfl rfl)
abbrev cJ0_indexOf_2 : ByteArray := prog_24_method_80_code
def yJ0_indexOf_2 : MethodName := ⟨RJ0, "indexOf", "(II)I"⟩
def dkwJ0_indexOf_2_1 : List UInt8 := [180, 0, 9, 27, 28, 42, 182, 1, 249, 184, 2, 128, 172]
abbrev dktJ0_indexOf_2_1 : List UInt8 := dkwJ0_indexOf_2_1 ++ []
def dkwJ0_indexOf_2_0 : List UInt8 := [42, 182, 1, 236, 153, 0, 19, 42, 180, 0, 9, 27, 28, 42, 182, 1, 249, 184, 2, 125, 167, 0, 16, 42]
abbrev dktJ0_indexOf_2_0 : List UInt8 := dkwJ0_indexOf_2_0 ++ dktJ0_indexOf_2_1
theorem dksJ0_indexOf_2_0 : cJ0_indexOf_2.data.toList.drop 0 = dktJ0_indexOf_2_0 := by decide +kernel
theorem dksJ0_indexOf_2_1 : cJ0_indexOf_2.data.toList.drop 24 = dktJ0_indexOf_2_1 := dk_seg dksJ0_indexOf_2_0 24 rfl rfl
theorem dJ0_indexOf_2_0 : decode cJ0_indexOf_2 0 = .ok (.aload_n 0, 1) := dk_42 (dk_at dksJ0_indexOf_2_0 0 rfl rfl)
theorem dJ0_indexOf_2_1 : decode cJ0_indexOf_2 1 = .ok (.invokevirtual 492, 3) := dk_182 1 236 (dk_at dksJ0_indexOf_2_0 1 rfl rfl)
theorem dJ0_indexOf_2_4 : decode cJ0_indexOf_2 4 = .ok (.ifCond .eq 19, 3) := dk_153 0 19 (dk_at dksJ0_indexOf_2_0 4 rfl rfl)
theorem dJ0_indexOf_2_7 : decode cJ0_indexOf_2 7 = .ok (.aload_n 0, 1) := dk_42 (dk_at dksJ0_indexOf_2_0 7 rfl rfl)
theorem dJ0_indexOf_2_8 : decode cJ0_indexOf_2 8 = .ok (.getfield 9, 3) := dk_180 0 9 (dk_at dksJ0_indexOf_2_0 8 rfl rfl)
theorem dJ0_indexOf_2_11 : decode cJ0_indexOf_2 11 = .ok (.iload_n 1, 1) := dk_27 (dk_at dksJ0_indexOf_2_0 11 rfl rfl)
theorem dJ0_indexOf_2_12 : decode cJ0_indexOf_2 12 = .ok (.iload_n 2, 1) := dk_28 (dk_at dksJ0_indexOf_2_0 12 rfl rfl)
theorem dJ0_indexOf_2_13 : decode cJ0_indexOf_2 13 = .ok (.aload_n 0, 1) := dk_42 (dk_at dksJ0_indexOf_2_0 13 rfl rfl)
theorem dJ0_indexOf_2_14 : decode cJ0_indexOf_2 14 = .ok (.invokevirtual 505, 3) := dk_182 1 249 (dk_at dksJ0_indexOf_2_0 14 rfl rfl)
theorem dJ0_indexOf_2_17 : decode cJ0_indexOf_2 17 = .ok (.invokestatic 637, 3) := dk_184 2 125 (dk_at dksJ0_indexOf_2_0 17 rfl rfl)
theorem dJ0_indexOf_2_20 : decode cJ0_indexOf_2 20 = .ok (.goto 16, 3) := dk_167 0 16 (dk_at dksJ0_indexOf_2_0 20 rfl rfl)
theorem dJ0_indexOf_2_23 : decode cJ0_indexOf_2 23 = .ok (.aload_n 0, 1) := dk_42 (dk_at dksJ0_indexOf_2_0 23 rfl rfl)
theorem dJ0_indexOf_2_24 : decode cJ0_indexOf_2 24 = .ok (.getfield 9, 3) := dk_180 0 9 (dk_at dksJ0_indexOf_2_1 0 rfl rfl)
theorem dJ0_indexOf_2_27 : decode cJ0_indexOf_2 27 = .ok (.iload_n 1, 1) := dk_27 (dk_at dksJ0_indexOf_2_1 3 rfl rfl)
theorem dJ0_indexOf_2_28 : decode cJ0_indexOf_2 28 = .ok (.iload_n 2, 1) := dk_28 (dk_at dksJ0_indexOf_2_1 4 rfl rfl)
theorem dJ0_indexOf_2_29 : decode cJ0_indexOf_2 29 = .ok (.aload_n 0, 1) := dk_42 (dk_at dksJ0_indexOf_2_1 5 rfl rfl)
theorem dJ0_indexOf_2_30 : decode cJ0_indexOf_2 30 = .ok (.invokevirtual 505, 3) := dk_182 1 249 (dk_at dksJ0_indexOf_2_1 6 rfl rfl)
theorem dJ0_indexOf_2_33 : decode cJ0_indexOf_2 33 = .ok (.invokestatic 640, 3) := dk_184 2 128 (dk_at dksJ0_indexOf_2_1 9 rfl rfl)
theorem dJ0_indexOf_2_36 : decode cJ0_indexOf_2 36 = .ok (.ireturn, 1) := dk_172 (dk_at dksJ0_indexOf_2_1 12 rfl rfl)
abbrev cJ0_isLatin1 : ByteArray := prog_24_method_154_code
def yJ0_isLatin1 : MethodName := ⟨RJ0, "isLatin1", "()Z"⟩
def dkwJ0_isLatin1_0 : List UInt8 := [178, 0, 38, 153, 0, 14, 42, 180, 0, 15, 154, 0, 7, 4, 167, 0, 4, 3, 172]
abbrev dktJ0_isLatin1_0 : List UInt8 := dkwJ0_isLatin1_0 ++ []
theorem dksJ0_isLatin1_0 : cJ0_isLatin1.data.toList.drop 0 = dktJ0_isLatin1_0 := by decide +kernel
theorem dJ0_isLatin1_0 : decode cJ0_isLatin1 0 = .ok (.getstatic 38, 3) := dk_178 0 38 (dk_at dksJ0_isLatin1_0 0 rfl rfl)
theorem dJ0_isLatin1_3 : decode cJ0_isLatin1 3 = .ok (.ifCond .eq 14, 3) := dk_153 0 14 (dk_at dksJ0_isLatin1_0 3 rfl rfl)
theorem dJ0_isLatin1_6 : decode cJ0_isLatin1 6 = .ok (.aload_n 0, 1) := dk_42 (dk_at dksJ0_isLatin1_0 6 rfl rfl)
theorem dJ0_isLatin1_7 : decode cJ0_isLatin1 7 = .ok (.getfield 15, 3) := dk_180 0 15 (dk_at dksJ0_isLatin1_0 7 rfl rfl)
theorem dJ0_isLatin1_10 : decode cJ0_isLatin1 10 = .ok (.ifCond .ne 7, 3) := dk_154 0 7 (dk_at dksJ0_isLatin1_0 10 rfl rfl)
theorem dJ0_isLatin1_13 : decode cJ0_isLatin1 13 = .ok (.iconst 1, 1) := dk_4 (dk_at dksJ0_isLatin1_0 13 rfl rfl)
theorem dJ0_isLatin1_14 : decode cJ0_isLatin1 14 = .ok (.goto 4, 3) := dk_167 0 4 (dk_at dksJ0_isLatin1_0 14 rfl rfl)
theorem dJ0_isLatin1_17 : decode cJ0_isLatin1 17 = .ok (.iconst 0, 1) := dk_3 (dk_at dksJ0_isLatin1_0 17 rfl rfl)
theorem dJ0_isLatin1_18 : decode cJ0_isLatin1 18 = .ok (.ireturn, 1) := dk_172 (dk_at dksJ0_isLatin1_0 18 rfl rfl)
abbrev cJ0_length : ByteArray := prog_24_method_54_code
def yJ0_length : MethodName := ⟨RJ0, "length", "()I"⟩
def dkwJ0_length_0 : List UInt8 := [42, 180, 0, 9, 190, 42, 182, 1, 79, 122, 172]
abbrev dktJ0_length_0 : List UInt8 := dkwJ0_length_0 ++ []
theorem dksJ0_length_0 : cJ0_length.data.toList.drop 0 = dktJ0_length_0 := by decide +kernel
theorem dJ0_length_0 : decode cJ0_length 0 = .ok (.aload_n 0, 1) := dk_42 (dk_at dksJ0_length_0 0 rfl rfl)
theorem dJ0_length_1 : decode cJ0_length 1 = .ok (.getfield 9, 3) := dk_180 0 9 (dk_at dksJ0_length_0 1 rfl rfl)
theorem dJ0_length_4 : decode cJ0_length 4 = .ok (.arraylength, 1) := dk_190 (dk_at dksJ0_length_0 4 rfl rfl)
theorem dJ0_length_5 : decode cJ0_length 5 = .ok (.aload_n 0, 1) := dk_42 (dk_at dksJ0_length_0 5 rfl rfl)
theorem dJ0_length_6 : decode cJ0_length 6 = .ok (.invokevirtual 335, 3) := dk_182 1 79 (dk_at dksJ0_length_0 6 rfl rfl)
theorem dJ0_length_9 : decode cJ0_length 9 = .ok (.ishr, 1) := dk_122 (dk_at dksJ0_length_0 9 rfl rfl)
theorem dJ0_length_10 : decode cJ0_length 10 = .ok (.ireturn, 1) := dk_172 (dk_at dksJ0_length_0 10 rfl rfl)
abbrev cJ0_coder : ByteArray := prog_24_method_152_code
def yJ0_coder : MethodName := ⟨RJ0, "coder", "()B"⟩
def dkwJ0_coder_0 : List UInt8 := [178, 0, 38, 153, 0, 10, 42, 180, 0, 15, 167, 0, 4, 4, 172]
abbrev dktJ0_coder_0 : List UInt8 := dkwJ0_coder_0 ++ []
theorem dksJ0_coder_0 : cJ0_coder.data.toList.drop 0 = dktJ0_coder_0 := by decide +kernel
theorem dJ0_coder_0 : decode cJ0_coder 0 = .ok (.getstatic 38, 3) := dk_178 0 38 (dk_at dksJ0_coder_0 0 rfl rfl)
theorem dJ0_coder_3 : decode cJ0_coder 3 = .ok (.ifCond .eq 10, 3) := dk_153 0 10 (dk_at dksJ0_coder_0 3 rfl rfl)
theorem dJ0_coder_6 : decode cJ0_coder 6 = .ok (.aload_n 0, 1) := dk_42 (dk_at dksJ0_coder_0 6 rfl rfl)
theorem dJ0_coder_7 : decode cJ0_coder 7 = .ok (.getfield 15, 3) := dk_180 0 15 (dk_at dksJ0_coder_0 7 rfl rfl)
theorem dJ0_coder_10 : decode cJ0_coder 10 = .ok (.goto 4, 3) := dk_167 0 4 (dk_at dksJ0_coder_0 10 rfl rfl)
theorem dJ0_coder_13 : decode cJ0_coder 13 = .ok (.iconst 1, 1) := dk_4 (dk_at dksJ0_coder_0 13 rfl rfl)
theorem dJ0_coder_14 : decode cJ0_coder 14 = .ok (.ireturn, 1) := dk_172 (dk_at dksJ0_coder_0 14 rfl rfl)
abbrev cJ0_checkBoundsBeginEnd : ByteArray := prog_24_method_158_code
def yJ0_checkBoundsBeginEnd : MethodName := ⟨RJ0, "checkBoundsBeginEnd", "(III)V"⟩
def dkwJ0_checkBoundsBeginEnd_0 : List UInt8 := [26, 27, 28, 178, 4, 29, 184, 4, 38, 87, 177]
abbrev dktJ0_checkBoundsBeginEnd_0 : List UInt8 := dkwJ0_checkBoundsBeginEnd_0 ++ []
theorem dksJ0_checkBoundsBeginEnd_0 : cJ0_checkBoundsBeginEnd.data.toList.drop 0 = dktJ0_checkBoundsBeginEnd_0 := by decide +kernel
theorem dJ0_checkBoundsBeginEnd_0 : decode cJ0_checkBoundsBeginEnd 0 = .ok (.iload_n 0, 1) := dk_26 (dk_at dksJ0_checkBoundsBeginEnd_0 0 rfl rfl)
theorem dJ0_checkBoundsBeginEnd_1 : decode cJ0_checkBoundsBeginEnd 1 = .ok (.iload_n 1, 1) := dk_27 (dk_at dksJ0_checkBoundsBeginEnd_0 1 rfl rfl)
theorem dJ0_checkBoundsBeginEnd_2 : decode cJ0_checkBoundsBeginEnd 2 = .ok (.iload_n 2, 1) := dk_28 (dk_at dksJ0_checkBoundsBeginEnd_0 2 rfl rfl)
theorem dJ0_checkBoundsBeginEnd_3 : decode cJ0_checkBoundsBeginEnd 3 = .ok (.getstatic 1053, 3) := dk_178 4 29 (dk_at dksJ0_checkBoundsBeginEnd_0 3 rfl rfl)
theorem dJ0_checkBoundsBeginEnd_6 : decode cJ0_checkBoundsBeginEnd 6 = .ok (.invokestatic 1062, 3) := dk_184 4 38 (dk_at dksJ0_checkBoundsBeginEnd_0 6 rfl rfl)
theorem dJ0_checkBoundsBeginEnd_9 : decode cJ0_checkBoundsBeginEnd 9 = .ok (.pop, 1) := dk_87 (dk_at dksJ0_checkBoundsBeginEnd_0 9 rfl rfl)
theorem dJ0_checkBoundsBeginEnd_10 : decode cJ0_checkBoundsBeginEnd 10 = .ok (.return_, 1) := dk_177 (dk_at dksJ0_checkBoundsBeginEnd_0 10 rfl rfl)
theorem q111 : (Jvm.Cond.initialized "java/lang/String") ∈ lw_all := lw_g (lw_at lw_m1 10 rfl) rfl
theorem q486 : (Jvm.Cond.instanceMethod ({ cls := "java/lang/String", name := "indexOf", desc := "(I)I" } : Jvm.MethodName)) ∈ lw_all := lw_g (lw_at lw_m2 145 rfl) rfl
theorem q487 : (Jvm.Cond.selects "java/lang/String" ({ cls := "java/lang/String", name := "indexOf", desc := "(I)I" } : Jvm.MethodName) ({ cls := "java/lang/String", name := "indexOf", desc := "(I)I" } : Jvm.MethodName)) ∈ lw_all := lw_g (lw_at lw_m2 146 rfl) rfl
theorem q488 : (Jvm.Cond.code ({ cls := "java/lang/String", name := "indexOf", desc := "(I)I" } : Jvm.MethodName) prog_24_method_79_code (2 : Nat) (Option.some Jvm.ClassFile.FieldType.int)) ∈ lw_all := lw_g (lw_at lw_m2 147 rfl) rfl
theorem q489 : (Jvm.Cond.methodLink "java/lang/String" (633 : Nat) ({ cls := "java/lang/String", name := "indexOf", desc := "(II)I" } : Jvm.MethodName)) ∈ lw_all := lw_g (lw_at lw_m2 148 rfl) rfl
theorem q490 : (Jvm.Cond.instanceMethod ({ cls := "java/lang/String", name := "indexOf", desc := "(II)I" } : Jvm.MethodName)) ∈ lw_all := lw_g (lw_at lw_m2 149 rfl) rfl
theorem q491 : (Jvm.Cond.selects "java/lang/String" ({ cls := "java/lang/String", name := "indexOf", desc := "(II)I" } : Jvm.MethodName) ({ cls := "java/lang/String", name := "indexOf", desc := "(II)I" } : Jvm.MethodName)) ∈ lw_all := lw_g (lw_at lw_m2 150 rfl) rfl
theorem q492 : (Jvm.Cond.code ({ cls := "java/lang/String", name := "indexOf", desc := "(II)I" } : Jvm.MethodName) prog_24_method_80_code (3 : Nat) (Option.some Jvm.ClassFile.FieldType.int)) ∈ lw_all := lw_g (lw_at lw_m2 151 rfl) rfl
theorem q493 : (Jvm.Cond.methodLink "java/lang/String" (492 : Nat) ({ cls := "java/lang/String", name := "isLatin1", desc := "()Z" } : Jvm.MethodName)) ∈ lw_all := lw_g (lw_at lw_m2 152 rfl) rfl
theorem q494 : (Jvm.Cond.instanceMethod ({ cls := "java/lang/String", name := "isLatin1", desc := "()Z" } : Jvm.MethodName)) ∈ lw_all := lw_g (lw_at lw_m2 153 rfl) rfl
theorem q495 : (Jvm.Cond.selects "java/lang/String" ({ cls := "java/lang/String", name := "isLatin1", desc := "()Z" } : Jvm.MethodName) ({ cls := "java/lang/String", name := "isLatin1", desc := "()Z" } : Jvm.MethodName)) ∈ lw_all := lw_g (lw_at lw_m2 154 rfl) rfl
theorem q496 : (Jvm.Cond.code ({ cls := "java/lang/String", name := "isLatin1", desc := "()Z" } : Jvm.MethodName) prog_24_method_154_code (1 : Nat) (Option.some Jvm.ClassFile.FieldType.boolean)) ∈ lw_all := lw_g (lw_at lw_m2 155 rfl) rfl
theorem q497 : (Jvm.Cond.fieldLink "java/lang/String" (38 : Nat) "java/lang/String" "COMPACT_STRINGS" "Z") ∈ lw_all := lw_g (lw_at lw_m2 156 rfl) rfl
theorem q498 : (Jvm.Cond.laysStatic "java/lang/String" "COMPACT_STRINGS" "Z") ∈ lw_tbl := lw_at lw_m2 157 rfl
theorem q499 : (Jvm.Cond.methodLink "java/lang/String" (505 : Nat) ({ cls := "java/lang/String", name := "length", desc := "()I" } : Jvm.MethodName)) ∈ lw_all := lw_g (lw_at lw_m2 158 rfl) rfl
theorem q500 : (Jvm.Cond.instanceMethod ({ cls := "java/lang/String", name := "length", desc := "()I" } : Jvm.MethodName)) ∈ lw_all := lw_g (lw_at lw_m2 159 rfl) rfl
theorem q501 : (Jvm.Cond.selects "java/lang/String" ({ cls := "java/lang/String", name := "length", desc := "()I" } : Jvm.MethodName) ({ cls := "java/lang/String", name := "length", desc := "()I" } : Jvm.MethodName)) ∈ lw_all := lw_g (lw_at lw_m2 160 rfl) rfl
theorem q502 : (Jvm.Cond.code ({ cls := "java/lang/String", name := "length", desc := "()I" } : Jvm.MethodName) prog_24_method_54_code (1 : Nat) (Option.some Jvm.ClassFile.FieldType.int)) ∈ lw_all := lw_g (lw_at lw_m2 161 rfl) rfl
theorem q503 : (Jvm.Cond.methodLink "java/lang/String" (335 : Nat) ({ cls := "java/lang/String", name := "coder", desc := "()B" } : Jvm.MethodName)) ∈ lw_all := lw_g (lw_at lw_m2 162 rfl) rfl
theorem q504 : (Jvm.Cond.instanceMethod ({ cls := "java/lang/String", name := "coder", desc := "()B" } : Jvm.MethodName)) ∈ lw_all := lw_g (lw_at lw_m2 163 rfl) rfl
theorem q505 : (Jvm.Cond.selects "java/lang/String" ({ cls := "java/lang/String", name := "coder", desc := "()B" } : Jvm.MethodName) ({ cls := "java/lang/String", name := "coder", desc := "()B" } : Jvm.MethodName)) ∈ lw_all := lw_g (lw_at lw_m2 164 rfl) rfl
theorem q506 : (Jvm.Cond.code ({ cls := "java/lang/String", name := "coder", desc := "()B" } : Jvm.MethodName) prog_24_method_152_code (1 : Nat) (Option.some Jvm.ClassFile.FieldType.byte)) ∈ lw_all := lw_g (lw_at lw_m2 165 rfl) rfl
theorem q507 : (Jvm.Cond.methodLink "java/lang/String" (637 : Nat) ({ cls := "java/lang/StringLatin1", name := "indexOf", desc := "([BIII)I" } : Jvm.MethodName)) ∈ lw_all := lw_g (lw_at lw_m2 166 rfl) rfl
theorem q522 : (Jvm.Cond.methodLink "java/lang/String" (640 : Nat) ({ cls := "java/lang/StringUTF16", name := "indexOf", desc := "([BIII)I" } : Jvm.MethodName)) ∈ lw_all := lw_g (lw_at lw_m2 181 rfl) rfl
theorem q538 : (Jvm.Cond.static ({ cls := "java/lang/String", name := "checkBoundsBeginEnd", desc := "(III)V" } : Jvm.MethodName)) ∈ lw_all := lw_g (lw_at lw_m2 197 rfl) rfl
theorem q539 : (Jvm.Cond.code ({ cls := "java/lang/String", name := "checkBoundsBeginEnd", desc := "(III)V" } : Jvm.MethodName) prog_24_method_158_code (3 : Nat) (Option.none : Option Jvm.ClassFile.FieldType)) ∈ lw_all := lw_g (lw_at lw_m2 198 rfl) rfl
theorem q540 : (Jvm.Cond.fieldLink "java/lang/String" (1053 : Nat) "jdk/internal/util/Preconditions" "SIOOBE_FORMATTER" "Ljava/util/function/BiFunction;") ∈ lw_all := lw_g (lw_at lw_m2 199 rfl) rfl
theorem q542 : (Jvm.Cond.methodLink "java/lang/String" (1062 : Nat) ({ cls := "jdk/internal/util/Preconditions", name := "checkFromToIndex", desc := "(IIILjava/util/function/BiFunction;)I" } : Jvm.MethodName)) ∈ lw_all := lw_g (lw_at lw_m2 201 rfl) rfl
theorem q1837 : (Jvm.Cond.fieldLink "java/lang/String" (15 : Nat) "java/lang/String" "coder" "B") ∈ lw_all := lw_g (lw_at lw_m8 56 rfl) rfl
theorem q1838 : (Jvm.Cond.fieldLink "java/lang/String" (9 : Nat) "java/lang/String" "value" "[B") ∈ lw_all := lw_g (lw_at lw_m8 57 rfl) rfl
/-! java/lang/StringLatin1 -/
set_option maxRecDepth 100000
def RJ1 : String := "java/lang/StringLatin1"
abbrev cJ1_indexOf : ByteArray := prog_25_method_22_code
def yJ1_indexOf : MethodName := ⟨RJ1, "indexOf", "([BIII)I"⟩
def dkwJ1_indexOf_1 : List UInt8 := [161, 0, 5, 2, 172, 42, 27, 28, 29, 184, 0, 95, 172]
abbrev dktJ1_indexOf_1 : List UInt8 := dkwJ1_indexOf_1 ++ []
def dkwJ1_indexOf_0 : List UInt8 := [27, 184, 0, 88, 154, 0, 5, 2, 172, 28, 3, 184, 0, 92, 61, 29, 42, 190, 184, 0, 38, 62, 28, 29]
abbrev dktJ1_indexOf_0 : List UInt8 := dkwJ1_indexOf_0 ++ dktJ1_indexOf_1
theorem dksJ1_indexOf_0 : cJ1_indexOf.data.toList.drop 0 = dktJ1_indexOf_0 := by decide +kernel
theorem dksJ1_indexOf_1 : cJ1_indexOf.data.toList.drop 24 = dktJ1_indexOf_1 := dk_seg dksJ1_indexOf_0 24 rfl rfl
theorem dJ1_indexOf_0 : decode cJ1_indexOf 0 = .ok (.iload_n 1, 1) := dk_27 (dk_at dksJ1_indexOf_0 0 rfl rfl)
theorem dJ1_indexOf_1 : decode cJ1_indexOf 1 = .ok (.invokestatic 88, 3) := dk_184 0 88 (dk_at dksJ1_indexOf_0 1 rfl rfl)
theorem dJ1_indexOf_4 : decode cJ1_indexOf 4 = .ok (.ifCond .ne 5, 3) := dk_154 0 5 (dk_at dksJ1_indexOf_0 4 rfl rfl)
theorem dJ1_indexOf_7 : decode cJ1_indexOf 7 = .ok (.iconst (-1), 1) := dk_2 (dk_at dksJ1_indexOf_0 7 rfl rfl)
theorem dJ1_indexOf_8 : decode cJ1_indexOf 8 = .ok (.ireturn, 1) := dk_172 (dk_at dksJ1_indexOf_0 8 rfl rfl)
theorem dJ1_indexOf_9 : decode cJ1_indexOf 9 = .ok (.iload_n 2, 1) := dk_28 (dk_at dksJ1_indexOf_0 9 rfl rfl)
theorem dJ1_indexOf_10 : decode cJ1_indexOf 10 = .ok (.iconst 0, 1) := dk_3 (dk_at dksJ1_indexOf_0 10 rfl rfl)
theorem dJ1_indexOf_11 : decode cJ1_indexOf 11 = .ok (.invokestatic 92, 3) := dk_184 0 92 (dk_at dksJ1_indexOf_0 11 rfl rfl)
theorem dJ1_indexOf_14 : decode cJ1_indexOf 14 = .ok (.istore_n 2, 1) := dk_61 (dk_at dksJ1_indexOf_0 14 rfl rfl)
theorem dJ1_indexOf_15 : decode cJ1_indexOf 15 = .ok (.iload_n 3, 1) := dk_29 (dk_at dksJ1_indexOf_0 15 rfl rfl)
theorem dJ1_indexOf_16 : decode cJ1_indexOf 16 = .ok (.aload_n 0, 1) := dk_42 (dk_at dksJ1_indexOf_0 16 rfl rfl)
theorem dJ1_indexOf_17 : decode cJ1_indexOf 17 = .ok (.arraylength, 1) := dk_190 (dk_at dksJ1_indexOf_0 17 rfl rfl)
theorem dJ1_indexOf_18 : decode cJ1_indexOf 18 = .ok (.invokestatic 38, 3) := dk_184 0 38 (dk_at dksJ1_indexOf_0 18 rfl rfl)
theorem dJ1_indexOf_21 : decode cJ1_indexOf 21 = .ok (.istore_n 3, 1) := dk_62 (dk_at dksJ1_indexOf_0 21 rfl rfl)
theorem dJ1_indexOf_22 : decode cJ1_indexOf 22 = .ok (.iload_n 2, 1) := dk_28 (dk_at dksJ1_indexOf_0 22 rfl rfl)
theorem dJ1_indexOf_23 : decode cJ1_indexOf 23 = .ok (.iload_n 3, 1) := dk_29 (dk_at dksJ1_indexOf_0 23 rfl rfl)
theorem dJ1_indexOf_24 : decode cJ1_indexOf 24 = .ok (.if_icmp .lt 5, 3) := dk_161 0 5 (dk_at dksJ1_indexOf_1 0 rfl rfl)
theorem dJ1_indexOf_27 : decode cJ1_indexOf 27 = .ok (.iconst (-1), 1) := dk_2 (dk_at dksJ1_indexOf_1 3 rfl rfl)
theorem dJ1_indexOf_28 : decode cJ1_indexOf 28 = .ok (.ireturn, 1) := dk_172 (dk_at dksJ1_indexOf_1 4 rfl rfl)
theorem dJ1_indexOf_29 : decode cJ1_indexOf 29 = .ok (.aload_n 0, 1) := dk_42 (dk_at dksJ1_indexOf_1 5 rfl rfl)
theorem dJ1_indexOf_30 : decode cJ1_indexOf 30 = .ok (.iload_n 1, 1) := dk_27 (dk_at dksJ1_indexOf_1 6 rfl rfl)
theorem dJ1_indexOf_31 : decode cJ1_indexOf 31 = .ok (.iload_n 2, 1) := dk_28 (dk_at dksJ1_indexOf_1 7 rfl rfl)
theorem dJ1_indexOf_32 : decode cJ1_indexOf 32 = .ok (.iload_n 3, 1) := dk_29 (dk_at dksJ1_indexOf_1 8 rfl rfl)
theorem dJ1_indexOf_33 : decode cJ1_indexOf 33 = .ok (.invokestatic 95, 3) := dk_184 0 95 (dk_at dksJ1_indexOf_1 9 rfl rfl)
theorem dJ1_indexOf_36 : decode cJ1_indexOf 36 = .ok (.ireturn, 1) := dk_172 (dk_at dksJ1_indexOf_1 12 rfl rfl)
abbrev cJ1_canEncode : ByteArray := prog_25_method_4_code
def yJ1_canEncode : MethodName := ⟨RJ1, "canEncode", "(I)Z"⟩
def dkwJ1_canEncode_0 : List UInt8 := [26, 155, 0, 14, 26, 17, 0, 255, 163, 0, 7, 4, 167, 0, 4, 3, 172]
abbrev dktJ1_canEncode_0 : List UInt8 := dkwJ1_canEncode_0 ++ []
theorem dksJ1_canEncode_0 : cJ1_canEncode.data.toList.drop 0 = dktJ1_canEncode_0 := by decide +kernel
theorem dJ1_canEncode_0 : decode cJ1_canEncode 0 = .ok (.iload_n 0, 1) := dk_26 (dk_at dksJ1_canEncode_0 0 rfl rfl)
theorem dJ1_canEncode_1 : decode cJ1_canEncode 1 = .ok (.ifCond .lt 14, 3) := dk_155 0 14 (dk_at dksJ1_canEncode_0 1 rfl rfl)
theorem dJ1_canEncode_4 : decode cJ1_canEncode 4 = .ok (.iload_n 0, 1) := dk_26 (dk_at dksJ1_canEncode_0 4 rfl rfl)
theorem dJ1_canEncode_5 : decode cJ1_canEncode 5 = .ok (.sipush 255, 3) := dk_17 0 255 (dk_at dksJ1_canEncode_0 5 rfl rfl)
theorem dJ1_canEncode_8 : decode cJ1_canEncode 8 = .ok (.if_icmp .gt 7, 3) := dk_163 0 7 (dk_at dksJ1_canEncode_0 8 rfl rfl)
theorem dJ1_canEncode_11 : decode cJ1_canEncode 11 = .ok (.iconst 1, 1) := dk_4 (dk_at dksJ1_canEncode_0 11 rfl rfl)
theorem dJ1_canEncode_12 : decode cJ1_canEncode 12 = .ok (.goto 4, 3) := dk_167 0 4 (dk_at dksJ1_canEncode_0 12 rfl rfl)
theorem dJ1_canEncode_15 : decode cJ1_canEncode 15 = .ok (.iconst 0, 1) := dk_3 (dk_at dksJ1_canEncode_0 15 rfl rfl)
theorem dJ1_canEncode_16 : decode cJ1_canEncode 16 = .ok (.ireturn, 1) := dk_172 (dk_at dksJ1_canEncode_0 16 rfl rfl)
abbrev cJ1_indexOfChar : ByteArray := prog_25_method_23_code
def yJ1_indexOfChar : MethodName := ⟨RJ1, "indexOfChar", "([BIII)I"⟩
def dkwJ1_indexOfChar_1 : List UInt8 := [172, 132, 5, 1, 167, 255, 235, 2, 172]
abbrev dktJ1_indexOfChar_1 : List UInt8 := dkwJ1_indexOfChar_1 ++ []
def dkwJ1_indexOfChar_0 : List UInt8 := [27, 145, 54, 4, 28, 54, 5, 21, 5, 29, 162, 0, 21, 42, 21, 5, 51, 21, 4, 160, 0, 6, 21, 5]
abbrev dktJ1_indexOfChar_0 : List UInt8 := dkwJ1_indexOfChar_0 ++ dktJ1_indexOfChar_1
theorem dksJ1_indexOfChar_0 : cJ1_indexOfChar.data.toList.drop 0 = dktJ1_indexOfChar_0 := by decide +kernel
theorem dksJ1_indexOfChar_1 : cJ1_indexOfChar.data.toList.drop 24 = dktJ1_indexOfChar_1 := dk_seg dksJ1_indexOfChar_0 24 rfl rfl
theorem dJ1_indexOfChar_0 : decode cJ1_indexOfChar 0 = .ok (.iload_n 1, 1) := dk_27 (dk_at dksJ1_indexOfChar_0 0 rfl rfl)
theorem dJ1_indexOfChar_1 : decode cJ1_indexOfChar 1 = .ok (.i2b, 1) := dk_145 (dk_at dksJ1_indexOfChar_0 1 rfl rfl)
theorem dJ1_indexOfChar_2 : decode cJ1_indexOfChar 2 = .ok (.istore 4, 2) := dk_54 4 (dk_at dksJ1_indexOfChar_0 2 rfl rfl)
theorem dJ1_indexOfChar_4 : decode cJ1_indexOfChar 4 = .ok (.iload_n 2, 1) := dk_28 (dk_at dksJ1_indexOfChar_0 4 rfl rfl)
theorem dJ1_indexOfChar_5 : decode cJ1_indexOfChar 5 = .ok (.istore 5, 2) := dk_54 5 (dk_at dksJ1_indexOfChar_0 5 rfl rfl)
theorem dJ1_indexOfChar_7 : decode cJ1_indexOfChar 7 = .ok (.iload 5, 2) := dk_21 5 (dk_at dksJ1_indexOfChar_0 7 rfl rfl)
theorem dJ1_indexOfChar_9 : decode cJ1_indexOfChar 9 = .ok (.iload_n 3, 1) := dk_29 (dk_at dksJ1_indexOfChar_0 9 rfl rfl)
theorem dJ1_indexOfChar_10 : decode cJ1_indexOfChar 10 = .ok (.if_icmp .ge 21, 3) := dk_162 0 21 (dk_at dksJ1_indexOfChar_0 10 rfl rfl)
theorem dJ1_indexOfChar_13 : decode cJ1_indexOfChar 13 = .ok (.aload_n 0, 1) := dk_42 (dk_at dksJ1_indexOfChar_0 13 rfl rfl)
theorem dJ1_indexOfChar_14 : decode cJ1_indexOfChar 14 = .ok (.iload 5, 2) := dk_21 5 (dk_at dksJ1_indexOfChar_0 14 rfl rfl)
theorem dJ1_indexOfChar_16 : decode cJ1_indexOfChar 16 = .ok (.baload, 1) := dk_51 (dk_at dksJ1_indexOfChar_0 16 rfl rfl)
theorem dJ1_indexOfChar_17 : decode cJ1_indexOfChar 17 = .ok (.iload 4, 2) := dk_21 4 (dk_at dksJ1_indexOfChar_0 17 rfl rfl)
theorem dJ1_indexOfChar_19 : decode cJ1_indexOfChar 19 = .ok (.if_icmp .ne 6, 3) := dk_160 0 6 (dk_at dksJ1_indexOfChar_0 19 rfl rfl)
theorem dJ1_indexOfChar_22 : decode cJ1_indexOfChar 22 = .ok (.iload 5, 2) := dk_21 5 (dk_at dksJ1_indexOfChar_0 22 rfl rfl)
theorem dJ1_indexOfChar_24 : decode cJ1_indexOfChar 24 = .ok (.ireturn, 1) := dk_172 (dk_at dksJ1_indexOfChar_1 0 rfl rfl)
theorem dJ1_indexOfChar_25 : decode cJ1_indexOfChar 25 = .ok (.iinc 5 1, 3) := dk_132 5 1 (dk_at dksJ1_indexOfChar_1 1 rfl rfl)
theorem dJ1_indexOfChar_28 : decode cJ1_indexOfChar 28 = .ok (.goto (-21), 3) := dk_167 255 235 (dk_at dksJ1_indexOfChar_1 4 rfl rfl)
theorem dJ1_indexOfChar_31 : decode cJ1_indexOfChar 31 = .ok (.iconst (-1), 1) := dk_2 (dk_at dksJ1_indexOfChar_1 7 rfl rfl)
theorem dJ1_indexOfChar_32 : decode cJ1_indexOfChar 32 = .ok (.ireturn, 1) := dk_172 (dk_at dksJ1_indexOfChar_1 8 rfl rfl)
theorem q112 : (Jvm.Cond.initialized "java/lang/StringLatin1") ∈ lw_all := lw_g (lw_at lw_m1 11 rfl) rfl
theorem q508 : (Jvm.Cond.static ({ cls := "java/lang/StringLatin1", name := "indexOf", desc := "([BIII)I" } : Jvm.MethodName)) ∈ lw_all := lw_g (lw_at lw_m2 167 rfl) rfl
theorem q509 : (Jvm.Cond.code ({ cls := "java/lang/StringLatin1", name := "indexOf", desc := "([BIII)I" } : Jvm.MethodName) prog_25_method_22_code (4 : Nat) (Option.some Jvm.ClassFile.FieldType.int)) ∈ lw_all := lw_g (lw_at lw_m2 168 rfl) rfl
theorem q510 : (Jvm.Cond.methodLink "java/lang/StringLatin1" (88 : Nat) ({ cls := "java/lang/StringLatin1", name := "canEncode", desc := "(I)Z" } : Jvm.MethodName)) ∈ lw_all := lw_g (lw_at lw_m2 169 rfl) rfl
theorem q511 : (Jvm.Cond.static ({ cls := "java/lang/StringLatin1", name := "canEncode", desc := "(I)Z" } : Jvm.MethodName)) ∈ lw_all := lw_g (lw_at lw_m2 170 rfl) rfl
theorem q512 : (Jvm.Cond.code ({ cls := "java/lang/StringLatin1", name := "canEncode", desc := "(I)Z" } : Jvm.MethodName) prog_25_method_4_code (1 : Nat) (Option.some Jvm.ClassFile.FieldType.boolean)) ∈ lw_all := lw_g (lw_at lw_m2 171 rfl) rfl
theorem q513 : (Jvm.Cond.methodLink "java/lang/StringLatin1" (92 : Nat) ({ cls := "java/lang/Math", name := "max", desc := "(II)I" } : Jvm.MethodName)) ∈ lw_all := lw_g (lw_at lw_m2 172 rfl) rfl
theorem q516 : (Jvm.Cond.methodLink "java/lang/StringLatin1" (38 : Nat) ({ cls := "java/lang/Math", name := "min", desc := "(II)I" } : Jvm.MethodName)) ∈ lw_all := lw_g (lw_at lw_m2 175 rfl) rfl
theorem q519 : (Jvm.Cond.methodLink "java/lang/StringLatin1" (95 : Nat) ({ cls := "java/lang/StringLatin1", name := "indexOfChar", desc := "([BIII)I" } : Jvm.MethodName)) ∈ lw_all := lw_g (lw_at lw_m2 178 rfl) rfl
theorem q520 : (Jvm.Cond.static ({ cls := "java/lang/StringLatin1", name := "indexOfChar", desc := "([BIII)I" } : Jvm.MethodName)) ∈ lw_all := lw_g (lw_at lw_m2 179 rfl) rfl
theorem q521 : (Jvm.Cond.code ({ cls := "java/lang/StringLatin1", name := "indexOfChar", desc := "([BIII)I" } : Jvm.MethodName) prog_25_method_23_code (6 : Nat) (Option.some Jvm.ClassFile.FieldType.int)) ∈ lw_all := lw_g (lw_at lw_m2 180 rfl) rfl
/-! java/lang/Math -/
set_option maxRecDepth 100000
def RJ2 : String := "java/lang/Math"
abbrev cJ2_max : ByteArray := prog_23_method_65_code
def yJ2_max : MethodName := ⟨RJ2, "max", "(II)I"⟩
def dkwJ2_max_0 : List UInt8 := [26, 27, 161, 0, 7, 26, 167, 0, 4, 27, 172]
abbrev dktJ2_max_0 : List UInt8 := dkwJ2_max_0 ++ []
theorem dksJ2_max_0 : cJ2_max.data.toList.drop 0 = dktJ2_max_0 := by decide +kernel
theorem dJ2_max_0 : decode cJ2_max 0 = .ok (.iload_n 0, 1) := dk_26 (dk_at dksJ2_max_0 0 rfl rfl)
theorem dJ2_max_1 : decode cJ2_max 1 = .ok (.iload_n 1, 1) := dk_27 (dk_at dksJ2_max_0 1 rfl rfl)
theorem dJ2_max_2 : decode cJ2_max 2 = .ok (.if_icmp .lt 7, 3) := dk_161 0 7 (dk_at dksJ2_max_0 2 rfl rfl)
theorem dJ2_max_5 : decode cJ2_max 5 = .ok (.iload_n 0, 1) := dk_26 (dk_at dksJ2_max_0 5 rfl rfl)
theorem dJ2_max_6 : decode cJ2_max 6 = .ok (.goto 4, 3) := dk_167 0 4 (dk_at dksJ2_max_0 6 rfl rfl)
theorem dJ2_max_9 : decode cJ2_max 9 = .ok (.iload_n 1, 1) := dk_27 (dk_at dksJ2_max_0 9 rfl rfl)
theorem dJ2_max_10 : decode cJ2_max 10 = .ok (.ireturn, 1) := dk_172 (dk_at dksJ2_max_0 10 rfl rfl)
abbrev cJ2_min : ByteArray := prog_23_method_69_code
def yJ2_min : MethodName := ⟨RJ2, "min", "(II)I"⟩
def dkwJ2_min_0 : List UInt8 := [26, 27, 163, 0, 7, 26, 167, 0, 4, 27, 172]
abbrev dktJ2_min_0 : List UInt8 := dkwJ2_min_0 ++ []
theorem dksJ2_min_0 : cJ2_min.data.toList.drop 0 = dktJ2_min_0 := by decide +kernel
theorem dJ2_min_0 : decode cJ2_min 0 = .ok (.iload_n 0, 1) := dk_26 (dk_at dksJ2_min_0 0 rfl rfl)
theorem dJ2_min_1 : decode cJ2_min 1 = .ok (.iload_n 1, 1) := dk_27 (dk_at dksJ2_min_0 1 rfl rfl)
theorem dJ2_min_2 : decode cJ2_min 2 = .ok (.if_icmp .gt 7, 3) := dk_163 0 7 (dk_at dksJ2_min_0 2 rfl rfl)
theorem dJ2_min_5 : decode cJ2_min 5 = .ok (.iload_n 0, 1) := dk_26 (dk_at dksJ2_min_0 5 rfl rfl)
theorem dJ2_min_6 : decode cJ2_min 6 = .ok (.goto 4, 3) := dk_167 0 4 (dk_at dksJ2_min_0 6 rfl rfl)
theorem dJ2_min_9 : decode cJ2_min 9 = .ok (.iload_n 1, 1) := dk_27 (dk_at dksJ2_min_0 9 rfl rfl)
theorem dJ2_min_10 : decode cJ2_min 10 = .ok (.ireturn, 1) := dk_172 (dk_at dksJ2_min_0 10 rfl rfl)
theorem q113 : (Jvm.Cond.initialized "java/lang/Math") ∈ lw_all := lw_g (lw_at lw_m1 12 rfl) rfl
theorem q514 : (Jvm.Cond.static ({ cls := "java/lang/Math", name := "max", desc := "(II)I" } : Jvm.MethodName)) ∈ lw_all := lw_g (lw_at lw_m2 173 rfl) rfl
theorem q515 : (Jvm.Cond.code ({ cls := "java/lang/Math", name := "max", desc := "(II)I" } : Jvm.MethodName) prog_23_method_65_code (2 : Nat) (Option.some Jvm.ClassFile.FieldType.int)) ∈ lw_all := lw_g (lw_at lw_m2 174 rfl) rfl
theorem q517 : (Jvm.Cond.static ({ cls := "java/lang/Math", name := "min", desc := "(II)I" } : Jvm.MethodName)) ∈ lw_all := lw_g (lw_at lw_m2 176 rfl) rfl
theorem q518 : (Jvm.Cond.code ({ cls := "java/lang/Math", name := "min", desc := "(II)I" } : Jvm.MethodName) prog_23_method_69_code (2 : Nat) (Option.some Jvm.ClassFile.FieldType.int)) ∈ lw_all := lw_g (lw_at lw_m2 177 rfl) rfl
/-! java/lang/StringUTF16 -/
set_option maxRecDepth 100000
def RJ3 : String := "java/lang/StringUTF16"
abbrev cJ3_indexOf : ByteArray := prog_26_method_40_code
def yJ3_indexOf : MethodName := ⟨RJ3, "indexOf", "([BIII)I"⟩
def dkwJ3_indexOf_1 : List UInt8 := [18, 227, 162, 0, 11, 42, 27, 28, 29, 184, 0, 228, 172, 42, 27, 28, 29, 184, 0, 232, 172]
abbrev dktJ3_indexOf_1 : List UInt8 := dkwJ3_indexOf_1 ++ []
def dkwJ3_indexOf_0 : List UInt8 := [28, 3, 184, 0, 224, 61, 29, 42, 190, 4, 122, 184, 0, 183, 62, 28, 29, 161, 0, 5, 2, 172, 27]
abbrev dktJ3_indexOf_0 : List UInt8 := dkwJ3_indexOf_0 ++ dktJ3_indexOf_1
theorem dksJ3_indexOf_0 : cJ3_indexOf.data.toList.drop 0 = dktJ3_indexOf_0 := by decide +kernel
theorem dksJ3_indexOf_1 : cJ3_indexOf.data.toList.drop 23 = dktJ3_indexOf_1 := dk_seg dksJ3_indexOf_0 23 rfl rfl
theorem dJ3_indexOf_0 : decode cJ3_indexOf 0 = .ok (.iload_n 2, 1) := dk_28 (dk_at dksJ3_indexOf_0 0 rfl rfl)
theorem dJ3_indexOf_1 : decode cJ3_indexOf 1 = .ok (.iconst 0, 1) := dk_3 (dk_at dksJ3_indexOf_0 1 rfl rfl)
theorem dJ3_indexOf_2 : decode cJ3_indexOf 2 = .ok (.invokestatic 224, 3) := dk_184 0 224 (dk_at dksJ3_indexOf_0 2 rfl rfl)
theorem dJ3_indexOf_5 : decode cJ3_indexOf 5 = .ok (.istore_n 2, 1) := dk_61 (dk_at dksJ3_indexOf_0 5 rfl rfl)
theorem dJ3_indexOf_6 : decode cJ3_indexOf 6 = .ok (.iload_n 3, 1) := dk_29 (dk_at dksJ3_indexOf_0 6 rfl rfl)
theorem dJ3_indexOf_7 : decode cJ3_indexOf 7 = .ok (.aload_n 0, 1) := dk_42 (dk_at dksJ3_indexOf_0 7 rfl rfl)
theorem dJ3_indexOf_8 : decode cJ3_indexOf 8 = .ok (.arraylength, 1) := dk_190 (dk_at dksJ3_indexOf_0 8 rfl rfl)
theorem dJ3_indexOf_9 : decode cJ3_indexOf 9 = .ok (.iconst 1, 1) := dk_4 (dk_at dksJ3_indexOf_0 9 rfl rfl)
theorem dJ3_indexOf_10 : decode cJ3_indexOf 10 = .ok (.ishr, 1) := dk_122 (dk_at dksJ3_indexOf_0 10 rfl rfl)
theorem dJ3_indexOf_11 : decode cJ3_indexOf 11 = .ok (.invokestatic 183, 3) := dk_184 0 183 (dk_at dksJ3_indexOf_0 11 rfl rfl)
theorem dJ3_indexOf_14 : decode cJ3_indexOf 14 = .ok (.istore_n 3, 1) := dk_62 (dk_at dksJ3_indexOf_0 14 rfl rfl)
theorem dJ3_indexOf_15 : decode cJ3_indexOf 15 = .ok (.iload_n 2, 1) := dk_28 (dk_at dksJ3_indexOf_0 15 rfl rfl)
theorem dJ3_indexOf_16 : decode cJ3_indexOf 16 = .ok (.iload_n 3, 1) := dk_29 (dk_at dksJ3_indexOf_0 16 rfl rfl)
theorem dJ3_indexOf_17 : decode cJ3_indexOf 17 = .ok (.if_icmp .lt 5, 3) := dk_161 0 5 (dk_at dksJ3_indexOf_0 17 rfl rfl)
theorem dJ3_indexOf_20 : decode cJ3_indexOf 20 = .ok (.iconst (-1), 1) := dk_2 (dk_at dksJ3_indexOf_0 20 rfl rfl)
theorem dJ3_indexOf_21 : decode cJ3_indexOf 21 = .ok (.ireturn, 1) := dk_172 (dk_at dksJ3_indexOf_0 21 rfl rfl)
theorem dJ3_indexOf_22 : decode cJ3_indexOf 22 = .ok (.iload_n 1, 1) := dk_27 (dk_at dksJ3_indexOf_0 22 rfl rfl)
theorem dJ3_indexOf_23 : decode cJ3_indexOf 23 = .ok (.ldc 227, 2) := dk_18 227 (dk_at dksJ3_indexOf_1 0 rfl rfl)
theorem dJ3_indexOf_25 : decode cJ3_indexOf 25 = .ok (.if_icmp .ge 11, 3) := dk_162 0 11 (dk_at dksJ3_indexOf_1 2 rfl rfl)
theorem dJ3_indexOf_28 : decode cJ3_indexOf 28 = .ok (.aload_n 0, 1) := dk_42 (dk_at dksJ3_indexOf_1 5 rfl rfl)
theorem dJ3_indexOf_29 : decode cJ3_indexOf 29 = .ok (.iload_n 1, 1) := dk_27 (dk_at dksJ3_indexOf_1 6 rfl rfl)
theorem dJ3_indexOf_30 : decode cJ3_indexOf 30 = .ok (.iload_n 2, 1) := dk_28 (dk_at dksJ3_indexOf_1 7 rfl rfl)
theorem dJ3_indexOf_31 : decode cJ3_indexOf 31 = .ok (.iload_n 3, 1) := dk_29 (dk_at dksJ3_indexOf_1 8 rfl rfl)
theorem dJ3_indexOf_32 : decode cJ3_indexOf 32 = .ok (.invokestatic 228, 3) := dk_184 0 228 (dk_at dksJ3_indexOf_1 9 rfl rfl)
theorem dJ3_indexOf_35 : decode cJ3_indexOf 35 = .ok (.ireturn, 1) := dk_172 (dk_at dksJ3_indexOf_1 12 rfl rfl)
theorem dJ3_indexOf_36 : decode cJ3_indexOf 36 = .ok (.aload_n 0, 1) := dk_42 (dk_at dksJ3_indexOf_1 13 rfl rfl)
theorem dJ3_indexOf_37 : decode cJ3_indexOf 37 = .ok (.iload_n 1, 1) := dk_27 (dk_at dksJ3_indexOf_1 14 rfl rfl)
theorem dJ3_indexOf_38 : decode cJ3_indexOf 38 = .ok (.iload_n 2, 1) := dk_28 (dk_at dksJ3_indexOf_1 15 rfl rfl)
theorem dJ3_indexOf_39 : decode cJ3_indexOf 39 = .ok (.iload_n 3, 1) := dk_29 (dk_at dksJ3_indexOf_1 16 rfl rfl)
theorem dJ3_indexOf_40 : decode cJ3_indexOf 40 = .ok (.invokestatic 232, 3) := dk_184 0 232 (dk_at dksJ3_indexOf_1 17 rfl rfl)
theorem dJ3_indexOf_43 : decode cJ3_indexOf 43 = .ok (.ireturn, 1) := dk_172 (dk_at dksJ3_indexOf_1 20 rfl rfl)
abbrev cJ3_indexOfChar : ByteArray := prog_26_method_47_code
def yJ3_indexOfChar : MethodName := ⟨RJ3, "indexOfChar", "([BIII)I"⟩
def dkwJ3_indexOfChar_0 : List UInt8 := [28, 29, 42, 184, 0, 96, 42, 27, 28, 29, 184, 0, 244, 172]
abbrev dktJ3_indexOfChar_0 : List UInt8 := dkwJ3_indexOfChar_0 ++ []
theorem dksJ3_indexOfChar_0 : cJ3_indexOfChar.data.toList.drop 0 = dktJ3_indexOfChar_0 := by decide +kernel
theorem dJ3_indexOfChar_0 : decode cJ3_indexOfChar 0 = .ok (.iload_n 2, 1) := dk_28 (dk_at dksJ3_indexOfChar_0 0 rfl rfl)
theorem dJ3_indexOfChar_1 : decode cJ3_indexOfChar 1 = .ok (.iload_n 3, 1) := dk_29 (dk_at dksJ3_indexOfChar_0 1 rfl rfl)
theorem dJ3_indexOfChar_2 : decode cJ3_indexOfChar 2 = .ok (.aload_n 0, 1) := dk_42 (dk_at dksJ3_indexOfChar_0 2 rfl rfl)
theorem dJ3_indexOfChar_3 : decode cJ3_indexOfChar 3 = .ok (.invokestatic 96, 3) := dk_184 0 96 (dk_at dksJ3_indexOfChar_0 3 rfl rfl)
theorem dJ3_indexOfChar_6 : decode cJ3_indexOfChar 6 = .ok (.aload_n 0, 1) := dk_42 (dk_at dksJ3_indexOfChar_0 6 rfl rfl)
theorem dJ3_indexOfChar_7 : decode cJ3_indexOfChar 7 = .ok (.iload_n 1, 1) := dk_27 (dk_at dksJ3_indexOfChar_0 7 rfl rfl)
theorem dJ3_indexOfChar_8 : decode cJ3_indexOfChar 8 = .ok (.iload_n 2, 1) := dk_28 (dk_at dksJ3_indexOfChar_0 8 rfl rfl)
theorem dJ3_indexOfChar_9 : decode cJ3_indexOfChar 9 = .ok (.iload_n 3, 1) := dk_29 (dk_at dksJ3_indexOfChar_0 9 rfl rfl)
theorem dJ3_indexOfChar_10 : decode cJ3_indexOfChar 10 = .ok (.invokestatic 244, 3) := dk_184 0 244 (dk_at dksJ3_indexOfChar_0 10 rfl rfl)
theorem dJ3_indexOfChar_13 : decode cJ3_indexOfChar 13 = .ok (.ireturn, 1) := dk_172 (dk_at dksJ3_indexOfChar_0 13 rfl rfl)
abbrev cJ3_checkBoundsBeginEnd : ByteArray := prog_26_method_93_code
def yJ3_checkBoundsBeginEnd : MethodName := ⟨RJ3, "checkBoundsBeginEnd", "(II[B)V"⟩
def dkwJ3_checkBoundsBeginEnd_0 : List UInt8 := [26, 27, 44, 184, 0, 48, 184, 0, 241, 177]
abbrev dktJ3_checkBoundsBeginEnd_0 : List UInt8 := dkwJ3_checkBoundsBeginEnd_0 ++ []
theorem dksJ3_checkBoundsBeginEnd_0 : cJ3_checkBoundsBeginEnd.data.toList.drop 0 = dktJ3_checkBoundsBeginEnd_0 := by decide +kernel
theorem dJ3_checkBoundsBeginEnd_0 : decode cJ3_checkBoundsBeginEnd 0 = .ok (.iload_n 0, 1) := dk_26 (dk_at dksJ3_checkBoundsBeginEnd_0 0 rfl rfl)
theorem dJ3_checkBoundsBeginEnd_1 : decode cJ3_checkBoundsBeginEnd 1 = .ok (.iload_n 1, 1) := dk_27 (dk_at dksJ3_checkBoundsBeginEnd_0 1 rfl rfl)
theorem dJ3_checkBoundsBeginEnd_2 : decode cJ3_checkBoundsBeginEnd 2 = .ok (.aload_n 2, 1) := dk_44 (dk_at dksJ3_checkBoundsBeginEnd_0 2 rfl rfl)
theorem dJ3_checkBoundsBeginEnd_3 : decode cJ3_checkBoundsBeginEnd 3 = .ok (.invokestatic 48, 3) := dk_184 0 48 (dk_at dksJ3_checkBoundsBeginEnd_0 3 rfl rfl)
theorem dJ3_checkBoundsBeginEnd_6 : decode cJ3_checkBoundsBeginEnd 6 = .ok (.invokestatic 241, 3) := dk_184 0 241 (dk_at dksJ3_checkBoundsBeginEnd_0 6 rfl rfl)
theorem dJ3_checkBoundsBeginEnd_9 : decode cJ3_checkBoundsBeginEnd 9 = .ok (.return_, 1) := dk_177 (dk_at dksJ3_checkBoundsBeginEnd_0 9 rfl rfl)
abbrev cJ3_length : ByteArray := prog_26_method_6_code
def yJ3_length : MethodName := ⟨RJ3, "length", "([B)I"⟩
def dkwJ3_length_0 : List UInt8 := [42, 190, 4, 122, 172]
abbrev dktJ3_length_0 : List UInt8 := dkwJ3_length_0 ++ []
theorem dksJ3_length_0 : cJ3_length.data.toList.drop 0 = dktJ3_length_0 := by decide +kernel
theorem dJ3_length_0 : decode cJ3_length 0 = .ok (.aload_n 0, 1) := dk_42 (dk_at dksJ3_length_0 0 rfl rfl)
theorem dJ3_length_1 : decode cJ3_length 1 = .ok (.arraylength, 1) := dk_190 (dk_at dksJ3_length_0 1 rfl rfl)
theorem dJ3_length_2 : decode cJ3_length 2 = .ok (.iconst 1, 1) := dk_4 (dk_at dksJ3_length_0 2 rfl rfl)
theorem dJ3_length_3 : decode cJ3_length 3 = .ok (.ishr, 1) := dk_122 (dk_at dksJ3_length_0 3 rfl rfl)
theorem dJ3_length_4 : decode cJ3_length 4 = .ok (.ireturn, 1) := dk_172 (dk_at dksJ3_length_0 4 rfl rfl)
abbrev cJ3_indexOfCharUnsafe : ByteArray := prog_26_method_48_code
def yJ3_indexOfCharUnsafe : MethodName := ⟨RJ3, "indexOfCharUnsafe", "([BIII)I"⟩
def dkwJ3_indexOfCharUnsafe_1 : List UInt8 := [132, 4, 1, 167, 255, 234, 2, 172]
abbrev dktJ3_indexOfCharUnsafe_1 : List UInt8 := dkwJ3_indexOfCharUnsafe_1 ++ []
def dkwJ3_indexOfCharUnsafe_0 : List UInt8 := [28, 54, 4, 21, 4, 29, 162, 0, 22, 42, 21, 4, 184, 0, 71, 27, 160, 0, 6, 21, 4, 172]
abbrev dktJ3_indexOfCharUnsafe_0 : List UInt8 := dkwJ3_indexOfCharUnsafe_0 ++ dktJ3_indexOfCharUnsafe_1
theorem dksJ3_indexOfCharUnsafe_0 : cJ3_indexOfCharUnsafe.data.toList.drop 0 = dktJ3_indexOfCharUnsafe_0 := by decide +kernel
theorem dksJ3_indexOfCharUnsafe_1 : cJ3_indexOfCharUnsafe.data.toList.drop 22 = dktJ3_indexOfCharUnsafe_1 := dk_seg dksJ3_indexOfCharUnsafe_0 22 rfl rfl
theorem dJ3_indexOfCharUnsafe_0 : decode cJ3_indexOfCharUnsafe 0 = .ok (.iload_n 2, 1) := dk_28 (dk_at dksJ3_indexOfCharUnsafe_0 0 rfl rfl)
theorem dJ3_indexOfCharUnsafe_1 : decode cJ3_indexOfCharUnsafe 1 = .ok (.istore 4, 2) := dk_54 4 (dk_at dksJ3_indexOfCharUnsafe_0 1 rfl rfl)
theorem dJ3_indexOfCharUnsafe_3 : decode cJ3_indexOfCharUnsafe 3 = .ok (.iload 4, 2) := dk_21 4 (dk_at dksJ3_indexOfCharUnsafe_0 3 rfl rfl)
theorem dJ3_indexOfCharUnsafe_5 : decode cJ3_indexOfCharUnsafe 5 = .ok (.iload_n 3, 1) := dk_29 (dk_at dksJ3_indexOfCharUnsafe_0 5 rfl rfl)
theorem dJ3_indexOfCharUnsafe_6 : decode cJ3_indexOfCharUnsafe 6 = .ok (.if_icmp .ge 22, 3) := dk_162 0 22 (dk_at dksJ3_indexOfCharUnsafe_0 6 rfl rfl)
theorem dJ3_indexOfCharUnsafe_9 : decode cJ3_indexOfCharUnsafe 9 = .ok (.aload_n 0, 1) := dk_42 (dk_at dksJ3_indexOfCharUnsafe_0 9 rfl rfl)
theorem dJ3_indexOfCharUnsafe_10 : decode cJ3_indexOfCharUnsafe 10 = .ok (.iload 4, 2) := dk_21 4 (dk_at dksJ3_indexOfCharUnsafe_0 10 rfl rfl)
theorem dJ3_indexOfCharUnsafe_12 : decode cJ3_indexOfCharUnsafe 12 = .ok (.invokestatic 71, 3) := dk_184 0 71 (dk_at dksJ3_indexOfCharUnsafe_0 12 rfl rfl)
theorem dJ3_indexOfCharUnsafe_15 : decode cJ3_indexOfCharUnsafe 15 = .ok (.iload_n 1, 1) := dk_27 (dk_at dksJ3_indexOfCharUnsafe_0 15 rfl rfl)
theorem dJ3_indexOfCharUnsafe_16 : decode cJ3_indexOfCharUnsafe 16 = .ok (.if_icmp .ne 6, 3) := dk_160 0 6 (dk_at dksJ3_indexOfCharUnsafe_0 16 rfl rfl)
theorem dJ3_indexOfCharUnsafe_19 : decode cJ3_indexOfCharUnsafe 19 = .ok (.iload 4, 2) := dk_21 4 (dk_at dksJ3_indexOfCharUnsafe_0 19 rfl rfl)
theorem dJ3_indexOfCharUnsafe_21 : decode cJ3_indexOfCharUnsafe 21 = .ok (.ireturn, 1) := dk_172 (dk_at dksJ3_indexOfCharUnsafe_0 21 rfl rfl)
theorem dJ3_indexOfCharUnsafe_22 : decode cJ3_indexOfCharUnsafe 22 = .ok (.iinc 4 1, 3) := dk_132 4 1 (dk_at dksJ3_indexOfCharUnsafe_1 0 rfl rfl)
theorem dJ3_indexOfCharUnsafe_25 : decode cJ3_indexOfCharUnsafe 25 = .ok (.goto (-22), 3) := dk_167 255 234 (dk_at dksJ3_indexOfCharUnsafe_1 3 rfl rfl)
theorem dJ3_indexOfCharUnsafe_28 : decode cJ3_indexOfCharUnsafe 28 = .ok (.iconst (-1), 1) := dk_2 (dk_at dksJ3_indexOfCharUnsafe_1 6 rfl rfl)
theorem dJ3_indexOfCharUnsafe_29 : decode cJ3_indexOfCharUnsafe 29 = .ok (.ireturn, 1) := dk_172 (dk_at dksJ3_indexOfCharUnsafe_1 7 rfl rfl)
abbrev cJ3_getChar : ByteArray := prog_26_method_5_code
def yJ3_getChar : MethodName := ⟨RJ3, "getChar", "([BI)C"⟩
def dkwJ3_getChar_2 : List UInt8 := [51, 17, 0, 255, 126, 178, 0, 63, 120, 128, 146, 172]
abbrev dktJ3_getChar_2 : List UInt8 := dkwJ3_getChar_2 ++ []
def dkwJ3_getChar_1 : List UInt8 := [183, 0, 56, 191, 27, 4, 120, 60, 42, 27, 132, 1, 1, 51, 17, 0, 255, 126, 178, 0, 59, 120, 42, 27]
abbrev dktJ3_getChar_1 : List UInt8 := dkwJ3_getChar_1 ++ dktJ3_getChar_2
def dkwJ3_getChar_0 : List UInt8 := [178, 0, 44, 154, 0, 25, 27, 155, 0, 11, 27, 42, 184, 0, 48, 161, 0, 13, 187, 0, 52, 89, 18, 54]
abbrev dktJ3_getChar_0 : List UInt8 := dkwJ3_getChar_0 ++ dktJ3_getChar_1
theorem dksJ3_getChar_0 : cJ3_getChar.data.toList.drop 0 = dktJ3_getChar_0 := by decide +kernel
theorem dksJ3_getChar_1 : cJ3_getChar.data.toList.drop 24 = dktJ3_getChar_1 := dk_seg dksJ3_getChar_0 24 rfl rfl
theorem dksJ3_getChar_2 : cJ3_getChar.data.toList.drop 48 = dktJ3_getChar_2 := dk_seg dksJ3_getChar_1 24 rfl rfl
theorem dJ3_getChar_0 : decode cJ3_getChar 0 = .ok (.getstatic 44, 3) := dk_178 0 44 (dk_at dksJ3_getChar_0 0 rfl rfl)
theorem dJ3_getChar_3 : decode cJ3_getChar 3 = .ok (.ifCond .ne 25, 3) := dk_154 0 25 (dk_at dksJ3_getChar_0 3 rfl rfl)
theorem dJ3_getChar_6 : decode cJ3_getChar 6 = .ok (.iload_n 1, 1) := dk_27 (dk_at dksJ3_getChar_0 6 rfl rfl)
theorem dJ3_getChar_7 : decode cJ3_getChar 7 = .ok (.ifCond .lt 11, 3) := dk_155 0 11 (dk_at dksJ3_getChar_0 7 rfl rfl)
theorem dJ3_getChar_10 : decode cJ3_getChar 10 = .ok (.iload_n 1, 1) := dk_27 (dk_at dksJ3_getChar_0 10 rfl rfl)
theorem dJ3_getChar_11 : decode cJ3_getChar 11 = .ok (.aload_n 0, 1) := dk_42 (dk_at dksJ3_getChar_0 11 rfl rfl)
theorem dJ3_getChar_12 : decode cJ3_getChar 12 = .ok (.invokestatic 48, 3) := dk_184 0 48 (dk_at dksJ3_getChar_0 12 rfl rfl)
theorem dJ3_getChar_15 : decode cJ3_getChar 15 = .ok (.if_icmp .lt 13, 3) := dk_161 0 13 (dk_at dksJ3_getChar_0 15 rfl rfl)
theorem dJ3_getChar_18 : decode cJ3_getChar 18 = .ok (.new 52, 3) := dk_187 0 52 (dk_at dksJ3_getChar_0 18 rfl rfl)
theorem dJ3_getChar_21 : decode cJ3_getChar 21 = .ok (.dup, 1) := dk_89 (dk_at dksJ3_getChar_0 21 rfl rfl)
theorem dJ3_getChar_22 : decode cJ3_getChar 22 = .ok (.ldc 54, 2) := dk_18 54 (dk_at dksJ3_getChar_0 22 rfl rfl)
theorem dJ3_getChar_24 : decode cJ3_getChar 24 = .ok (.invokespecial 56, 3) := dk_183 0 56 (dk_at dksJ3_getChar_1 0 rfl rfl)
theorem dJ3_getChar_27 : decode cJ3_getChar 27 = .ok (.athrow, 1) := dk_191 (dk_at dksJ3_getChar_1 3 rfl rfl)
theorem dJ3_getChar_28 : decode cJ3_getChar 28 = .ok (.iload_n 1, 1) := dk_27 (dk_at dksJ3_getChar_1 4 rfl rfl)
theorem dJ3_getChar_29 : decode cJ3_getChar 29 = .ok (.iconst 1, 1) := dk_4 (dk_at dksJ3_getChar_1 5 rfl rfl)
theorem dJ3_getChar_30 : decode cJ3_getChar 30 = .ok (.ishl, 1) := dk_120 (dk_at dksJ3_getChar_1 6 rfl rfl)
theorem dJ3_getChar_31 : decode cJ3_getChar 31 = .ok (.istore_n 1, 1) := dk_60 (dk_at dksJ3_getChar_1 7 rfl rfl)
theorem dJ3_getChar_32 : decode cJ3_getChar 32 = .ok (.aload_n 0, 1) := dk_42 (dk_at dksJ3_getChar_1 8 rfl rfl)
theorem dJ3_getChar_33 : decode cJ3_getChar 33 = .ok (.iload_n 1, 1) := dk_27 (dk_at dksJ3_getChar_1 9 rfl rfl)
theorem dJ3_getChar_34 : decode cJ3_getChar 34 = .ok (.iinc 1 1, 3) := dk_132 1 1 (dk_at dksJ3_getChar_1 10 rfl rfl)
theorem dJ3_getChar_37 : decode cJ3_getChar 37 = .ok (.baload, 1) := dk_51 (dk_at dksJ3_getChar_1 13 rfl rfl)
theorem dJ3_getChar_38 : decode cJ3_getChar 38 = .ok (.sipush 255, 3) := dk_17 0 255 (dk_at dksJ3_getChar_1 14 rfl rfl)
theorem dJ3_getChar_41 : decode cJ3_getChar 41 = .ok (.iand, 1) := dk_126 (dk_at dksJ3_getChar_1 17 rfl rfl)
theorem dJ3_getChar_42 : decode cJ3_getChar 42 = .ok (.getstatic 59, 3) := dk_178 0 59 (dk_at dksJ3_getChar_1 18 rfl rfl)
theorem dJ3_getChar_45 : decode cJ3_getChar 45 = .ok (.ishl, 1) := dk_120 (dk_at dksJ3_getChar_1 21 rfl rfl)
theorem dJ3_getChar_46 : decode cJ3_getChar 46 = .ok (.aload_n 0, 1) := dk_42 (dk_at dksJ3_getChar_1 22 rfl rfl)
theorem dJ3_getChar_47 : decode cJ3_getChar 47 = .ok (.iload_n 1, 1) := dk_27 (dk_at dksJ3_getChar_1 23 rfl rfl)
theorem dJ3_getChar_48 : decode cJ3_getChar 48 = .ok (.baload, 1) := dk_51 (dk_at dksJ3_getChar_2 0 rfl rfl)
theorem dJ3_getChar_49 : decode cJ3_getChar 49 = .ok (.sipush 255, 3) := dk_17 0 255 (dk_at dksJ3_getChar_2 1 rfl rfl)
theorem dJ3_getChar_52 : decode cJ3_getChar 52 = .ok (.iand, 1) := dk_126 (dk_at dksJ3_getChar_2 4 rfl rfl)
theorem dJ3_getChar_53 : decode cJ3_getChar 53 = .ok (.getstatic 63, 3) := dk_178 0 63 (dk_at dksJ3_getChar_2 5 rfl rfl)
theorem dJ3_getChar_56 : decode cJ3_getChar 56 = .ok (.ishl, 1) := dk_120 (dk_at dksJ3_getChar_2 8 rfl rfl)
theorem dJ3_getChar_57 : decode cJ3_getChar 57 = .ok (.ior, 1) := dk_128 (dk_at dksJ3_getChar_2 9 rfl rfl)
theorem dJ3_getChar_58 : decode cJ3_getChar 58 = .ok (.i2c, 1) := dk_146 (dk_at dksJ3_getChar_2 10 rfl rfl)
theorem dJ3_getChar_59 : decode cJ3_getChar 59 = .ok (.ireturn, 1) := dk_172 (dk_at dksJ3_getChar_2 11 rfl rfl)
abbrev cJ3_indexOfSupplementary : ByteArray := prog_26_method_49_code
def yJ3_indexOfSupplementary : MethodName := ⟨RJ3, "indexOfSupplementary", "([BIII)I"⟩
def dkwJ3_indexOfSupplementary_3 : List UInt8 := [167, 255, 218, 2, 172]
abbrev dktJ3_indexOfSupplementary_3 : List UInt8 := dkwJ3_indexOfSupplementary_3 ++ []
def dkwJ3_indexOfSupplementary_2 : List UInt8 := [160, 0, 19, 42, 21, 6, 4, 96, 184, 0, 71, 21, 5, 160, 0, 6, 21, 6, 172, 132, 6, 1]
abbrev dktJ3_indexOfSupplementary_2 : List UInt8 := dkwJ3_indexOfSupplementary_2 ++ dktJ3_indexOfSupplementary_3
def dkwJ3_indexOfSupplementary_1 : List UInt8 := [184, 0, 96, 28, 54, 6, 21, 6, 29, 4, 100, 162, 0, 36, 42, 21, 6, 184, 0, 71, 21, 4]
abbrev dktJ3_indexOfSupplementary_1 : List UInt8 := dkwJ3_indexOfSupplementary_1 ++ dktJ3_indexOfSupplementary_2
def dkwJ3_indexOfSupplementary_0 : List UInt8 := [27, 184, 0, 164, 153, 0, 65, 27, 184, 0, 157, 54, 4, 27, 184, 0, 161, 54, 5, 28, 29, 42]
abbrev dktJ3_indexOfSupplementary_0 : List UInt8 := dkwJ3_indexOfSupplementary_0 ++ dktJ3_indexOfSupplementary_1
theorem dksJ3_indexOfSupplementary_0 : cJ3_indexOfSupplementary.data.toList.drop 0 = dktJ3_indexOfSupplementary_0 := by decide +kernel
theorem dksJ3_indexOfSupplementary_1 : cJ3_indexOfSupplementary.data.toList.drop 22 = dktJ3_indexOfSupplementary_1 := dk_seg dksJ3_indexOfSupplementary_0 22 rfl rfl
theorem dksJ3_indexOfSupplementary_2 : cJ3_indexOfSupplementary.data.toList.drop 44 = dktJ3_indexOfSupplementary_2 := dk_seg dksJ3_indexOfSupplementary_1 22 rfl rfl
theorem dksJ3_indexOfSupplementary_3 : cJ3_indexOfSupplementary.data.toList.drop 66 = dktJ3_indexOfSupplementary_3 := dk_seg dksJ3_indexOfSupplementary_2 22 rfl rfl
theorem dJ3_indexOfSupplementary_0 : decode cJ3_indexOfSupplementary 0 = .ok (.iload_n 1, 1) := dk_27 (dk_at dksJ3_indexOfSupplementary_0 0 rfl rfl)
theorem dJ3_indexOfSupplementary_1 : decode cJ3_indexOfSupplementary 1 = .ok (.invokestatic 164, 3) := dk_184 0 164 (dk_at dksJ3_indexOfSupplementary_0 1 rfl rfl)
theorem dJ3_indexOfSupplementary_4 : decode cJ3_indexOfSupplementary 4 = .ok (.ifCond .eq 65, 3) := dk_153 0 65 (dk_at dksJ3_indexOfSupplementary_0 4 rfl rfl)
theorem dJ3_indexOfSupplementary_7 : decode cJ3_indexOfSupplementary 7 = .ok (.iload_n 1, 1) := dk_27 (dk_at dksJ3_indexOfSupplementary_0 7 rfl rfl)
theorem dJ3_indexOfSupplementary_8 : decode cJ3_indexOfSupplementary 8 = .ok (.invokestatic 157, 3) := dk_184 0 157 (dk_at dksJ3_indexOfSupplementary_0 8 rfl rfl)
theorem dJ3_indexOfSupplementary_11 : decode cJ3_indexOfSupplementary 11 = .ok (.istore 4, 2) := dk_54 4 (dk_at dksJ3_indexOfSupplementary_0 11 rfl rfl)
theorem dJ3_indexOfSupplementary_13 : decode cJ3_indexOfSupplementary 13 = .ok (.iload_n 1, 1) := dk_27 (dk_at dksJ3_indexOfSupplementary_0 13 rfl rfl)
theorem dJ3_indexOfSupplementary_14 : decode cJ3_indexOfSupplementary 14 = .ok (.invokestatic 161, 3) := dk_184 0 161 (dk_at dksJ3_indexOfSupplementary_0 14 rfl rfl)
theorem dJ3_indexOfSupplementary_17 : decode cJ3_indexOfSupplementary 17 = .ok (.istore 5, 2) := dk_54 5 (dk_at dksJ3_indexOfSupplementary_0 17 rfl rfl)
theorem dJ3_indexOfSupplementary_19 : decode cJ3_indexOfSupplementary 19 = .ok (.iload_n 2, 1) := dk_28 (dk_at dksJ3_indexOfSupplementary_0 19 rfl rfl)
theorem dJ3_indexOfSupplementary_20 : decode cJ3_indexOfSupplementary 20 = .ok (.iload_n 3, 1) := dk_29 (dk_at dksJ3_indexOfSupplementary_0 20 rfl rfl)
theorem dJ3_indexOfSupplementary_21 : decode cJ3_indexOfSupplementary 21 = .ok (.aload_n 0, 1) := dk_42 (dk_at dksJ3_indexOfSupplementary_0 21 rfl rfl)
theorem dJ3_indexOfSupplementary_22 : decode cJ3_indexOfSupplementary 22 = .ok (.invokestatic 96, 3) := dk_184 0 96 (dk_at dksJ3_indexOfSupplementary_1 0 rfl rfl)
theorem dJ3_indexOfSupplementary_25 : decode cJ3_indexOfSupplementary 25 = .ok (.iload_n 2, 1) := dk_28 (dk_at dksJ3_indexOfSupplementary_1 3 rfl rfl)
theorem dJ3_indexOfSupplementary_26 : decode cJ3_indexOfSupplementary 26 = .ok (.istore 6, 2) := dk_54 6 (dk_at dksJ3_indexOfSupplementary_1 4 rfl rfl)
theorem dJ3_indexOfSupplementary_28 : decode cJ3_indexOfSupplementary 28 = .ok (.iload 6, 2) := dk_21 6 (dk_at dksJ3_indexOfSupplementary_1 6 rfl rfl)
theorem dJ3_indexOfSupplementary_30 : decode cJ3_indexOfSupplementary 30 = .ok (.iload_n 3, 1) := dk_29 (dk_at dksJ3_indexOfSupplementary_1 8 rfl rfl)
theorem dJ3_indexOfSupplementary_31 : decode cJ3_indexOfSupplementary 31 = .ok (.iconst 1, 1) := dk_4 (dk_at dksJ3_indexOfSupplementary_1 9 rfl rfl)
theorem dJ3_indexOfSupplementary_32 : decode cJ3_indexOfSupplementary 32 = .ok (.isub, 1) := dk_100 (dk_at dksJ3_indexOfSupplementary_1 10 rfl rfl)
theorem dJ3_indexOfSupplementary_33 : decode cJ3_indexOfSupplementary 33 = .ok (.if_icmp .ge 36, 3) := dk_162 0 36 (dk_at dksJ3_indexOfSupplementary_1 11 rfl rfl)
theorem dJ3_indexOfSupplementary_36 : decode cJ3_indexOfSupplementary 36 = .ok (.aload_n 0, 1) := dk_42 (dk_at dksJ3_indexOfSupplementary_1 14 rfl rfl)
theorem dJ3_indexOfSupplementary_37 : decode cJ3_indexOfSupplementary 37 = .ok (.iload 6, 2) := dk_21 6 (dk_at dksJ3_indexOfSupplementary_1 15 rfl rfl)
theorem dJ3_indexOfSupplementary_39 : decode cJ3_indexOfSupplementary 39 = .ok (.invokestatic 71, 3) := dk_184 0 71 (dk_at dksJ3_indexOfSupplementary_1 17 rfl rfl)
theorem dJ3_indexOfSupplementary_42 : decode cJ3_indexOfSupplementary 42 = .ok (.iload 4, 2) := dk_21 4 (dk_at dksJ3_indexOfSupplementary_1 20 rfl rfl)
theorem dJ3_indexOfSupplementary_44 : decode cJ3_indexOfSupplementary 44 = .ok (.if_icmp .ne 19, 3) := dk_160 0 19 (dk_at dksJ3_indexOfSupplementary_2 0 rfl rfl)
theorem dJ3_indexOfSupplementary_47 : decode cJ3_indexOfSupplementary 47 = .ok (.aload_n 0, 1) := dk_42 (dk_at dksJ3_indexOfSupplementary_2 3 rfl rfl)
theorem dJ3_indexOfSupplementary_48 : decode cJ3_indexOfSupplementary 48 = .ok (.iload 6, 2) := dk_21 6 (dk_at dksJ3_indexOfSupplementary_2 4 rfl rfl)
theorem dJ3_indexOfSupplementary_50 : decode cJ3_indexOfSupplementary 50 = .ok (.iconst 1, 1) := dk_4 (dk_at dksJ3_indexOfSupplementary_2 6 rfl rfl)
theorem dJ3_indexOfSupplementary_51 : decode cJ3_indexOfSupplementary 51 = .ok (.iadd, 1) := dk_96 (dk_at dksJ3_indexOfSupplementary_2 7 rfl rfl)
theorem dJ3_indexOfSupplementary_52 : decode cJ3_indexOfSupplementary 52 = .ok (.invokestatic 71, 3) := dk_184 0 71 (dk_at dksJ3_indexOfSupplementary_2 8 rfl rfl)
theorem dJ3_indexOfSupplementary_55 : decode cJ3_indexOfSupplementary 55 = .ok (.iload 5, 2) := dk_21 5 (dk_at dksJ3_indexOfSupplementary_2 11 rfl rfl)
theorem dJ3_indexOfSupplementary_57 : decode cJ3_indexOfSupplementary 57 = .ok (.if_icmp .ne 6, 3) := dk_160 0 6 (dk_at dksJ3_indexOfSupplementary_2 13 rfl rfl)
theorem dJ3_indexOfSupplementary_60 : decode cJ3_indexOfSupplementary 60 = .ok (.iload 6, 2) := dk_21 6 (dk_at dksJ3_indexOfSupplementary_2 16 rfl rfl)
theorem dJ3_indexOfSupplementary_62 : decode cJ3_indexOfSupplementary 62 = .ok (.ireturn, 1) := dk_172 (dk_at dksJ3_indexOfSupplementary_2 18 rfl rfl)
theorem dJ3_indexOfSupplementary_63 : decode cJ3_indexOfSupplementary 63 = .ok (.iinc 6 1, 3) := dk_132 6 1 (dk_at dksJ3_indexOfSupplementary_2 19 rfl rfl)
theorem dJ3_indexOfSupplementary_66 : decode cJ3_indexOfSupplementary 66 = .ok (.goto (-38), 3) := dk_167 255 218 (dk_at dksJ3_indexOfSupplementary_3 0 rfl rfl)
theorem dJ3_indexOfSupplementary_69 : decode cJ3_indexOfSupplementary 69 = .ok (.iconst (-1), 1) := dk_2 (dk_at dksJ3_indexOfSupplementary_3 3 rfl rfl)
theorem dJ3_indexOfSupplementary_70 : decode cJ3_indexOfSupplementary 70 = .ok (.ireturn, 1) := dk_172 (dk_at dksJ3_indexOfSupplementary_3 4 rfl rfl)
theorem q114 : (Jvm.Cond.initialized "java/lang/StringUTF16") ∈ lw_all := lw_g (lw_at lw_m1 13 rfl) rfl
theorem q523 : (Jvm.Cond.static ({ cls := "java/lang/StringUTF16", name := "indexOf", desc := "([BIII)I" } : Jvm.MethodName)) ∈ lw_all := lw_g (lw_at lw_m2 182 rfl) rfl
theorem q524 : (Jvm.Cond.code ({ cls := "java/lang/StringUTF16", name := "indexOf", desc := "([BIII)I" } : Jvm.MethodName) prog_26_method_40_code (4 : Nat) (Option.some Jvm.ClassFile.FieldType.int)) ∈ lw_all := lw_g (lw_at lw_m2 183 rfl) rfl
theorem q525 : (Jvm.Cond.methodLink "java/lang/StringUTF16" (224 : Nat) ({ cls := "java/lang/Math", name := "max", desc := "(II)I" } : Jvm.MethodName)) ∈ lw_all := lw_g (lw_at lw_m2 184 rfl) rfl
theorem q526 : (Jvm.Cond.methodLink "java/lang/StringUTF16" (183 : Nat) ({ cls := "java/lang/Math", name := "min", desc := "(II)I" } : Jvm.MethodName)) ∈ lw_all := lw_g (lw_at lw_m2 185 rfl) rfl
theorem q527 : (Jvm.Cond.constant "java/lang/StringUTF16" (227 : Nat) (65536 : Int32)) ∈ lw_all := lw_g (lw_at lw_m2 186 rfl) rfl
theorem q528 : (Jvm.Cond.methodLink "java/lang/StringUTF16" (228 : Nat) ({ cls := "java/lang/StringUTF16", name := "indexOfChar", desc := "([BIII)I" } : Jvm.MethodName)) ∈ lw_all := lw_g (lw_at lw_m2 187 rfl) rfl
theorem q529 : (Jvm.Cond.static ({ cls := "java/lang/StringUTF16", name := "indexOfChar", desc := "([BIII)I" } : Jvm.MethodName)) ∈ lw_all := lw_g (lw_at lw_m2 188 rfl) rfl
theorem q530 : (Jvm.Cond.code ({ cls := "java/lang/StringUTF16", name := "indexOfChar", desc := "([BIII)I" } : Jvm.MethodName) prog_26_method_47_code (4 : Nat) (Option.some Jvm.ClassFile.FieldType.int)) ∈ lw_all := lw_g (lw_at lw_m2 189 rfl) rfl
theorem q531 : (Jvm.Cond.methodLink "java/lang/StringUTF16" (96 : Nat) ({ cls := "java/lang/StringUTF16", name := "checkBoundsBeginEnd", desc := "(II[B)V" } : Jvm.MethodName)) ∈ lw_all := lw_g (lw_at lw_m2 190 rfl) rfl
theorem q532 : (Jvm.Cond.static ({ cls := "java/lang/StringUTF16", name := "checkBoundsBeginEnd", desc := "(II[B)V" } : Jvm.MethodName)) ∈ lw_all := lw_g (lw_at lw_m2 191 rfl) rfl
theorem q533 : (Jvm.Cond.code ({ cls := "java/lang/StringUTF16", name := "checkBoundsBeginEnd", desc := "(II[B)V" } : Jvm.MethodName) prog_26_method_93_code (3 : Nat) (Option.none : Option Jvm.ClassFile.FieldType)) ∈ lw_all := lw_g (lw_at lw_m2 192 rfl) rfl
theorem q534 : (Jvm.Cond.methodLink "java/lang/StringUTF16" (48 : Nat) ({ cls := "java/lang/StringUTF16", name := "length", desc := "([B)I" } : Jvm.MethodName)) ∈ lw_all := lw_g (lw_at lw_m2 193 rfl) rfl
theorem q535 : (Jvm.Cond.static ({ cls := "java/lang/StringUTF16", name := "length", desc := "([B)I" } : Jvm.MethodName)) ∈ lw_all := lw_g (lw_at lw_m2 194 rfl) rfl
theorem q536 : (Jvm.Cond.code ({ cls := "java/lang/StringUTF16", name := "length", desc := "([B)I" } : Jvm.MethodName) prog_26_method_6_code (1 : Nat) (Option.some Jvm.ClassFile.FieldType.int)) ∈ lw_all := lw_g (lw_at lw_m2 195 rfl) rfl
theorem q537 : (Jvm.Cond.methodLink "java/lang/StringUTF16" (241 : Nat) ({ cls := "java/lang/String", name := "checkBoundsBeginEnd", desc := "(III)V" } : Jvm.MethodName)) ∈ lw_all := lw_g (lw_at lw_m2 196 rfl) rfl
theorem q545 : (Jvm.Cond.methodLink "java/lang/StringUTF16" (244 : Nat) ({ cls := "java/lang/StringUTF16", name := "indexOfCharUnsafe", desc := "([BIII)I" } : Jvm.MethodName)) ∈ lw_all := lw_g (lw_at lw_m2 204 rfl) rfl
theorem q546 : (Jvm.Cond.static ({ cls := "java/lang/StringUTF16", name := "indexOfCharUnsafe", desc := "([BIII)I" } : Jvm.MethodName)) ∈ lw_all := lw_g (lw_at lw_m2 205 rfl) rfl
theorem q547 : (Jvm.Cond.code ({ cls := "java/lang/StringUTF16", name := "indexOfCharUnsafe", desc := "([BIII)I" } : Jvm.MethodName) prog_26_method_48_code (5 : Nat) (Option.some Jvm.ClassFile.FieldType.int)) ∈ lw_all := lw_g (lw_at lw_m2 206 rfl) rfl
theorem q548 : (Jvm.Cond.methodLink "java/lang/StringUTF16" (71 : Nat) ({ cls := "java/lang/StringUTF16", name := "getChar", desc := "([BI)C" } : Jvm.MethodName)) ∈ lw_all := lw_g (lw_at lw_m2 207 rfl) rfl
theorem q549 : (Jvm.Cond.static ({ cls := "java/lang/StringUTF16", name := "getChar", desc := "([BI)C" } : Jvm.MethodName)) ∈ lw_all := lw_g (lw_at lw_m2 208 rfl) rfl
theorem q550 : (Jvm.Cond.code ({ cls := "java/lang/StringUTF16", name := "getChar", desc := "([BI)C" } : Jvm.MethodName) prog_26_method_5_code (2 : Nat) (Option.some Jvm.ClassFile.FieldType.char)) ∈ lw_all := lw_g (lw_at lw_m2 209 rfl) rfl
theorem q551 : (Jvm.Cond.fieldLink "java/lang/StringUTF16" (44 : Nat) "java/lang/StringUTF16" "$assertionsDisabled" "Z") ∈ lw_all := lw_g (lw_at lw_m2 210 rfl) rfl
theorem q552 : (Jvm.Cond.laysStatic "java/lang/StringUTF16" "$assertionsDisabled" "Z") ∈ lw_tbl := lw_at lw_m2 211 rfl
theorem q553 : (Jvm.Cond.fieldLink "java/lang/StringUTF16" (59 : Nat) "java/lang/StringUTF16" "HI_BYTE_SHIFT" "I") ∈ lw_all := lw_g (lw_at lw_m2 212 rfl) rfl
theorem q554 : (Jvm.Cond.laysStatic "java/lang/StringUTF16" "HI_BYTE_SHIFT" "I") ∈ lw_tbl := lw_at lw_m2 213 rfl
theorem q555 : (Jvm.Cond.fieldLink "java/lang/StringUTF16" (63 : Nat) "java/lang/StringUTF16" "LO_BYTE_SHIFT" "I") ∈ lw_all := lw_g (lw_at lw_m2 214 rfl) rfl
theorem q556 : (Jvm.Cond.laysStatic "java/lang/StringUTF16" "LO_BYTE_SHIFT" "I") ∈ lw_tbl := lw_at lw_m2 215 rfl
theorem q557 : (Jvm.Cond.methodLink "java/lang/StringUTF16" (232 : Nat) ({ cls := "java/lang/StringUTF16", name := "indexOfSupplementary", desc := "([BIII)I" } : Jvm.MethodName)) ∈ lw_all := lw_g (lw_at lw_m2 216 rfl) rfl
theorem q558 : (Jvm.Cond.static ({ cls := "java/lang/StringUTF16", name := "indexOfSupplementary", desc := "([BIII)I" } : Jvm.MethodName)) ∈ lw_all := lw_g (lw_at lw_m2 217 rfl) rfl
theorem q559 : (Jvm.Cond.code ({ cls := "java/lang/StringUTF16", name := "indexOfSupplementary", desc := "([BIII)I" } : Jvm.MethodName) prog_26_method_49_code (7 : Nat) (Option.some Jvm.ClassFile.FieldType.int)) ∈ lw_all := lw_g (lw_at lw_m2 218 rfl) rfl
theorem q560 : (Jvm.Cond.methodLink "java/lang/StringUTF16" (164 : Nat) ({ cls := "java/lang/Character", name := "isValidCodePoint", desc := "(I)Z" } : Jvm.MethodName)) ∈ lw_all := lw_g (lw_at lw_m2 219 rfl) rfl
theorem q563 : (Jvm.Cond.methodLink "java/lang/StringUTF16" (157 : Nat) ({ cls := "java/lang/Character", name := "highSurrogate", desc := "(I)C" } : Jvm.MethodName)) ∈ lw_all := lw_g (lw_at lw_m2 222 rfl) rfl
theorem q567 : (Jvm.Cond.methodLink "java/lang/StringUTF16" (161 : Nat) ({ cls := "java/lang/Character", name := "lowSurrogate", desc := "(I)C" } : Jvm.MethodName)) ∈ lw_all := lw_g (lw_at lw_m2 226 rfl) rfl
/-! jdk/internal/util/Preconditions -/
set_option maxRecDepth 100000
def RJ4 : String := "jdk/internal/util/Preconditions"
abbrev cJ4_checkFromToIndex : ByteArray := prog_27_method_12_code
def yJ4_checkFromToIndex : MethodName := ⟨RJ4, "checkFromToIndex", "(IIILjava/util/function/BiFunction;)I"⟩
def dkwJ4_checkFromToIndex_0 : List UInt8 := [26, 155, 0, 13, 26, 27, 163, 0, 8, 27, 28, 164, 0, 11, 45, 26, 27, 28, 184, 0, 99, 191, 26, 172]
abbrev dktJ4_checkFromToIndex_0 : List UInt8 := dkwJ4_checkFromToIndex_0 ++ []
theorem dksJ4_checkFromToIndex_0 : cJ4_checkFromToIndex.data.toList.drop 0 = dktJ4_checkFromToIndex_0 := by decide +kernel
theorem dJ4_checkFromToIndex_0 : decode cJ4_checkFromToIndex 0 = .ok (.iload_n 0, 1) := dk_26 (dk_at dksJ4_checkFromToIndex_0 0 rfl rfl)
theorem dJ4_checkFromToIndex_1 : decode cJ4_checkFromToIndex 1 = .ok (.ifCond .lt 13, 3) := dk_155 0 13 (dk_at dksJ4_checkFromToIndex_0 1 rfl rfl)
theorem dJ4_checkFromToIndex_4 : decode cJ4_checkFromToIndex 4 = .ok (.iload_n 0, 1) := dk_26 (dk_at dksJ4_checkFromToIndex_0 4 rfl rfl)
theorem dJ4_checkFromToIndex_5 : decode cJ4_checkFromToIndex 5 = .ok (.iload_n 1, 1) := dk_27 (dk_at dksJ4_checkFromToIndex_0 5 rfl rfl)
theorem dJ4_checkFromToIndex_6 : decode cJ4_checkFromToIndex 6 = .ok (.if_icmp .gt 8, 3) := dk_163 0 8 (dk_at dksJ4_checkFromToIndex_0 6 rfl rfl)
theorem dJ4_checkFromToIndex_9 : decode cJ4_checkFromToIndex 9 = .ok (.iload_n 1, 1) := dk_27 (dk_at dksJ4_checkFromToIndex_0 9 rfl rfl)
theorem dJ4_checkFromToIndex_10 : decode cJ4_checkFromToIndex 10 = .ok (.iload_n 2, 1) := dk_28 (dk_at dksJ4_checkFromToIndex_0 10 rfl rfl)
theorem dJ4_checkFromToIndex_11 : decode cJ4_checkFromToIndex 11 = .ok (.if_icmp .le 11, 3) := dk_164 0 11 (dk_at dksJ4_checkFromToIndex_0 11 rfl rfl)
theorem dJ4_checkFromToIndex_14 : decode cJ4_checkFromToIndex 14 = .ok (.aload_n 3, 1) := dk_45 (dk_at dksJ4_checkFromToIndex_0 14 rfl rfl)
theorem dJ4_checkFromToIndex_15 : decode cJ4_checkFromToIndex 15 = .ok (.iload_n 0, 1) := dk_26 (dk_at dksJ4_checkFromToIndex_0 15 rfl rfl)
theorem dJ4_checkFromToIndex_16 : decode cJ4_checkFromToIndex 16 = .ok (.iload_n 1, 1) := dk_27 (dk_at dksJ4_checkFromToIndex_0 16 rfl rfl)
theorem dJ4_checkFromToIndex_17 : decode cJ4_checkFromToIndex 17 = .ok (.iload_n 2, 1) := dk_28 (dk_at dksJ4_checkFromToIndex_0 17 rfl rfl)
theorem dJ4_checkFromToIndex_18 : decode cJ4_checkFromToIndex 18 = .ok (.invokestatic 99, 3) := dk_184 0 99 (dk_at dksJ4_checkFromToIndex_0 18 rfl rfl)
theorem dJ4_checkFromToIndex_21 : decode cJ4_checkFromToIndex 21 = .ok (.athrow, 1) := dk_191 (dk_at dksJ4_checkFromToIndex_0 21 rfl rfl)
theorem dJ4_checkFromToIndex_22 : decode cJ4_checkFromToIndex 22 = .ok (.iload_n 0, 1) := dk_26 (dk_at dksJ4_checkFromToIndex_0 22 rfl rfl)
theorem dJ4_checkFromToIndex_23 : decode cJ4_checkFromToIndex 23 = .ok (.ireturn, 1) := dk_172 (dk_at dksJ4_checkFromToIndex_0 23 rfl rfl)
theorem q115 : (Jvm.Cond.initialized "jdk/internal/util/Preconditions") ∈ lw_all := lw_g (lw_at lw_m1 14 rfl) rfl
theorem q541 : (Jvm.Cond.laysStatic "jdk/internal/util/Preconditions" "SIOOBE_FORMATTER" "Ljava/util/function/BiFunction;") ∈ lw_tbl := lw_at lw_m2 200 rfl
theorem q543 : (Jvm.Cond.static ({ cls := "jdk/internal/util/Preconditions", name := "checkFromToIndex", desc := "(IIILjava/util/function/BiFunction;)I" } : Jvm.MethodName)) ∈ lw_all := lw_g (lw_at lw_m2 202 rfl) rfl
theorem q544 : (Jvm.Cond.code ({ cls := "jdk/internal/util/Preconditions", name := "checkFromToIndex", desc := "(IIILjava/util/function/BiFunction;)I" } : Jvm.MethodName) prog_27_method_12_code (4 : Nat) (Option.some Jvm.ClassFile.FieldType.int)) ∈ lw_all := lw_g (lw_at lw_m2 203 rfl) rfl
/-! java/lang/Character -/
set_option maxRecDepth 100000
def RJ5 : String := "java/lang/Character"
abbrev cJ5_isValidCodePoint : ByteArray := prog_22_method_11_code
def yJ5_isValidCodePoint : MethodName := ⟨RJ5, "isValidCodePoint", "(I)Z"⟩
def dkwJ5_isValidCodePoint_0 : List UInt8 := [26, 16, 16, 124, 60, 27, 16, 17, 162, 0, 7, 4, 167, 0, 4, 3, 172]
abbrev dktJ5_isValidCodePoint_0 : List UInt8 := dkwJ5_isValidCodePoint_0 ++ []
theorem dksJ5_isValidCodePoint_0 : cJ5_isValidCodePoint.data.toList.drop 0 = dktJ5_isValidCodePoint_0 := by decide +kernel
theorem dJ5_isValidCodePoint_0 : decode cJ5_isValidCodePoint 0 = .ok (.iload_n 0, 1) := dk_26 (dk_at dksJ5_isValidCodePoint_0 0 rfl rfl)
theorem dJ5_isValidCodePoint_1 : decode cJ5_isValidCodePoint 1 = .ok (.bipush 16, 2) := dk_16 16 (dk_at dksJ5_isValidCodePoint_0 1 rfl rfl)
theorem dJ5_isValidCodePoint_3 : decode cJ5_isValidCodePoint 3 = .ok (.iushr, 1) := dk_124 (dk_at dksJ5_isValidCodePoint_0 3 rfl rfl)
theorem dJ5_isValidCodePoint_4 : decode cJ5_isValidCodePoint 4 = .ok (.istore_n 1, 1) := dk_60 (dk_at dksJ5_isValidCodePoint_0 4 rfl rfl)
theorem dJ5_isValidCodePoint_5 : decode cJ5_isValidCodePoint 5 = .ok (.iload_n 1, 1) := dk_27 (dk_at dksJ5_isValidCodePoint_0 5 rfl rfl)
theorem dJ5_isValidCodePoint_6 : decode cJ5_isValidCodePoint 6 = .ok (.bipush 17, 2) := dk_16 17 (dk_at dksJ5_isValidCodePoint_0 6 rfl rfl)
theorem dJ5_isValidCodePoint_8 : decode cJ5_isValidCodePoint 8 = .ok (.if_icmp .ge 7, 3) := dk_162 0 7 (dk_at dksJ5_isValidCodePoint_0 8 rfl rfl)
theorem dJ5_isValidCodePoint_11 : decode cJ5_isValidCodePoint 11 = .ok (.iconst 1, 1) := dk_4 (dk_at dksJ5_isValidCodePoint_0 11 rfl rfl)
theorem dJ5_isValidCodePoint_12 : decode cJ5_isValidCodePoint 12 = .ok (.goto 4, 3) := dk_167 0 4 (dk_at dksJ5_isValidCodePoint_0 12 rfl rfl)
theorem dJ5_isValidCodePoint_15 : decode cJ5_isValidCodePoint 15 = .ok (.iconst 0, 1) := dk_3 (dk_at dksJ5_isValidCodePoint_0 15 rfl rfl)
theorem dJ5_isValidCodePoint_16 : decode cJ5_isValidCodePoint 16 = .ok (.ireturn, 1) := dk_172 (dk_at dksJ5_isValidCodePoint_0 16 rfl rfl)
abbrev cJ5_highSurrogate : ByteArray := prog_22_method_28_code
def yJ5_highSurrogate : MethodName := ⟨RJ5, "highSurrogate", "(I)C"⟩
def dkwJ5_highSurrogate_0 : List UInt8 := [26, 16, 10, 124, 18, 110, 96, 146, 172]
abbrev dktJ5_highSurrogate_0 : List UInt8 := dkwJ5_highSurrogate_0 ++ []
theorem dksJ5_highSurrogate_0 : cJ5_highSurrogate.data.toList.drop 0 = dktJ5_highSurrogate_0 := by decide +kernel
theorem dJ5_highSurrogate_0 : decode cJ5_highSurrogate 0 = .ok (.iload_n 0, 1) := dk_26 (dk_at dksJ5_highSurrogate_0 0 rfl rfl)
theorem dJ5_highSurrogate_1 : decode cJ5_highSurrogate 1 = .ok (.bipush 10, 2) := dk_16 10 (dk_at dksJ5_highSurrogate_0 1 rfl rfl)
theorem dJ5_highSurrogate_3 : decode cJ5_highSurrogate 3 = .ok (.iushr, 1) := dk_124 (dk_at dksJ5_highSurrogate_0 3 rfl rfl)
theorem dJ5_highSurrogate_4 : decode cJ5_highSurrogate 4 = .ok (.ldc 110, 2) := dk_18 110 (dk_at dksJ5_highSurrogate_0 4 rfl rfl)
theorem dJ5_highSurrogate_6 : decode cJ5_highSurrogate 6 = .ok (.iadd, 1) := dk_96 (dk_at dksJ5_highSurrogate_0 6 rfl rfl)
theorem dJ5_highSurrogate_7 : decode cJ5_highSurrogate 7 = .ok (.i2c, 1) := dk_146 (dk_at dksJ5_highSurrogate_0 7 rfl rfl)
theorem dJ5_highSurrogate_8 : decode cJ5_highSurrogate 8 = .ok (.ireturn, 1) := dk_172 (dk_at dksJ5_highSurrogate_0 8 rfl rfl)
abbrev cJ5_lowSurrogate : ByteArray := prog_22_method_29_code
def yJ5_lowSurrogate : MethodName := ⟨RJ5, "lowSurrogate", "(I)C"⟩
def dkwJ5_lowSurrogate_0 : List UInt8 := [26, 17, 3, 255, 126, 18, 76, 96, 146, 172]
abbrev dktJ5_lowSurrogate_0 : List UInt8 := dkwJ5_lowSurrogate_0 ++ []
theorem dksJ5_lowSurrogate_0 : cJ5_lowSurrogate.data.toList.drop 0 = dktJ5_lowSurrogate_0 := by decide +kernel
theorem dJ5_lowSurrogate_0 : decode cJ5_lowSurrogate 0 = .ok (.iload_n 0, 1) := dk_26 (dk_at dksJ5_lowSurrogate_0 0 rfl rfl)
theorem dJ5_lowSurrogate_1 : decode cJ5_lowSurrogate 1 = .ok (.sipush 1023, 3) := dk_17 3 255 (dk_at dksJ5_lowSurrogate_0 1 rfl rfl)
theorem dJ5_lowSurrogate_4 : decode cJ5_lowSurrogate 4 = .ok (.iand, 1) := dk_126 (dk_at dksJ5_lowSurrogate_0 4 rfl rfl)
theorem dJ5_lowSurrogate_5 : decode cJ5_lowSurrogate 5 = .ok (.ldc 76, 2) := dk_18 76 (dk_at dksJ5_lowSurrogate_0 5 rfl rfl)
theorem dJ5_lowSurrogate_7 : decode cJ5_lowSurrogate 7 = .ok (.iadd, 1) := dk_96 (dk_at dksJ5_lowSurrogate_0 7 rfl rfl)
theorem dJ5_lowSurrogate_8 : decode cJ5_lowSurrogate 8 = .ok (.i2c, 1) := dk_146 (dk_at dksJ5_lowSurrogate_0 8 rfl rfl)
theorem dJ5_lowSurrogate_9 : decode cJ5_lowSurrogate 9 = .ok (.ireturn, 1) := dk_172 (dk_at dksJ5_lowSurrogate_0 9 rfl rfl)
theorem q116 : (Jvm.Cond.initialized "java/lang/Character") ∈ lw_all := lw_g (lw_at lw_m1 15 rfl) rfl
theorem q561 : (Jvm.Cond.static ({ cls := "java/lang/Character", name := "isValidCodePoint", desc := "(I)Z" } : Jvm.MethodName)) ∈ lw_all := lw_g (lw_at lw_m2 220 rfl) rfl
theorem q562 : (Jvm.Cond.code ({ cls := "java/lang/Character", name := "isValidCodePoint", desc := "(I)Z" } : Jvm.MethodName) prog_22_method_11_code (2 : Nat) (Option.some Jvm.ClassFile.FieldType.boolean)) ∈ lw_all := lw_g (lw_at lw_m2 221 rfl) rfl
theorem q564 : (Jvm.Cond.static ({ cls := "java/lang/Character", name := "highSurrogate", desc := "(I)C" } : Jvm.MethodName)) ∈ lw_all := lw_g (lw_at lw_m2 223 rfl) rfl
theorem q565 : (Jvm.Cond.code ({ cls := "java/lang/Character", name := "highSurrogate", desc := "(I)C" } : Jvm.MethodName) prog_22_method_28_code (1 : Nat) (Option.some Jvm.ClassFile.FieldType.char)) ∈ lw_all := lw_g (lw_at lw_m2 224 rfl) rfl
theorem q566 : (Jvm.Cond.constant "java/lang/Character" (110 : Nat) (55232 : Int32)) ∈ lw_all := lw_g (lw_at lw_m2 225 rfl) rfl
theorem q568 : (Jvm.Cond.static ({ cls := "java/lang/Character", name := "lowSurrogate", desc := "(I)C" } : Jvm.MethodName)) ∈ lw_all := lw_g (lw_at lw_m2 227 rfl) rfl
theorem q569 : (Jvm.Cond.code ({ cls := "java/lang/Character", name := "lowSurrogate", desc := "(I)C" } : Jvm.MethodName) prog_22_method_29_code (1 : Nat) (Option.some Jvm.ClassFile.FieldType.char)) ∈ lw_all := lw_g (lw_at lw_m2 228 rfl) rfl
theorem q570 : (Jvm.Cond.constant "java/lang/Character" (76 : Nat) (56320 : Int32)) ∈ lw_all := lw_g (lw_at lw_m2 229 rfl) rfl
/-! java/lang/Object -/
set_option maxRecDepth 100000
def RJ6 : String := "java/lang/Object"
abbrev cJ6_init : ByteArray := object_method_1_code
def yJ6_init : MethodName := ⟨RJ6, "<init>", "()V"⟩
theorem dJ6_init_0 : decode cJ6_init 0 = .ok (.return_, 1) := by decide +kernel
theorem q134 : (Jvm.Cond.instanceMethod ({ cls := "java/lang/Object", name := "<init>", desc := "()V" } : Jvm.MethodName)) ∈ lw_all := lw_g (lw_at lw_m1 33 rfl) rfl
theorem q135 : (Jvm.Cond.code ({ cls := "java/lang/Object", name := "<init>", desc := "()V" } : Jvm.MethodName) object_method_1_code (1 : Nat) (Option.none : Option Jvm.ClassFile.FieldType)) ∈ lw_all := lw_g (lw_at lw_m1 34 rfl) rfl
/-! the law's own entry -/
set_option maxRecDepth 100000
abbrev cL_law : ByteArray := code
def dkwL_law_44 : List UInt8 := [167, 251, 153, 4, 172]
abbrev dktL_law_44 : List UInt8 := dkwL_law_44 ++ []
def dkwL_law_43 : List UInt8 := [96, 46, 182, 0, 146, 44, 42, 29, 4, 96, 46, 182, 0, 149, 159, 0, 5, 3, 172, 132, 3, 6]
abbrev dktL_law_43 : List UInt8 := dkwL_law_43 ++ dktL_law_44
def dkwL_law_42 : List UInt8 := [4, 96, 46, 182, 0, 142, 44, 42, 29, 4, 96, 46, 182, 0, 145, 159, 0, 28, 3, 172, 43, 42, 29, 4]
abbrev dktL_law_42 : List UInt8 := dkwL_law_42 ++ dktL_law_43
def dkwL_law_41 : List UInt8 := [182, 0, 136, 159, 0, 64, 3, 172, 43, 182, 0, 137, 44, 182, 0, 141, 159, 0, 51, 3, 172, 43, 42, 29]
abbrev dktL_law_41 : List UInt8 := dkwL_law_41 ++ dktL_law_42
def dkwL_law_40 : List UInt8 := [182, 0, 129, 44, 42, 29, 4, 96, 46, 182, 0, 132, 159, 0, 77, 3, 172, 43, 182, 0, 133, 44]
abbrev dktL_law_40 : List UInt8 := dkwL_law_40 ++ dktL_law_41
def dkwL_law_39 : List UInt8 := [29, 4, 96, 46, 42, 29, 5, 96, 46, 182, 0, 128, 159, 0, 100, 3, 172, 43, 42, 29, 4, 96, 46]
abbrev dktL_law_39 : List UInt8 := dkwL_law_39 ++ dktL_law_40
def dkwL_law_38 : List UInt8 := [182, 0, 124, 159, 0, 133, 3, 172, 43, 42, 29, 4, 96, 46, 42, 29, 5, 96, 46, 182, 0, 125, 44, 42]
abbrev dktL_law_38 : List UInt8 := dkwL_law_38 ++ dktL_law_39
def dkwL_law_37 : List UInt8 := [4, 96, 46, 42, 29, 5, 96, 46, 182, 0, 121, 44, 42, 29, 4, 96, 46, 42, 29, 5, 96, 46]
abbrev dktL_law_37 : List UInt8 := dkwL_law_37 ++ dktL_law_38
def dkwL_law_36 : List UInt8 := [29, 4, 96, 46, 182, 0, 117, 44, 42, 29, 4, 96, 46, 182, 0, 120, 159, 0, 166, 3, 172, 43, 42, 29]
abbrev dktL_law_36 : List UInt8 := dkwL_law_36 ++ dktL_law_37
def dkwL_law_35 : List UInt8 := [42, 29, 4, 96, 46, 182, 0, 113, 44, 42, 29, 4, 96, 46, 182, 0, 116, 159, 0, 189, 3, 172, 43, 42]
abbrev dktL_law_35 : List UInt8 := dkwL_law_35 ++ dktL_law_36
def dkwL_law_34 : List UInt8 := [43, 42, 29, 4, 96, 46, 182, 0, 109, 44, 42, 29, 4, 96, 46, 182, 0, 112, 159, 0, 212, 3, 172, 43]
abbrev dktL_law_34 : List UInt8 := dkwL_law_34 ++ dktL_law_35
def dkwL_law_33 : List UInt8 := [172, 43, 42, 29, 4, 96, 46, 182, 0, 105, 44, 42, 29, 4, 96, 46, 182, 0, 108, 159, 0, 235, 3, 172]
abbrev dktL_law_33 : List UInt8 := dkwL_law_33 ++ dktL_law_34
def dkwL_law_32 : List UInt8 := [182, 0, 96, 44, 182, 0, 100, 159, 1, 15, 3, 172, 43, 182, 0, 101, 44, 182, 0, 104, 159, 1, 2, 3]
abbrev dktL_law_32 : List UInt8 := dkwL_law_32 ++ dktL_law_33
def dkwL_law_31 : List UInt8 := [46, 182, 0, 92, 44, 42, 29, 4, 96, 46, 42, 29, 5, 96, 46, 182, 0, 95, 159, 1, 28, 3, 172, 43]
abbrev dktL_law_31 : List UInt8 := dkwL_law_31 ++ dktL_law_32
def dkwL_law_30 : List UInt8 := [46, 42, 29, 5, 96, 46, 182, 0, 91, 159, 1, 61, 3, 172, 43, 42, 29, 4, 96, 46, 42, 29, 5, 96]
abbrev dktL_law_30 : List UInt8 := dkwL_law_30 ++ dktL_law_31
def dkwL_law_29 : List UInt8 := [159, 1, 94, 3, 172, 43, 42, 29, 4, 96, 46, 42, 29, 5, 96, 46, 182, 0, 88, 44, 42, 29, 4, 96]
abbrev dktL_law_29 : List UInt8 := dkwL_law_29 ++ dktL_law_30
def dkwL_law_28 : List UInt8 := [182, 0, 84, 44, 42, 29, 4, 96, 46, 42, 29, 5, 96, 46, 42, 29, 6, 96, 46, 182, 0, 87]
abbrev dktL_law_28 : List UInt8 := dkwL_law_28 ++ dktL_law_29
def dkwL_law_27 : List UInt8 := [182, 0, 83, 159, 1, 137, 3, 172, 43, 42, 29, 4, 96, 46, 42, 29, 5, 96, 46, 42, 29, 6, 96, 46]
abbrev dktL_law_27 : List UInt8 := dkwL_law_27 ++ dktL_law_28
def dkwL_law_26 : List UInt8 := [4, 96, 46, 42, 29, 5, 96, 46, 182, 0, 80, 44, 42, 29, 4, 96, 46, 42, 29, 5, 96, 46]
abbrev dktL_law_26 : List UInt8 := dkwL_law_26 ++ dktL_law_27
def dkwL_law_25 : List UInt8 := [4, 96, 46, 42, 29, 5, 96, 46, 42, 29, 6, 96, 46, 182, 0, 79, 159, 1, 170, 3, 172, 43, 42, 29]
abbrev dktL_law_25 : List UInt8 := dkwL_law_25 ++ dktL_law_26
def dkwL_law_24 : List UInt8 := [3, 172, 43, 42, 29, 4, 96, 46, 42, 29, 5, 96, 46, 42, 29, 6, 96, 46, 182, 0, 76, 44, 42, 29]
abbrev dktL_law_24 : List UInt8 := dkwL_law_24 ++ dktL_law_25
def dkwL_law_23 : List UInt8 := [29, 5, 96, 46, 182, 0, 72, 44, 42, 29, 4, 96, 46, 42, 29, 5, 96, 46, 182, 0, 75, 159, 1, 213]
abbrev dktL_law_23 : List UInt8 := dkwL_law_23 ++ dktL_law_24
def dkwL_law_22 : List UInt8 := [29, 5, 96, 46, 42, 29, 6, 96, 46, 182, 0, 71, 159, 1, 246, 3, 172, 43, 42, 29, 4, 96, 46, 42]
abbrev dktL_law_22 : List UInt8 := dkwL_law_22 ++ dktL_law_23
def dkwL_law_21 : List UInt8 := [29, 4, 96, 46, 42, 29, 5, 96, 46, 42, 29, 6, 96, 46, 182, 0, 68, 44, 42, 29, 4, 96, 46, 42]
abbrev dktL_law_21 : List UInt8 := dkwL_law_21 ++ dktL_law_22
def dkwL_law_20 : List UInt8 := [29, 5, 96, 46, 42, 29, 6, 96, 46, 42, 29, 7, 96, 46, 182, 0, 67, 159, 2, 33, 3, 172, 43, 42]
abbrev dktL_law_20 : List UInt8 := dkwL_law_20 ++ dktL_law_21
def dkwL_law_19 : List UInt8 := [29, 5, 96, 46, 42, 29, 6, 96, 46, 42, 29, 7, 96, 46, 182, 0, 63, 44, 42, 29, 4, 96, 46, 42]
abbrev dktL_law_19 : List UInt8 := dkwL_law_19 ++ dktL_law_20
def dkwL_law_18 : List UInt8 := [29, 5, 96, 46, 42, 29, 6, 96, 46, 182, 0, 62, 159, 2, 86, 3, 172, 43, 42, 29, 4, 96, 46, 42]
abbrev dktL_law_18 : List UInt8 := dkwL_law_18 ++ dktL_law_19
def dkwL_law_17 : List UInt8 := [29, 4, 96, 46, 42, 29, 5, 96, 46, 42, 29, 6, 96, 46, 182, 0, 58, 44, 42, 29, 4, 96, 46, 42]
abbrev dktL_law_17 : List UInt8 := dkwL_law_17 ++ dktL_law_18
def dkwL_law_16 : List UInt8 := [182, 0, 54, 44, 42, 29, 4, 96, 46, 42, 29, 5, 96, 46, 182, 0, 57, 159, 2, 129, 3, 172, 43, 42]
abbrev dktL_law_16 : List UInt8 := dkwL_law_16 ++ dktL_law_17
def dkwL_law_15 : List UInt8 := [5, 96, 46, 182, 0, 53, 159, 2, 162, 3, 172, 43, 42, 29, 4, 96, 46, 42, 29, 5, 96, 46]
abbrev dktL_law_15 : List UInt8 := dkwL_law_15 ++ dktL_law_16
def dkwL_law_14 : List UInt8 := [3, 172, 43, 42, 29, 4, 96, 46, 42, 29, 5, 96, 46, 182, 0, 50, 44, 42, 29, 4, 96, 46, 42, 29]
abbrev dktL_law_14 : List UInt8 := dkwL_law_14 ++ dktL_law_15
def dkwL_law_13 : List UInt8 := [29, 5, 96, 46, 182, 0, 45, 44, 42, 29, 4, 96, 46, 42, 29, 5, 96, 46, 182, 0, 49, 159, 2, 195]
abbrev dktL_law_13 : List UInt8 := dkwL_law_13 ++ dktL_law_14
def dkwL_law_12 : List UInt8 := [182, 0, 41, 44, 42, 29, 4, 96, 46, 182, 0, 44, 159, 2, 228, 3, 172, 43, 42, 29, 4, 96, 46, 42]
abbrev dktL_law_12 : List UInt8 := dkwL_law_12 ++ dktL_law_13
def dkwL_law_11 : List UInt8 := [182, 0, 37, 44, 42, 29, 4, 96, 46, 182, 0, 40, 159, 2, 251, 3, 172, 43, 42, 29, 4, 96, 46]
abbrev dktL_law_11 : List UInt8 := dkwL_law_11 ++ dktL_law_12
def dkwL_law_10 : List UInt8 := [46, 182, 0, 33, 44, 42, 29, 4, 96, 46, 182, 0, 36, 159, 3, 18, 3, 172, 43, 42, 29, 4, 96, 46]
abbrev dktL_law_10 : List UInt8 := dkwL_law_10 ++ dktL_law_11
def dkwL_law_9 : List UInt8 := [96, 46, 182, 0, 28, 44, 42, 29, 4, 96, 46, 182, 0, 32, 159, 3, 41, 3, 172, 43, 42, 29, 4, 96]
abbrev dktL_law_9 : List UInt8 := dkwL_law_9 ++ dktL_law_10
def dkwL_law_8 : List UInt8 := [96, 46, 42, 29, 7, 96, 46, 42, 29, 8, 96, 46, 182, 0, 27, 159, 3, 64, 3, 172, 43, 42, 29, 4]
abbrev dktL_law_8 : List UInt8 := dkwL_law_8 ++ dktL_law_9
def dkwL_law_7 : List UInt8 := [96, 46, 42, 29, 8, 96, 46, 182, 0, 23, 44, 42, 29, 4, 96, 46, 42, 29, 5, 96, 46, 42, 29, 6]
abbrev dktL_law_7 : List UInt8 := dkwL_law_7 ++ dktL_law_8
def dkwL_law_6 : List UInt8 := [159, 3, 127, 3, 172, 43, 42, 29, 4, 96, 46, 42, 29, 5, 96, 46, 42, 29, 6, 96, 46, 42, 29, 7]
abbrev dktL_law_6 : List UInt8 := dkwL_law_6 ++ dktL_law_7
def dkwL_law_5 : List UInt8 := [159, 3, 150, 3, 172, 43, 42, 29, 4, 96, 46, 182, 0, 18, 44, 42, 29, 4, 96, 46, 182, 0, 22]
abbrev dktL_law_5 : List UInt8 := dkwL_law_5 ++ dktL_law_6
def dkwL_law_4 : List UInt8 := [44, 42, 29, 4, 96, 46, 42, 29, 5, 96, 46, 42, 29, 6, 96, 46, 42, 29, 7, 96, 46, 182, 0, 17]
abbrev dktL_law_4 : List UInt8 := dkwL_law_4 ++ dktL_law_5
def dkwL_law_3 : List UInt8 := [43, 42, 29, 4, 96, 46, 42, 29, 5, 96, 46, 42, 29, 6, 96, 46, 42, 29, 7, 96, 46, 182, 0, 13]
abbrev dktL_law_3 : List UInt8 := dkwL_law_3 ++ dktL_law_4
def dkwL_law_2 : List UInt8 := [170, 0, 0, 0, 0, 4, 85, 0, 0, 0, 0, 0, 0, 0, 31, 0, 0, 0, 143, 0, 0, 0, 196, 0, 0, 0, 219, 0, 0, 1, 26, 0, 0, 1, 49, 0, 0, 1, 72, 0, 0, 1, 95, 0, 0, 1, 118, 0, 0, 1, 151, 0, 0, 1, 184, 0, 0, 1, 217, 0, 0, 2, 4, 0, 0, 2, 57, 0, 0, 2, 100, 0, 0, 2, 133, 0, 0, 2, 176, 0, 0, 2, 209, 0, 0, 2, 252, 0, 0, 3, 29, 0, 0, 3, 62, 0, 0, 3, 75, 0, 0, 3, 88, 0, 0, 3, 111, 0, 0, 3, 134, 0, 0, 3, 157, 0, 0, 3, 180, 0, 0, 3, 213, 0, 0, 3, 246, 0, 0, 4, 13, 0, 0, 4, 26, 0, 0, 4, 39, 0, 0, 4, 62]
abbrev dktL_law_2 : List UInt8 := dkwL_law_2 ++ dktL_law_3
def dkwL_law_1 : List UInt8 := [163, 4, 100, 42, 29, 46, 16, 31, 126]
abbrev dktL_law_1 : List UInt8 := dkwL_law_1 ++ dktL_law_2
def dkwL_law_0 : List UInt8 := [187, 0, 7, 89, 183, 0, 9, 76, 187, 0, 10, 89, 183, 0, 12, 77, 3, 62, 29, 42, 190, 16, 6, 100]
abbrev dktL_law_0 : List UInt8 := dkwL_law_0 ++ dktL_law_1
theorem dksL_law_0 : cL_law.data.toList.drop 0 = dktL_law_0 := by decide +kernel
theorem dksL_law_1 : cL_law.data.toList.drop 24 = dktL_law_1 := dk_seg dksL_law_0 24 rfl rfl
theorem dksL_law_2 : cL_law.data.toList.drop 33 = dktL_law_2 := dk_seg dksL_law_1 9 rfl rfl
theorem dksL_law_3 : cL_law.data.toList.drop 176 = dktL_law_3 := dk_seg dksL_law_2 143 rfl rfl
theorem dksL_law_4 : cL_law.data.toList.drop 200 = dktL_law_4 := dk_seg dksL_law_3 24 rfl rfl
theorem dksL_law_5 : cL_law.data.toList.drop 224 = dktL_law_5 := dk_seg dksL_law_4 24 rfl rfl
theorem dksL_law_6 : cL_law.data.toList.drop 247 = dktL_law_6 := dk_seg dksL_law_5 23 rfl rfl
theorem dksL_law_7 : cL_law.data.toList.drop 271 = dktL_law_7 := dk_seg dksL_law_6 24 rfl rfl
theorem dksL_law_8 : cL_law.data.toList.drop 295 = dktL_law_8 := dk_seg dksL_law_7 24 rfl rfl
theorem dksL_law_9 : cL_law.data.toList.drop 319 = dktL_law_9 := dk_seg dksL_law_8 24 rfl rfl
theorem dksL_law_10 : cL_law.data.toList.drop 343 = dktL_law_10 := dk_seg dksL_law_9 24 rfl rfl
theorem dksL_law_11 : cL_law.data.toList.drop 367 = dktL_law_11 := dk_seg dksL_law_10 24 rfl rfl
theorem dksL_law_12 : cL_law.data.toList.drop 390 = dktL_law_12 := dk_seg dksL_law_11 23 rfl rfl
theorem dksL_law_13 : cL_law.data.toList.drop 414 = dktL_law_13 := dk_seg dksL_law_12 24 rfl rfl
theorem dksL_law_14 : cL_law.data.toList.drop 438 = dktL_law_14 := dk_seg dksL_law_13 24 rfl rfl
theorem dksL_law_15 : cL_law.data.toList.drop 462 = dktL_law_15 := dk_seg dksL_law_14 24 rfl rfl
theorem dksL_law_16 : cL_law.data.toList.drop 484 = dktL_law_16 := dk_seg dksL_law_15 22 rfl rfl
theorem dksL_law_17 : cL_law.data.toList.drop 508 = dktL_law_17 := dk_seg dksL_law_16 24 rfl rfl
theorem dksL_law_18 : cL_law.data.toList.drop 532 = dktL_law_18 := dk_seg dksL_law_17 24 rfl rfl
theorem dksL_law_19 : cL_law.data.toList.drop 556 = dktL_law_19 := dk_seg dksL_law_18 24 rfl rfl
theorem dksL_law_20 : cL_law.data.toList.drop 580 = dktL_law_20 := dk_seg dksL_law_19 24 rfl rfl
theorem dksL_law_21 : cL_law.data.toList.drop 604 = dktL_law_21 := dk_seg dksL_law_20 24 rfl rfl
theorem dksL_law_22 : cL_law.data.toList.drop 628 = dktL_law_22 := dk_seg dksL_law_21 24 rfl rfl
theorem dksL_law_23 : cL_law.data.toList.drop 652 = dktL_law_23 := dk_seg dksL_law_22 24 rfl rfl
theorem dksL_law_24 : cL_law.data.toList.drop 676 = dktL_law_24 := dk_seg dksL_law_23 24 rfl rfl
theorem dksL_law_25 : cL_law.data.toList.drop 700 = dktL_law_25 := dk_seg dksL_law_24 24 rfl rfl
theorem dksL_law_26 : cL_law.data.toList.drop 724 = dktL_law_26 := dk_seg dksL_law_25 24 rfl rfl
theorem dksL_law_27 : cL_law.data.toList.drop 746 = dktL_law_27 := dk_seg dksL_law_26 22 rfl rfl
theorem dksL_law_28 : cL_law.data.toList.drop 770 = dktL_law_28 := dk_seg dksL_law_27 24 rfl rfl
theorem dksL_law_29 : cL_law.data.toList.drop 792 = dktL_law_29 := dk_seg dksL_law_28 22 rfl rfl
theorem dksL_law_30 : cL_law.data.toList.drop 816 = dktL_law_30 := dk_seg dksL_law_29 24 rfl rfl
theorem dksL_law_31 : cL_law.data.toList.drop 840 = dktL_law_31 := dk_seg dksL_law_30 24 rfl rfl
theorem dksL_law_32 : cL_law.data.toList.drop 864 = dktL_law_32 := dk_seg dksL_law_31 24 rfl rfl
theorem dksL_law_33 : cL_law.data.toList.drop 888 = dktL_law_33 := dk_seg dksL_law_32 24 rfl rfl
theorem dksL_law_34 : cL_law.data.toList.drop 912 = dktL_law_34 := dk_seg dksL_law_33 24 rfl rfl
theorem dksL_law_35 : cL_law.data.toList.drop 936 = dktL_law_35 := dk_seg dksL_law_34 24 rfl rfl
theorem dksL_law_36 : cL_law.data.toList.drop 960 = dktL_law_36 := dk_seg dksL_law_35 24 rfl rfl
theorem dksL_law_37 : cL_law.data.toList.drop 984 = dktL_law_37 := dk_seg dksL_law_36 24 rfl rfl
theorem dksL_law_38 : cL_law.data.toList.drop 1006 = dktL_law_38 := dk_seg dksL_law_37 22 rfl rfl
theorem dksL_law_39 : cL_law.data.toList.drop 1030 = dktL_law_39 := dk_seg dksL_law_38 24 rfl rfl
theorem dksL_law_40 : cL_law.data.toList.drop 1053 = dktL_law_40 := dk_seg dksL_law_39 23 rfl rfl
theorem dksL_law_41 : cL_law.data.toList.drop 1075 = dktL_law_41 := dk_seg dksL_law_40 22 rfl rfl
theorem dksL_law_42 : cL_law.data.toList.drop 1099 = dktL_law_42 := dk_seg dksL_law_41 24 rfl rfl
theorem dksL_law_43 : cL_law.data.toList.drop 1123 = dktL_law_43 := dk_seg dksL_law_42 24 rfl rfl
theorem dksL_law_44 : cL_law.data.toList.drop 1145 = dktL_law_44 := dk_seg dksL_law_43 22 rfl rfl
theorem dL_law_0 : decode cL_law 0 = .ok (.new 7, 3) := dk_187 0 7 (dk_at dksL_law_0 0 rfl rfl)
theorem dL_law_3 : decode cL_law 3 = .ok (.dup, 1) := dk_89 (dk_at dksL_law_0 3 rfl rfl)
theorem dL_law_4 : decode cL_law 4 = .ok (.invokespecial 9, 3) := dk_183 0 9 (dk_at dksL_law_0 4 rfl rfl)
theorem dL_law_7 : decode cL_law 7 = .ok (.astore_n 1, 1) := dk_76 (dk_at dksL_law_0 7 rfl rfl)
theorem dL_law_8 : decode cL_law 8 = .ok (.new 10, 3) := dk_187 0 10 (dk_at dksL_law_0 8 rfl rfl)
theorem dL_law_11 : decode cL_law 11 = .ok (.dup, 1) := dk_89 (dk_at dksL_law_0 11 rfl rfl)
theorem dL_law_12 : decode cL_law 12 = .ok (.invokespecial 12, 3) := dk_183 0 12 (dk_at dksL_law_0 12 rfl rfl)
theorem dL_law_15 : decode cL_law 15 = .ok (.astore_n 2, 1) := dk_77 (dk_at dksL_law_0 15 rfl rfl)
theorem dL_law_16 : decode cL_law 16 = .ok (.iconst 0, 1) := dk_3 (dk_at dksL_law_0 16 rfl rfl)
theorem dL_law_17 : decode cL_law 17 = .ok (.istore_n 3, 1) := dk_62 (dk_at dksL_law_0 17 rfl rfl)
theorem dL_law_18 : decode cL_law 18 = .ok (.iload_n 3, 1) := dk_29 (dk_at dksL_law_0 18 rfl rfl)
theorem dL_law_19 : decode cL_law 19 = .ok (.aload_n 0, 1) := dk_42 (dk_at dksL_law_0 19 rfl rfl)
theorem dL_law_20 : decode cL_law 20 = .ok (.arraylength, 1) := dk_190 (dk_at dksL_law_0 20 rfl rfl)
theorem dL_law_21 : decode cL_law 21 = .ok (.bipush 6, 2) := dk_16 6 (dk_at dksL_law_0 21 rfl rfl)
theorem dL_law_23 : decode cL_law 23 = .ok (.isub, 1) := dk_100 (dk_at dksL_law_0 23 rfl rfl)
theorem dL_law_24 : decode cL_law 24 = .ok (.if_icmp .gt 1124, 3) := dk_163 4 100 (dk_at dksL_law_1 0 rfl rfl)
theorem dL_law_27 : decode cL_law 27 = .ok (.aload_n 0, 1) := dk_42 (dk_at dksL_law_1 3 rfl rfl)
theorem dL_law_28 : decode cL_law 28 = .ok (.iload_n 3, 1) := dk_29 (dk_at dksL_law_1 4 rfl rfl)
theorem dL_law_29 : decode cL_law 29 = .ok (.iaload, 1) := dk_46 (dk_at dksL_law_1 5 rfl rfl)
theorem dL_law_30 : decode cL_law 30 = .ok (.bipush 31, 2) := dk_16 31 (dk_at dksL_law_1 6 rfl rfl)
theorem dL_law_32 : decode cL_law 32 = .ok (.iand, 1) := dk_126 (dk_at dksL_law_1 8 rfl rfl)
theorem dL_law_33 : decode cL_law 33 = .ok (.tableswitch 1109 0 31 #[143, 196, 219, 282, 305, 328, 351, 374, 407, 440, 473, 516, 569, 612, 645, 688, 721, 764, 797, 830, 843, 856, 879, 902, 925, 948, 981, 1014, 1037, 1050, 1063, 1086], 143) := by decide +kernel
theorem dL_law_176 : decode cL_law 176 = .ok (.aload_n 1, 1) := dk_43 (dk_at dksL_law_3 0 rfl rfl)
theorem dL_law_177 : decode cL_law 177 = .ok (.aload_n 0, 1) := dk_42 (dk_at dksL_law_3 1 rfl rfl)
theorem dL_law_178 : decode cL_law 178 = .ok (.iload_n 3, 1) := dk_29 (dk_at dksL_law_3 2 rfl rfl)
theorem dL_law_179 : decode cL_law 179 = .ok (.iconst 1, 1) := dk_4 (dk_at dksL_law_3 3 rfl rfl)
theorem dL_law_180 : decode cL_law 180 = .ok (.iadd, 1) := dk_96 (dk_at dksL_law_3 4 rfl rfl)
theorem dL_law_181 : decode cL_law 181 = .ok (.iaload, 1) := dk_46 (dk_at dksL_law_3 5 rfl rfl)
theorem dL_law_182 : decode cL_law 182 = .ok (.aload_n 0, 1) := dk_42 (dk_at dksL_law_3 6 rfl rfl)
theorem dL_law_183 : decode cL_law 183 = .ok (.iload_n 3, 1) := dk_29 (dk_at dksL_law_3 7 rfl rfl)
theorem dL_law_184 : decode cL_law 184 = .ok (.iconst 2, 1) := dk_5 (dk_at dksL_law_3 8 rfl rfl)
theorem dL_law_185 : decode cL_law 185 = .ok (.iadd, 1) := dk_96 (dk_at dksL_law_3 9 rfl rfl)
theorem dL_law_186 : decode cL_law 186 = .ok (.iaload, 1) := dk_46 (dk_at dksL_law_3 10 rfl rfl)
theorem dL_law_187 : decode cL_law 187 = .ok (.aload_n 0, 1) := dk_42 (dk_at dksL_law_3 11 rfl rfl)
theorem dL_law_188 : decode cL_law 188 = .ok (.iload_n 3, 1) := dk_29 (dk_at dksL_law_3 12 rfl rfl)
theorem dL_law_189 : decode cL_law 189 = .ok (.iconst 3, 1) := dk_6 (dk_at dksL_law_3 13 rfl rfl)
theorem dL_law_190 : decode cL_law 190 = .ok (.iadd, 1) := dk_96 (dk_at dksL_law_3 14 rfl rfl)
theorem dL_law_191 : decode cL_law 191 = .ok (.iaload, 1) := dk_46 (dk_at dksL_law_3 15 rfl rfl)
theorem dL_law_192 : decode cL_law 192 = .ok (.aload_n 0, 1) := dk_42 (dk_at dksL_law_3 16 rfl rfl)
theorem dL_law_193 : decode cL_law 193 = .ok (.iload_n 3, 1) := dk_29 (dk_at dksL_law_3 17 rfl rfl)
theorem dL_law_194 : decode cL_law 194 = .ok (.iconst 4, 1) := dk_7 (dk_at dksL_law_3 18 rfl rfl)
theorem dL_law_195 : decode cL_law 195 = .ok (.iadd, 1) := dk_96 (dk_at dksL_law_3 19 rfl rfl)
theorem dL_law_196 : decode cL_law 196 = .ok (.iaload, 1) := dk_46 (dk_at dksL_law_3 20 rfl rfl)
theorem dL_law_197 : decode cL_law 197 = .ok (.invokevirtual 13, 3) := dk_182 0 13 (dk_at dksL_law_3 21 rfl rfl)
theorem dL_law_200 : decode cL_law 200 = .ok (.aload_n 2, 1) := dk_44 (dk_at dksL_law_4 0 rfl rfl)
theorem dL_law_201 : decode cL_law 201 = .ok (.aload_n 0, 1) := dk_42 (dk_at dksL_law_4 1 rfl rfl)
theorem dL_law_202 : decode cL_law 202 = .ok (.iload_n 3, 1) := dk_29 (dk_at dksL_law_4 2 rfl rfl)
theorem dL_law_203 : decode cL_law 203 = .ok (.iconst 1, 1) := dk_4 (dk_at dksL_law_4 3 rfl rfl)
theorem dL_law_204 : decode cL_law 204 = .ok (.iadd, 1) := dk_96 (dk_at dksL_law_4 4 rfl rfl)
theorem dL_law_205 : decode cL_law 205 = .ok (.iaload, 1) := dk_46 (dk_at dksL_law_4 5 rfl rfl)
theorem dL_law_206 : decode cL_law 206 = .ok (.aload_n 0, 1) := dk_42 (dk_at dksL_law_4 6 rfl rfl)
theorem dL_law_207 : decode cL_law 207 = .ok (.iload_n 3, 1) := dk_29 (dk_at dksL_law_4 7 rfl rfl)
theorem dL_law_208 : decode cL_law 208 = .ok (.iconst 2, 1) := dk_5 (dk_at dksL_law_4 8 rfl rfl)
theorem dL_law_209 : decode cL_law 209 = .ok (.iadd, 1) := dk_96 (dk_at dksL_law_4 9 rfl rfl)
theorem dL_law_210 : decode cL_law 210 = .ok (.iaload, 1) := dk_46 (dk_at dksL_law_4 10 rfl rfl)
theorem dL_law_211 : decode cL_law 211 = .ok (.aload_n 0, 1) := dk_42 (dk_at dksL_law_4 11 rfl rfl)
theorem dL_law_212 : decode cL_law 212 = .ok (.iload_n 3, 1) := dk_29 (dk_at dksL_law_4 12 rfl rfl)
theorem dL_law_213 : decode cL_law 213 = .ok (.iconst 3, 1) := dk_6 (dk_at dksL_law_4 13 rfl rfl)
theorem dL_law_214 : decode cL_law 214 = .ok (.iadd, 1) := dk_96 (dk_at dksL_law_4 14 rfl rfl)
theorem dL_law_215 : decode cL_law 215 = .ok (.iaload, 1) := dk_46 (dk_at dksL_law_4 15 rfl rfl)
theorem dL_law_216 : decode cL_law 216 = .ok (.aload_n 0, 1) := dk_42 (dk_at dksL_law_4 16 rfl rfl)
theorem dL_law_217 : decode cL_law 217 = .ok (.iload_n 3, 1) := dk_29 (dk_at dksL_law_4 17 rfl rfl)
theorem dL_law_218 : decode cL_law 218 = .ok (.iconst 4, 1) := dk_7 (dk_at dksL_law_4 18 rfl rfl)
theorem dL_law_219 : decode cL_law 219 = .ok (.iadd, 1) := dk_96 (dk_at dksL_law_4 19 rfl rfl)
theorem dL_law_220 : decode cL_law 220 = .ok (.iaload, 1) := dk_46 (dk_at dksL_law_4 20 rfl rfl)
theorem dL_law_221 : decode cL_law 221 = .ok (.invokevirtual 17, 3) := dk_182 0 17 (dk_at dksL_law_4 21 rfl rfl)
theorem dL_law_224 : decode cL_law 224 = .ok (.if_icmp .eq 918, 3) := dk_159 3 150 (dk_at dksL_law_5 0 rfl rfl)
theorem dL_law_227 : decode cL_law 227 = .ok (.iconst 0, 1) := dk_3 (dk_at dksL_law_5 3 rfl rfl)
theorem dL_law_228 : decode cL_law 228 = .ok (.ireturn, 1) := dk_172 (dk_at dksL_law_5 4 rfl rfl)
theorem dL_law_229 : decode cL_law 229 = .ok (.aload_n 1, 1) := dk_43 (dk_at dksL_law_5 5 rfl rfl)
theorem dL_law_230 : decode cL_law 230 = .ok (.aload_n 0, 1) := dk_42 (dk_at dksL_law_5 6 rfl rfl)
theorem dL_law_231 : decode cL_law 231 = .ok (.iload_n 3, 1) := dk_29 (dk_at dksL_law_5 7 rfl rfl)
theorem dL_law_232 : decode cL_law 232 = .ok (.iconst 1, 1) := dk_4 (dk_at dksL_law_5 8 rfl rfl)
theorem dL_law_233 : decode cL_law 233 = .ok (.iadd, 1) := dk_96 (dk_at dksL_law_5 9 rfl rfl)
theorem dL_law_234 : decode cL_law 234 = .ok (.iaload, 1) := dk_46 (dk_at dksL_law_5 10 rfl rfl)
theorem dL_law_235 : decode cL_law 235 = .ok (.invokevirtual 18, 3) := dk_182 0 18 (dk_at dksL_law_5 11 rfl rfl)
theorem dL_law_238 : decode cL_law 238 = .ok (.aload_n 2, 1) := dk_44 (dk_at dksL_law_5 14 rfl rfl)
theorem dL_law_239 : decode cL_law 239 = .ok (.aload_n 0, 1) := dk_42 (dk_at dksL_law_5 15 rfl rfl)
theorem dL_law_240 : decode cL_law 240 = .ok (.iload_n 3, 1) := dk_29 (dk_at dksL_law_5 16 rfl rfl)
theorem dL_law_241 : decode cL_law 241 = .ok (.iconst 1, 1) := dk_4 (dk_at dksL_law_5 17 rfl rfl)
theorem dL_law_242 : decode cL_law 242 = .ok (.iadd, 1) := dk_96 (dk_at dksL_law_5 18 rfl rfl)
theorem dL_law_243 : decode cL_law 243 = .ok (.iaload, 1) := dk_46 (dk_at dksL_law_5 19 rfl rfl)
theorem dL_law_244 : decode cL_law 244 = .ok (.invokevirtual 22, 3) := dk_182 0 22 (dk_at dksL_law_5 20 rfl rfl)
theorem dL_law_247 : decode cL_law 247 = .ok (.if_icmp .eq 895, 3) := dk_159 3 127 (dk_at dksL_law_6 0 rfl rfl)
theorem dL_law_250 : decode cL_law 250 = .ok (.iconst 0, 1) := dk_3 (dk_at dksL_law_6 3 rfl rfl)
theorem dL_law_251 : decode cL_law 251 = .ok (.ireturn, 1) := dk_172 (dk_at dksL_law_6 4 rfl rfl)
theorem dL_law_252 : decode cL_law 252 = .ok (.aload_n 1, 1) := dk_43 (dk_at dksL_law_6 5 rfl rfl)
theorem dL_law_253 : decode cL_law 253 = .ok (.aload_n 0, 1) := dk_42 (dk_at dksL_law_6 6 rfl rfl)
theorem dL_law_254 : decode cL_law 254 = .ok (.iload_n 3, 1) := dk_29 (dk_at dksL_law_6 7 rfl rfl)
theorem dL_law_255 : decode cL_law 255 = .ok (.iconst 1, 1) := dk_4 (dk_at dksL_law_6 8 rfl rfl)
theorem dL_law_256 : decode cL_law 256 = .ok (.iadd, 1) := dk_96 (dk_at dksL_law_6 9 rfl rfl)
theorem dL_law_257 : decode cL_law 257 = .ok (.iaload, 1) := dk_46 (dk_at dksL_law_6 10 rfl rfl)
theorem dL_law_258 : decode cL_law 258 = .ok (.aload_n 0, 1) := dk_42 (dk_at dksL_law_6 11 rfl rfl)
theorem dL_law_259 : decode cL_law 259 = .ok (.iload_n 3, 1) := dk_29 (dk_at dksL_law_6 12 rfl rfl)
theorem dL_law_260 : decode cL_law 260 = .ok (.iconst 2, 1) := dk_5 (dk_at dksL_law_6 13 rfl rfl)
theorem dL_law_261 : decode cL_law 261 = .ok (.iadd, 1) := dk_96 (dk_at dksL_law_6 14 rfl rfl)
theorem dL_law_262 : decode cL_law 262 = .ok (.iaload, 1) := dk_46 (dk_at dksL_law_6 15 rfl rfl)
theorem dL_law_263 : decode cL_law 263 = .ok (.aload_n 0, 1) := dk_42 (dk_at dksL_law_6 16 rfl rfl)
theorem dL_law_264 : decode cL_law 264 = .ok (.iload_n 3, 1) := dk_29 (dk_at dksL_law_6 17 rfl rfl)
theorem dL_law_265 : decode cL_law 265 = .ok (.iconst 3, 1) := dk_6 (dk_at dksL_law_6 18 rfl rfl)
theorem dL_law_266 : decode cL_law 266 = .ok (.iadd, 1) := dk_96 (dk_at dksL_law_6 19 rfl rfl)
theorem dL_law_267 : decode cL_law 267 = .ok (.iaload, 1) := dk_46 (dk_at dksL_law_6 20 rfl rfl)
theorem dL_law_268 : decode cL_law 268 = .ok (.aload_n 0, 1) := dk_42 (dk_at dksL_law_6 21 rfl rfl)
theorem dL_law_269 : decode cL_law 269 = .ok (.iload_n 3, 1) := dk_29 (dk_at dksL_law_6 22 rfl rfl)
theorem dL_law_270 : decode cL_law 270 = .ok (.iconst 4, 1) := dk_7 (dk_at dksL_law_6 23 rfl rfl)
theorem dL_law_271 : decode cL_law 271 = .ok (.iadd, 1) := dk_96 (dk_at dksL_law_7 0 rfl rfl)
theorem dL_law_272 : decode cL_law 272 = .ok (.iaload, 1) := dk_46 (dk_at dksL_law_7 1 rfl rfl)
theorem dL_law_273 : decode cL_law 273 = .ok (.aload_n 0, 1) := dk_42 (dk_at dksL_law_7 2 rfl rfl)
theorem dL_law_274 : decode cL_law 274 = .ok (.iload_n 3, 1) := dk_29 (dk_at dksL_law_7 3 rfl rfl)
theorem dL_law_275 : decode cL_law 275 = .ok (.iconst 5, 1) := dk_8 (dk_at dksL_law_7 4 rfl rfl)
theorem dL_law_276 : decode cL_law 276 = .ok (.iadd, 1) := dk_96 (dk_at dksL_law_7 5 rfl rfl)
theorem dL_law_277 : decode cL_law 277 = .ok (.iaload, 1) := dk_46 (dk_at dksL_law_7 6 rfl rfl)
theorem dL_law_278 : decode cL_law 278 = .ok (.invokevirtual 23, 3) := dk_182 0 23 (dk_at dksL_law_7 7 rfl rfl)
theorem dL_law_281 : decode cL_law 281 = .ok (.aload_n 2, 1) := dk_44 (dk_at dksL_law_7 10 rfl rfl)
theorem dL_law_282 : decode cL_law 282 = .ok (.aload_n 0, 1) := dk_42 (dk_at dksL_law_7 11 rfl rfl)
theorem dL_law_283 : decode cL_law 283 = .ok (.iload_n 3, 1) := dk_29 (dk_at dksL_law_7 12 rfl rfl)
theorem dL_law_284 : decode cL_law 284 = .ok (.iconst 1, 1) := dk_4 (dk_at dksL_law_7 13 rfl rfl)
theorem dL_law_285 : decode cL_law 285 = .ok (.iadd, 1) := dk_96 (dk_at dksL_law_7 14 rfl rfl)
theorem dL_law_286 : decode cL_law 286 = .ok (.iaload, 1) := dk_46 (dk_at dksL_law_7 15 rfl rfl)
theorem dL_law_287 : decode cL_law 287 = .ok (.aload_n 0, 1) := dk_42 (dk_at dksL_law_7 16 rfl rfl)
theorem dL_law_288 : decode cL_law 288 = .ok (.iload_n 3, 1) := dk_29 (dk_at dksL_law_7 17 rfl rfl)
theorem dL_law_289 : decode cL_law 289 = .ok (.iconst 2, 1) := dk_5 (dk_at dksL_law_7 18 rfl rfl)
theorem dL_law_290 : decode cL_law 290 = .ok (.iadd, 1) := dk_96 (dk_at dksL_law_7 19 rfl rfl)
theorem dL_law_291 : decode cL_law 291 = .ok (.iaload, 1) := dk_46 (dk_at dksL_law_7 20 rfl rfl)
theorem dL_law_292 : decode cL_law 292 = .ok (.aload_n 0, 1) := dk_42 (dk_at dksL_law_7 21 rfl rfl)
theorem dL_law_293 : decode cL_law 293 = .ok (.iload_n 3, 1) := dk_29 (dk_at dksL_law_7 22 rfl rfl)
theorem dL_law_294 : decode cL_law 294 = .ok (.iconst 3, 1) := dk_6 (dk_at dksL_law_7 23 rfl rfl)
theorem dL_law_295 : decode cL_law 295 = .ok (.iadd, 1) := dk_96 (dk_at dksL_law_8 0 rfl rfl)
theorem dL_law_296 : decode cL_law 296 = .ok (.iaload, 1) := dk_46 (dk_at dksL_law_8 1 rfl rfl)
theorem dL_law_297 : decode cL_law 297 = .ok (.aload_n 0, 1) := dk_42 (dk_at dksL_law_8 2 rfl rfl)
theorem dL_law_298 : decode cL_law 298 = .ok (.iload_n 3, 1) := dk_29 (dk_at dksL_law_8 3 rfl rfl)
theorem dL_law_299 : decode cL_law 299 = .ok (.iconst 4, 1) := dk_7 (dk_at dksL_law_8 4 rfl rfl)
theorem dL_law_300 : decode cL_law 300 = .ok (.iadd, 1) := dk_96 (dk_at dksL_law_8 5 rfl rfl)
theorem dL_law_301 : decode cL_law 301 = .ok (.iaload, 1) := dk_46 (dk_at dksL_law_8 6 rfl rfl)
theorem dL_law_302 : decode cL_law 302 = .ok (.aload_n 0, 1) := dk_42 (dk_at dksL_law_8 7 rfl rfl)
theorem dL_law_303 : decode cL_law 303 = .ok (.iload_n 3, 1) := dk_29 (dk_at dksL_law_8 8 rfl rfl)
theorem dL_law_304 : decode cL_law 304 = .ok (.iconst 5, 1) := dk_8 (dk_at dksL_law_8 9 rfl rfl)
theorem dL_law_305 : decode cL_law 305 = .ok (.iadd, 1) := dk_96 (dk_at dksL_law_8 10 rfl rfl)
theorem dL_law_306 : decode cL_law 306 = .ok (.iaload, 1) := dk_46 (dk_at dksL_law_8 11 rfl rfl)
theorem dL_law_307 : decode cL_law 307 = .ok (.invokevirtual 27, 3) := dk_182 0 27 (dk_at dksL_law_8 12 rfl rfl)
theorem dL_law_310 : decode cL_law 310 = .ok (.if_icmp .eq 832, 3) := dk_159 3 64 (dk_at dksL_law_8 15 rfl rfl)
theorem dL_law_313 : decode cL_law 313 = .ok (.iconst 0, 1) := dk_3 (dk_at dksL_law_8 18 rfl rfl)
theorem dL_law_314 : decode cL_law 314 = .ok (.ireturn, 1) := dk_172 (dk_at dksL_law_8 19 rfl rfl)
theorem dL_law_315 : decode cL_law 315 = .ok (.aload_n 1, 1) := dk_43 (dk_at dksL_law_8 20 rfl rfl)
theorem dL_law_316 : decode cL_law 316 = .ok (.aload_n 0, 1) := dk_42 (dk_at dksL_law_8 21 rfl rfl)
theorem dL_law_317 : decode cL_law 317 = .ok (.iload_n 3, 1) := dk_29 (dk_at dksL_law_8 22 rfl rfl)
theorem dL_law_318 : decode cL_law 318 = .ok (.iconst 1, 1) := dk_4 (dk_at dksL_law_8 23 rfl rfl)
theorem dL_law_319 : decode cL_law 319 = .ok (.iadd, 1) := dk_96 (dk_at dksL_law_9 0 rfl rfl)
theorem dL_law_320 : decode cL_law 320 = .ok (.iaload, 1) := dk_46 (dk_at dksL_law_9 1 rfl rfl)
theorem dL_law_321 : decode cL_law 321 = .ok (.invokevirtual 28, 3) := dk_182 0 28 (dk_at dksL_law_9 2 rfl rfl)
theorem dL_law_324 : decode cL_law 324 = .ok (.aload_n 2, 1) := dk_44 (dk_at dksL_law_9 5 rfl rfl)
theorem dL_law_325 : decode cL_law 325 = .ok (.aload_n 0, 1) := dk_42 (dk_at dksL_law_9 6 rfl rfl)
theorem dL_law_326 : decode cL_law 326 = .ok (.iload_n 3, 1) := dk_29 (dk_at dksL_law_9 7 rfl rfl)
theorem dL_law_327 : decode cL_law 327 = .ok (.iconst 1, 1) := dk_4 (dk_at dksL_law_9 8 rfl rfl)
theorem dL_law_328 : decode cL_law 328 = .ok (.iadd, 1) := dk_96 (dk_at dksL_law_9 9 rfl rfl)
theorem dL_law_329 : decode cL_law 329 = .ok (.iaload, 1) := dk_46 (dk_at dksL_law_9 10 rfl rfl)
theorem dL_law_330 : decode cL_law 330 = .ok (.invokevirtual 32, 3) := dk_182 0 32 (dk_at dksL_law_9 11 rfl rfl)
theorem dL_law_333 : decode cL_law 333 = .ok (.if_icmp .eq 809, 3) := dk_159 3 41 (dk_at dksL_law_9 14 rfl rfl)
theorem dL_law_336 : decode cL_law 336 = .ok (.iconst 0, 1) := dk_3 (dk_at dksL_law_9 17 rfl rfl)
theorem dL_law_337 : decode cL_law 337 = .ok (.ireturn, 1) := dk_172 (dk_at dksL_law_9 18 rfl rfl)
theorem dL_law_338 : decode cL_law 338 = .ok (.aload_n 1, 1) := dk_43 (dk_at dksL_law_9 19 rfl rfl)
theorem dL_law_339 : decode cL_law 339 = .ok (.aload_n 0, 1) := dk_42 (dk_at dksL_law_9 20 rfl rfl)
theorem dL_law_340 : decode cL_law 340 = .ok (.iload_n 3, 1) := dk_29 (dk_at dksL_law_9 21 rfl rfl)
theorem dL_law_341 : decode cL_law 341 = .ok (.iconst 1, 1) := dk_4 (dk_at dksL_law_9 22 rfl rfl)
theorem dL_law_342 : decode cL_law 342 = .ok (.iadd, 1) := dk_96 (dk_at dksL_law_9 23 rfl rfl)
theorem dL_law_343 : decode cL_law 343 = .ok (.iaload, 1) := dk_46 (dk_at dksL_law_10 0 rfl rfl)
theorem dL_law_344 : decode cL_law 344 = .ok (.invokevirtual 33, 3) := dk_182 0 33 (dk_at dksL_law_10 1 rfl rfl)
theorem dL_law_347 : decode cL_law 347 = .ok (.aload_n 2, 1) := dk_44 (dk_at dksL_law_10 4 rfl rfl)
theorem dL_law_348 : decode cL_law 348 = .ok (.aload_n 0, 1) := dk_42 (dk_at dksL_law_10 5 rfl rfl)
theorem dL_law_349 : decode cL_law 349 = .ok (.iload_n 3, 1) := dk_29 (dk_at dksL_law_10 6 rfl rfl)
theorem dL_law_350 : decode cL_law 350 = .ok (.iconst 1, 1) := dk_4 (dk_at dksL_law_10 7 rfl rfl)
theorem dL_law_351 : decode cL_law 351 = .ok (.iadd, 1) := dk_96 (dk_at dksL_law_10 8 rfl rfl)
theorem dL_law_352 : decode cL_law 352 = .ok (.iaload, 1) := dk_46 (dk_at dksL_law_10 9 rfl rfl)
theorem dL_law_353 : decode cL_law 353 = .ok (.invokevirtual 36, 3) := dk_182 0 36 (dk_at dksL_law_10 10 rfl rfl)
theorem dL_law_356 : decode cL_law 356 = .ok (.if_icmp .eq 786, 3) := dk_159 3 18 (dk_at dksL_law_10 13 rfl rfl)
theorem dL_law_359 : decode cL_law 359 = .ok (.iconst 0, 1) := dk_3 (dk_at dksL_law_10 16 rfl rfl)
theorem dL_law_360 : decode cL_law 360 = .ok (.ireturn, 1) := dk_172 (dk_at dksL_law_10 17 rfl rfl)
theorem dL_law_361 : decode cL_law 361 = .ok (.aload_n 1, 1) := dk_43 (dk_at dksL_law_10 18 rfl rfl)
theorem dL_law_362 : decode cL_law 362 = .ok (.aload_n 0, 1) := dk_42 (dk_at dksL_law_10 19 rfl rfl)
theorem dL_law_363 : decode cL_law 363 = .ok (.iload_n 3, 1) := dk_29 (dk_at dksL_law_10 20 rfl rfl)
theorem dL_law_364 : decode cL_law 364 = .ok (.iconst 1, 1) := dk_4 (dk_at dksL_law_10 21 rfl rfl)
theorem dL_law_365 : decode cL_law 365 = .ok (.iadd, 1) := dk_96 (dk_at dksL_law_10 22 rfl rfl)
theorem dL_law_366 : decode cL_law 366 = .ok (.iaload, 1) := dk_46 (dk_at dksL_law_10 23 rfl rfl)
theorem dL_law_367 : decode cL_law 367 = .ok (.invokevirtual 37, 3) := dk_182 0 37 (dk_at dksL_law_11 0 rfl rfl)
theorem dL_law_370 : decode cL_law 370 = .ok (.aload_n 2, 1) := dk_44 (dk_at dksL_law_11 3 rfl rfl)
theorem dL_law_371 : decode cL_law 371 = .ok (.aload_n 0, 1) := dk_42 (dk_at dksL_law_11 4 rfl rfl)
theorem dL_law_372 : decode cL_law 372 = .ok (.iload_n 3, 1) := dk_29 (dk_at dksL_law_11 5 rfl rfl)
theorem dL_law_373 : decode cL_law 373 = .ok (.iconst 1, 1) := dk_4 (dk_at dksL_law_11 6 rfl rfl)
theorem dL_law_374 : decode cL_law 374 = .ok (.iadd, 1) := dk_96 (dk_at dksL_law_11 7 rfl rfl)
theorem dL_law_375 : decode cL_law 375 = .ok (.iaload, 1) := dk_46 (dk_at dksL_law_11 8 rfl rfl)
theorem dL_law_376 : decode cL_law 376 = .ok (.invokevirtual 40, 3) := dk_182 0 40 (dk_at dksL_law_11 9 rfl rfl)
theorem dL_law_379 : decode cL_law 379 = .ok (.if_icmp .eq 763, 3) := dk_159 2 251 (dk_at dksL_law_11 12 rfl rfl)
theorem dL_law_382 : decode cL_law 382 = .ok (.iconst 0, 1) := dk_3 (dk_at dksL_law_11 15 rfl rfl)
theorem dL_law_383 : decode cL_law 383 = .ok (.ireturn, 1) := dk_172 (dk_at dksL_law_11 16 rfl rfl)
theorem dL_law_384 : decode cL_law 384 = .ok (.aload_n 1, 1) := dk_43 (dk_at dksL_law_11 17 rfl rfl)
theorem dL_law_385 : decode cL_law 385 = .ok (.aload_n 0, 1) := dk_42 (dk_at dksL_law_11 18 rfl rfl)
theorem dL_law_386 : decode cL_law 386 = .ok (.iload_n 3, 1) := dk_29 (dk_at dksL_law_11 19 rfl rfl)
theorem dL_law_387 : decode cL_law 387 = .ok (.iconst 1, 1) := dk_4 (dk_at dksL_law_11 20 rfl rfl)
theorem dL_law_388 : decode cL_law 388 = .ok (.iadd, 1) := dk_96 (dk_at dksL_law_11 21 rfl rfl)
theorem dL_law_389 : decode cL_law 389 = .ok (.iaload, 1) := dk_46 (dk_at dksL_law_11 22 rfl rfl)
theorem dL_law_390 : decode cL_law 390 = .ok (.invokevirtual 41, 3) := dk_182 0 41 (dk_at dksL_law_12 0 rfl rfl)
theorem dL_law_393 : decode cL_law 393 = .ok (.aload_n 2, 1) := dk_44 (dk_at dksL_law_12 3 rfl rfl)
theorem dL_law_394 : decode cL_law 394 = .ok (.aload_n 0, 1) := dk_42 (dk_at dksL_law_12 4 rfl rfl)
theorem dL_law_395 : decode cL_law 395 = .ok (.iload_n 3, 1) := dk_29 (dk_at dksL_law_12 5 rfl rfl)
theorem dL_law_396 : decode cL_law 396 = .ok (.iconst 1, 1) := dk_4 (dk_at dksL_law_12 6 rfl rfl)
theorem dL_law_397 : decode cL_law 397 = .ok (.iadd, 1) := dk_96 (dk_at dksL_law_12 7 rfl rfl)
theorem dL_law_398 : decode cL_law 398 = .ok (.iaload, 1) := dk_46 (dk_at dksL_law_12 8 rfl rfl)
theorem dL_law_399 : decode cL_law 399 = .ok (.invokevirtual 44, 3) := dk_182 0 44 (dk_at dksL_law_12 9 rfl rfl)
theorem dL_law_402 : decode cL_law 402 = .ok (.if_icmp .eq 740, 3) := dk_159 2 228 (dk_at dksL_law_12 12 rfl rfl)
theorem dL_law_405 : decode cL_law 405 = .ok (.iconst 0, 1) := dk_3 (dk_at dksL_law_12 15 rfl rfl)
theorem dL_law_406 : decode cL_law 406 = .ok (.ireturn, 1) := dk_172 (dk_at dksL_law_12 16 rfl rfl)
theorem dL_law_407 : decode cL_law 407 = .ok (.aload_n 1, 1) := dk_43 (dk_at dksL_law_12 17 rfl rfl)
theorem dL_law_408 : decode cL_law 408 = .ok (.aload_n 0, 1) := dk_42 (dk_at dksL_law_12 18 rfl rfl)
theorem dL_law_409 : decode cL_law 409 = .ok (.iload_n 3, 1) := dk_29 (dk_at dksL_law_12 19 rfl rfl)
theorem dL_law_410 : decode cL_law 410 = .ok (.iconst 1, 1) := dk_4 (dk_at dksL_law_12 20 rfl rfl)
theorem dL_law_411 : decode cL_law 411 = .ok (.iadd, 1) := dk_96 (dk_at dksL_law_12 21 rfl rfl)
theorem dL_law_412 : decode cL_law 412 = .ok (.iaload, 1) := dk_46 (dk_at dksL_law_12 22 rfl rfl)
theorem dL_law_413 : decode cL_law 413 = .ok (.aload_n 0, 1) := dk_42 (dk_at dksL_law_12 23 rfl rfl)
theorem dL_law_414 : decode cL_law 414 = .ok (.iload_n 3, 1) := dk_29 (dk_at dksL_law_13 0 rfl rfl)
theorem dL_law_415 : decode cL_law 415 = .ok (.iconst 2, 1) := dk_5 (dk_at dksL_law_13 1 rfl rfl)
theorem dL_law_416 : decode cL_law 416 = .ok (.iadd, 1) := dk_96 (dk_at dksL_law_13 2 rfl rfl)
theorem dL_law_417 : decode cL_law 417 = .ok (.iaload, 1) := dk_46 (dk_at dksL_law_13 3 rfl rfl)
theorem dL_law_418 : decode cL_law 418 = .ok (.invokevirtual 45, 3) := dk_182 0 45 (dk_at dksL_law_13 4 rfl rfl)
theorem dL_law_421 : decode cL_law 421 = .ok (.aload_n 2, 1) := dk_44 (dk_at dksL_law_13 7 rfl rfl)
theorem dL_law_422 : decode cL_law 422 = .ok (.aload_n 0, 1) := dk_42 (dk_at dksL_law_13 8 rfl rfl)
theorem dL_law_423 : decode cL_law 423 = .ok (.iload_n 3, 1) := dk_29 (dk_at dksL_law_13 9 rfl rfl)
theorem dL_law_424 : decode cL_law 424 = .ok (.iconst 1, 1) := dk_4 (dk_at dksL_law_13 10 rfl rfl)
theorem dL_law_425 : decode cL_law 425 = .ok (.iadd, 1) := dk_96 (dk_at dksL_law_13 11 rfl rfl)
theorem dL_law_426 : decode cL_law 426 = .ok (.iaload, 1) := dk_46 (dk_at dksL_law_13 12 rfl rfl)
theorem dL_law_427 : decode cL_law 427 = .ok (.aload_n 0, 1) := dk_42 (dk_at dksL_law_13 13 rfl rfl)
theorem dL_law_428 : decode cL_law 428 = .ok (.iload_n 3, 1) := dk_29 (dk_at dksL_law_13 14 rfl rfl)
theorem dL_law_429 : decode cL_law 429 = .ok (.iconst 2, 1) := dk_5 (dk_at dksL_law_13 15 rfl rfl)
theorem dL_law_430 : decode cL_law 430 = .ok (.iadd, 1) := dk_96 (dk_at dksL_law_13 16 rfl rfl)
theorem dL_law_431 : decode cL_law 431 = .ok (.iaload, 1) := dk_46 (dk_at dksL_law_13 17 rfl rfl)
theorem dL_law_432 : decode cL_law 432 = .ok (.invokevirtual 49, 3) := dk_182 0 49 (dk_at dksL_law_13 18 rfl rfl)
theorem dL_law_435 : decode cL_law 435 = .ok (.if_icmp .eq 707, 3) := dk_159 2 195 (dk_at dksL_law_13 21 rfl rfl)
theorem dL_law_438 : decode cL_law 438 = .ok (.iconst 0, 1) := dk_3 (dk_at dksL_law_14 0 rfl rfl)
theorem dL_law_439 : decode cL_law 439 = .ok (.ireturn, 1) := dk_172 (dk_at dksL_law_14 1 rfl rfl)
theorem dL_law_440 : decode cL_law 440 = .ok (.aload_n 1, 1) := dk_43 (dk_at dksL_law_14 2 rfl rfl)
theorem dL_law_441 : decode cL_law 441 = .ok (.aload_n 0, 1) := dk_42 (dk_at dksL_law_14 3 rfl rfl)
theorem dL_law_442 : decode cL_law 442 = .ok (.iload_n 3, 1) := dk_29 (dk_at dksL_law_14 4 rfl rfl)
theorem dL_law_443 : decode cL_law 443 = .ok (.iconst 1, 1) := dk_4 (dk_at dksL_law_14 5 rfl rfl)
theorem dL_law_444 : decode cL_law 444 = .ok (.iadd, 1) := dk_96 (dk_at dksL_law_14 6 rfl rfl)
theorem dL_law_445 : decode cL_law 445 = .ok (.iaload, 1) := dk_46 (dk_at dksL_law_14 7 rfl rfl)
theorem dL_law_446 : decode cL_law 446 = .ok (.aload_n 0, 1) := dk_42 (dk_at dksL_law_14 8 rfl rfl)
theorem dL_law_447 : decode cL_law 447 = .ok (.iload_n 3, 1) := dk_29 (dk_at dksL_law_14 9 rfl rfl)
theorem dL_law_448 : decode cL_law 448 = .ok (.iconst 2, 1) := dk_5 (dk_at dksL_law_14 10 rfl rfl)
theorem dL_law_449 : decode cL_law 449 = .ok (.iadd, 1) := dk_96 (dk_at dksL_law_14 11 rfl rfl)
theorem dL_law_450 : decode cL_law 450 = .ok (.iaload, 1) := dk_46 (dk_at dksL_law_14 12 rfl rfl)
theorem dL_law_451 : decode cL_law 451 = .ok (.invokevirtual 50, 3) := dk_182 0 50 (dk_at dksL_law_14 13 rfl rfl)
theorem dL_law_454 : decode cL_law 454 = .ok (.aload_n 2, 1) := dk_44 (dk_at dksL_law_14 16 rfl rfl)
theorem dL_law_455 : decode cL_law 455 = .ok (.aload_n 0, 1) := dk_42 (dk_at dksL_law_14 17 rfl rfl)
theorem dL_law_456 : decode cL_law 456 = .ok (.iload_n 3, 1) := dk_29 (dk_at dksL_law_14 18 rfl rfl)
theorem dL_law_457 : decode cL_law 457 = .ok (.iconst 1, 1) := dk_4 (dk_at dksL_law_14 19 rfl rfl)
theorem dL_law_458 : decode cL_law 458 = .ok (.iadd, 1) := dk_96 (dk_at dksL_law_14 20 rfl rfl)
theorem dL_law_459 : decode cL_law 459 = .ok (.iaload, 1) := dk_46 (dk_at dksL_law_14 21 rfl rfl)
theorem dL_law_460 : decode cL_law 460 = .ok (.aload_n 0, 1) := dk_42 (dk_at dksL_law_14 22 rfl rfl)
theorem dL_law_461 : decode cL_law 461 = .ok (.iload_n 3, 1) := dk_29 (dk_at dksL_law_14 23 rfl rfl)
theorem dL_law_462 : decode cL_law 462 = .ok (.iconst 2, 1) := dk_5 (dk_at dksL_law_15 0 rfl rfl)
theorem dL_law_463 : decode cL_law 463 = .ok (.iadd, 1) := dk_96 (dk_at dksL_law_15 1 rfl rfl)
theorem dL_law_464 : decode cL_law 464 = .ok (.iaload, 1) := dk_46 (dk_at dksL_law_15 2 rfl rfl)
theorem dL_law_465 : decode cL_law 465 = .ok (.invokevirtual 53, 3) := dk_182 0 53 (dk_at dksL_law_15 3 rfl rfl)
theorem dL_law_468 : decode cL_law 468 = .ok (.if_icmp .eq 674, 3) := dk_159 2 162 (dk_at dksL_law_15 6 rfl rfl)
theorem dL_law_471 : decode cL_law 471 = .ok (.iconst 0, 1) := dk_3 (dk_at dksL_law_15 9 rfl rfl)
theorem dL_law_472 : decode cL_law 472 = .ok (.ireturn, 1) := dk_172 (dk_at dksL_law_15 10 rfl rfl)
theorem dL_law_473 : decode cL_law 473 = .ok (.aload_n 1, 1) := dk_43 (dk_at dksL_law_15 11 rfl rfl)
theorem dL_law_474 : decode cL_law 474 = .ok (.aload_n 0, 1) := dk_42 (dk_at dksL_law_15 12 rfl rfl)
theorem dL_law_475 : decode cL_law 475 = .ok (.iload_n 3, 1) := dk_29 (dk_at dksL_law_15 13 rfl rfl)
theorem dL_law_476 : decode cL_law 476 = .ok (.iconst 1, 1) := dk_4 (dk_at dksL_law_15 14 rfl rfl)
theorem dL_law_477 : decode cL_law 477 = .ok (.iadd, 1) := dk_96 (dk_at dksL_law_15 15 rfl rfl)
theorem dL_law_478 : decode cL_law 478 = .ok (.iaload, 1) := dk_46 (dk_at dksL_law_15 16 rfl rfl)
theorem dL_law_479 : decode cL_law 479 = .ok (.aload_n 0, 1) := dk_42 (dk_at dksL_law_15 17 rfl rfl)
theorem dL_law_480 : decode cL_law 480 = .ok (.iload_n 3, 1) := dk_29 (dk_at dksL_law_15 18 rfl rfl)
theorem dL_law_481 : decode cL_law 481 = .ok (.iconst 2, 1) := dk_5 (dk_at dksL_law_15 19 rfl rfl)
theorem dL_law_482 : decode cL_law 482 = .ok (.iadd, 1) := dk_96 (dk_at dksL_law_15 20 rfl rfl)
theorem dL_law_483 : decode cL_law 483 = .ok (.iaload, 1) := dk_46 (dk_at dksL_law_15 21 rfl rfl)
theorem dL_law_484 : decode cL_law 484 = .ok (.invokevirtual 54, 3) := dk_182 0 54 (dk_at dksL_law_16 0 rfl rfl)
theorem dL_law_487 : decode cL_law 487 = .ok (.aload_n 2, 1) := dk_44 (dk_at dksL_law_16 3 rfl rfl)
theorem dL_law_488 : decode cL_law 488 = .ok (.aload_n 0, 1) := dk_42 (dk_at dksL_law_16 4 rfl rfl)
theorem dL_law_489 : decode cL_law 489 = .ok (.iload_n 3, 1) := dk_29 (dk_at dksL_law_16 5 rfl rfl)
theorem dL_law_490 : decode cL_law 490 = .ok (.iconst 1, 1) := dk_4 (dk_at dksL_law_16 6 rfl rfl)
theorem dL_law_491 : decode cL_law 491 = .ok (.iadd, 1) := dk_96 (dk_at dksL_law_16 7 rfl rfl)
theorem dL_law_492 : decode cL_law 492 = .ok (.iaload, 1) := dk_46 (dk_at dksL_law_16 8 rfl rfl)
theorem dL_law_493 : decode cL_law 493 = .ok (.aload_n 0, 1) := dk_42 (dk_at dksL_law_16 9 rfl rfl)
theorem dL_law_494 : decode cL_law 494 = .ok (.iload_n 3, 1) := dk_29 (dk_at dksL_law_16 10 rfl rfl)
theorem dL_law_495 : decode cL_law 495 = .ok (.iconst 2, 1) := dk_5 (dk_at dksL_law_16 11 rfl rfl)
theorem dL_law_496 : decode cL_law 496 = .ok (.iadd, 1) := dk_96 (dk_at dksL_law_16 12 rfl rfl)
theorem dL_law_497 : decode cL_law 497 = .ok (.iaload, 1) := dk_46 (dk_at dksL_law_16 13 rfl rfl)
theorem dL_law_498 : decode cL_law 498 = .ok (.invokevirtual 57, 3) := dk_182 0 57 (dk_at dksL_law_16 14 rfl rfl)
theorem dL_law_501 : decode cL_law 501 = .ok (.if_icmp .eq 641, 3) := dk_159 2 129 (dk_at dksL_law_16 17 rfl rfl)
theorem dL_law_504 : decode cL_law 504 = .ok (.iconst 0, 1) := dk_3 (dk_at dksL_law_16 20 rfl rfl)
theorem dL_law_505 : decode cL_law 505 = .ok (.ireturn, 1) := dk_172 (dk_at dksL_law_16 21 rfl rfl)
theorem dL_law_506 : decode cL_law 506 = .ok (.aload_n 1, 1) := dk_43 (dk_at dksL_law_16 22 rfl rfl)
theorem dL_law_507 : decode cL_law 507 = .ok (.aload_n 0, 1) := dk_42 (dk_at dksL_law_16 23 rfl rfl)
theorem dL_law_508 : decode cL_law 508 = .ok (.iload_n 3, 1) := dk_29 (dk_at dksL_law_17 0 rfl rfl)
theorem dL_law_509 : decode cL_law 509 = .ok (.iconst 1, 1) := dk_4 (dk_at dksL_law_17 1 rfl rfl)
theorem dL_law_510 : decode cL_law 510 = .ok (.iadd, 1) := dk_96 (dk_at dksL_law_17 2 rfl rfl)
theorem dL_law_511 : decode cL_law 511 = .ok (.iaload, 1) := dk_46 (dk_at dksL_law_17 3 rfl rfl)
theorem dL_law_512 : decode cL_law 512 = .ok (.aload_n 0, 1) := dk_42 (dk_at dksL_law_17 4 rfl rfl)
theorem dL_law_513 : decode cL_law 513 = .ok (.iload_n 3, 1) := dk_29 (dk_at dksL_law_17 5 rfl rfl)
theorem dL_law_514 : decode cL_law 514 = .ok (.iconst 2, 1) := dk_5 (dk_at dksL_law_17 6 rfl rfl)
theorem dL_law_515 : decode cL_law 515 = .ok (.iadd, 1) := dk_96 (dk_at dksL_law_17 7 rfl rfl)
theorem dL_law_516 : decode cL_law 516 = .ok (.iaload, 1) := dk_46 (dk_at dksL_law_17 8 rfl rfl)
theorem dL_law_517 : decode cL_law 517 = .ok (.aload_n 0, 1) := dk_42 (dk_at dksL_law_17 9 rfl rfl)
theorem dL_law_518 : decode cL_law 518 = .ok (.iload_n 3, 1) := dk_29 (dk_at dksL_law_17 10 rfl rfl)
theorem dL_law_519 : decode cL_law 519 = .ok (.iconst 3, 1) := dk_6 (dk_at dksL_law_17 11 rfl rfl)
theorem dL_law_520 : decode cL_law 520 = .ok (.iadd, 1) := dk_96 (dk_at dksL_law_17 12 rfl rfl)
theorem dL_law_521 : decode cL_law 521 = .ok (.iaload, 1) := dk_46 (dk_at dksL_law_17 13 rfl rfl)
theorem dL_law_522 : decode cL_law 522 = .ok (.invokevirtual 58, 3) := dk_182 0 58 (dk_at dksL_law_17 14 rfl rfl)
theorem dL_law_525 : decode cL_law 525 = .ok (.aload_n 2, 1) := dk_44 (dk_at dksL_law_17 17 rfl rfl)
theorem dL_law_526 : decode cL_law 526 = .ok (.aload_n 0, 1) := dk_42 (dk_at dksL_law_17 18 rfl rfl)
theorem dL_law_527 : decode cL_law 527 = .ok (.iload_n 3, 1) := dk_29 (dk_at dksL_law_17 19 rfl rfl)
theorem dL_law_528 : decode cL_law 528 = .ok (.iconst 1, 1) := dk_4 (dk_at dksL_law_17 20 rfl rfl)
theorem dL_law_529 : decode cL_law 529 = .ok (.iadd, 1) := dk_96 (dk_at dksL_law_17 21 rfl rfl)
theorem dL_law_530 : decode cL_law 530 = .ok (.iaload, 1) := dk_46 (dk_at dksL_law_17 22 rfl rfl)
theorem dL_law_531 : decode cL_law 531 = .ok (.aload_n 0, 1) := dk_42 (dk_at dksL_law_17 23 rfl rfl)
theorem dL_law_532 : decode cL_law 532 = .ok (.iload_n 3, 1) := dk_29 (dk_at dksL_law_18 0 rfl rfl)
theorem dL_law_533 : decode cL_law 533 = .ok (.iconst 2, 1) := dk_5 (dk_at dksL_law_18 1 rfl rfl)
theorem dL_law_534 : decode cL_law 534 = .ok (.iadd, 1) := dk_96 (dk_at dksL_law_18 2 rfl rfl)
theorem dL_law_535 : decode cL_law 535 = .ok (.iaload, 1) := dk_46 (dk_at dksL_law_18 3 rfl rfl)
theorem dL_law_536 : decode cL_law 536 = .ok (.aload_n 0, 1) := dk_42 (dk_at dksL_law_18 4 rfl rfl)
theorem dL_law_537 : decode cL_law 537 = .ok (.iload_n 3, 1) := dk_29 (dk_at dksL_law_18 5 rfl rfl)
theorem dL_law_538 : decode cL_law 538 = .ok (.iconst 3, 1) := dk_6 (dk_at dksL_law_18 6 rfl rfl)
theorem dL_law_539 : decode cL_law 539 = .ok (.iadd, 1) := dk_96 (dk_at dksL_law_18 7 rfl rfl)
theorem dL_law_540 : decode cL_law 540 = .ok (.iaload, 1) := dk_46 (dk_at dksL_law_18 8 rfl rfl)
theorem dL_law_541 : decode cL_law 541 = .ok (.invokevirtual 62, 3) := dk_182 0 62 (dk_at dksL_law_18 9 rfl rfl)
theorem dL_law_544 : decode cL_law 544 = .ok (.if_icmp .eq 598, 3) := dk_159 2 86 (dk_at dksL_law_18 12 rfl rfl)
theorem dL_law_547 : decode cL_law 547 = .ok (.iconst 0, 1) := dk_3 (dk_at dksL_law_18 15 rfl rfl)
theorem dL_law_548 : decode cL_law 548 = .ok (.ireturn, 1) := dk_172 (dk_at dksL_law_18 16 rfl rfl)
theorem dL_law_549 : decode cL_law 549 = .ok (.aload_n 1, 1) := dk_43 (dk_at dksL_law_18 17 rfl rfl)
theorem dL_law_550 : decode cL_law 550 = .ok (.aload_n 0, 1) := dk_42 (dk_at dksL_law_18 18 rfl rfl)
theorem dL_law_551 : decode cL_law 551 = .ok (.iload_n 3, 1) := dk_29 (dk_at dksL_law_18 19 rfl rfl)
theorem dL_law_552 : decode cL_law 552 = .ok (.iconst 1, 1) := dk_4 (dk_at dksL_law_18 20 rfl rfl)
theorem dL_law_553 : decode cL_law 553 = .ok (.iadd, 1) := dk_96 (dk_at dksL_law_18 21 rfl rfl)
theorem dL_law_554 : decode cL_law 554 = .ok (.iaload, 1) := dk_46 (dk_at dksL_law_18 22 rfl rfl)
theorem dL_law_555 : decode cL_law 555 = .ok (.aload_n 0, 1) := dk_42 (dk_at dksL_law_18 23 rfl rfl)
theorem dL_law_556 : decode cL_law 556 = .ok (.iload_n 3, 1) := dk_29 (dk_at dksL_law_19 0 rfl rfl)
theorem dL_law_557 : decode cL_law 557 = .ok (.iconst 2, 1) := dk_5 (dk_at dksL_law_19 1 rfl rfl)
theorem dL_law_558 : decode cL_law 558 = .ok (.iadd, 1) := dk_96 (dk_at dksL_law_19 2 rfl rfl)
theorem dL_law_559 : decode cL_law 559 = .ok (.iaload, 1) := dk_46 (dk_at dksL_law_19 3 rfl rfl)
theorem dL_law_560 : decode cL_law 560 = .ok (.aload_n 0, 1) := dk_42 (dk_at dksL_law_19 4 rfl rfl)
theorem dL_law_561 : decode cL_law 561 = .ok (.iload_n 3, 1) := dk_29 (dk_at dksL_law_19 5 rfl rfl)
theorem dL_law_562 : decode cL_law 562 = .ok (.iconst 3, 1) := dk_6 (dk_at dksL_law_19 6 rfl rfl)
theorem dL_law_563 : decode cL_law 563 = .ok (.iadd, 1) := dk_96 (dk_at dksL_law_19 7 rfl rfl)
theorem dL_law_564 : decode cL_law 564 = .ok (.iaload, 1) := dk_46 (dk_at dksL_law_19 8 rfl rfl)
theorem dL_law_565 : decode cL_law 565 = .ok (.aload_n 0, 1) := dk_42 (dk_at dksL_law_19 9 rfl rfl)
theorem dL_law_566 : decode cL_law 566 = .ok (.iload_n 3, 1) := dk_29 (dk_at dksL_law_19 10 rfl rfl)
theorem dL_law_567 : decode cL_law 567 = .ok (.iconst 4, 1) := dk_7 (dk_at dksL_law_19 11 rfl rfl)
theorem dL_law_568 : decode cL_law 568 = .ok (.iadd, 1) := dk_96 (dk_at dksL_law_19 12 rfl rfl)
theorem dL_law_569 : decode cL_law 569 = .ok (.iaload, 1) := dk_46 (dk_at dksL_law_19 13 rfl rfl)
theorem dL_law_570 : decode cL_law 570 = .ok (.invokevirtual 63, 3) := dk_182 0 63 (dk_at dksL_law_19 14 rfl rfl)
theorem dL_law_573 : decode cL_law 573 = .ok (.aload_n 2, 1) := dk_44 (dk_at dksL_law_19 17 rfl rfl)
theorem dL_law_574 : decode cL_law 574 = .ok (.aload_n 0, 1) := dk_42 (dk_at dksL_law_19 18 rfl rfl)
theorem dL_law_575 : decode cL_law 575 = .ok (.iload_n 3, 1) := dk_29 (dk_at dksL_law_19 19 rfl rfl)
theorem dL_law_576 : decode cL_law 576 = .ok (.iconst 1, 1) := dk_4 (dk_at dksL_law_19 20 rfl rfl)
theorem dL_law_577 : decode cL_law 577 = .ok (.iadd, 1) := dk_96 (dk_at dksL_law_19 21 rfl rfl)
theorem dL_law_578 : decode cL_law 578 = .ok (.iaload, 1) := dk_46 (dk_at dksL_law_19 22 rfl rfl)
theorem dL_law_579 : decode cL_law 579 = .ok (.aload_n 0, 1) := dk_42 (dk_at dksL_law_19 23 rfl rfl)
theorem dL_law_580 : decode cL_law 580 = .ok (.iload_n 3, 1) := dk_29 (dk_at dksL_law_20 0 rfl rfl)
theorem dL_law_581 : decode cL_law 581 = .ok (.iconst 2, 1) := dk_5 (dk_at dksL_law_20 1 rfl rfl)
theorem dL_law_582 : decode cL_law 582 = .ok (.iadd, 1) := dk_96 (dk_at dksL_law_20 2 rfl rfl)
theorem dL_law_583 : decode cL_law 583 = .ok (.iaload, 1) := dk_46 (dk_at dksL_law_20 3 rfl rfl)
theorem dL_law_584 : decode cL_law 584 = .ok (.aload_n 0, 1) := dk_42 (dk_at dksL_law_20 4 rfl rfl)
theorem dL_law_585 : decode cL_law 585 = .ok (.iload_n 3, 1) := dk_29 (dk_at dksL_law_20 5 rfl rfl)
theorem dL_law_586 : decode cL_law 586 = .ok (.iconst 3, 1) := dk_6 (dk_at dksL_law_20 6 rfl rfl)
theorem dL_law_587 : decode cL_law 587 = .ok (.iadd, 1) := dk_96 (dk_at dksL_law_20 7 rfl rfl)
theorem dL_law_588 : decode cL_law 588 = .ok (.iaload, 1) := dk_46 (dk_at dksL_law_20 8 rfl rfl)
theorem dL_law_589 : decode cL_law 589 = .ok (.aload_n 0, 1) := dk_42 (dk_at dksL_law_20 9 rfl rfl)
theorem dL_law_590 : decode cL_law 590 = .ok (.iload_n 3, 1) := dk_29 (dk_at dksL_law_20 10 rfl rfl)
theorem dL_law_591 : decode cL_law 591 = .ok (.iconst 4, 1) := dk_7 (dk_at dksL_law_20 11 rfl rfl)
theorem dL_law_592 : decode cL_law 592 = .ok (.iadd, 1) := dk_96 (dk_at dksL_law_20 12 rfl rfl)
theorem dL_law_593 : decode cL_law 593 = .ok (.iaload, 1) := dk_46 (dk_at dksL_law_20 13 rfl rfl)
theorem dL_law_594 : decode cL_law 594 = .ok (.invokevirtual 67, 3) := dk_182 0 67 (dk_at dksL_law_20 14 rfl rfl)
theorem dL_law_597 : decode cL_law 597 = .ok (.if_icmp .eq 545, 3) := dk_159 2 33 (dk_at dksL_law_20 17 rfl rfl)
theorem dL_law_600 : decode cL_law 600 = .ok (.iconst 0, 1) := dk_3 (dk_at dksL_law_20 20 rfl rfl)
theorem dL_law_601 : decode cL_law 601 = .ok (.ireturn, 1) := dk_172 (dk_at dksL_law_20 21 rfl rfl)
theorem dL_law_602 : decode cL_law 602 = .ok (.aload_n 1, 1) := dk_43 (dk_at dksL_law_20 22 rfl rfl)
theorem dL_law_603 : decode cL_law 603 = .ok (.aload_n 0, 1) := dk_42 (dk_at dksL_law_20 23 rfl rfl)
theorem dL_law_604 : decode cL_law 604 = .ok (.iload_n 3, 1) := dk_29 (dk_at dksL_law_21 0 rfl rfl)
theorem dL_law_605 : decode cL_law 605 = .ok (.iconst 1, 1) := dk_4 (dk_at dksL_law_21 1 rfl rfl)
theorem dL_law_606 : decode cL_law 606 = .ok (.iadd, 1) := dk_96 (dk_at dksL_law_21 2 rfl rfl)
theorem dL_law_607 : decode cL_law 607 = .ok (.iaload, 1) := dk_46 (dk_at dksL_law_21 3 rfl rfl)
theorem dL_law_608 : decode cL_law 608 = .ok (.aload_n 0, 1) := dk_42 (dk_at dksL_law_21 4 rfl rfl)
theorem dL_law_609 : decode cL_law 609 = .ok (.iload_n 3, 1) := dk_29 (dk_at dksL_law_21 5 rfl rfl)
theorem dL_law_610 : decode cL_law 610 = .ok (.iconst 2, 1) := dk_5 (dk_at dksL_law_21 6 rfl rfl)
theorem dL_law_611 : decode cL_law 611 = .ok (.iadd, 1) := dk_96 (dk_at dksL_law_21 7 rfl rfl)
theorem dL_law_612 : decode cL_law 612 = .ok (.iaload, 1) := dk_46 (dk_at dksL_law_21 8 rfl rfl)
theorem dL_law_613 : decode cL_law 613 = .ok (.aload_n 0, 1) := dk_42 (dk_at dksL_law_21 9 rfl rfl)
theorem dL_law_614 : decode cL_law 614 = .ok (.iload_n 3, 1) := dk_29 (dk_at dksL_law_21 10 rfl rfl)
theorem dL_law_615 : decode cL_law 615 = .ok (.iconst 3, 1) := dk_6 (dk_at dksL_law_21 11 rfl rfl)
theorem dL_law_616 : decode cL_law 616 = .ok (.iadd, 1) := dk_96 (dk_at dksL_law_21 12 rfl rfl)
theorem dL_law_617 : decode cL_law 617 = .ok (.iaload, 1) := dk_46 (dk_at dksL_law_21 13 rfl rfl)
theorem dL_law_618 : decode cL_law 618 = .ok (.invokevirtual 68, 3) := dk_182 0 68 (dk_at dksL_law_21 14 rfl rfl)
theorem dL_law_621 : decode cL_law 621 = .ok (.aload_n 2, 1) := dk_44 (dk_at dksL_law_21 17 rfl rfl)
theorem dL_law_622 : decode cL_law 622 = .ok (.aload_n 0, 1) := dk_42 (dk_at dksL_law_21 18 rfl rfl)
theorem dL_law_623 : decode cL_law 623 = .ok (.iload_n 3, 1) := dk_29 (dk_at dksL_law_21 19 rfl rfl)
theorem dL_law_624 : decode cL_law 624 = .ok (.iconst 1, 1) := dk_4 (dk_at dksL_law_21 20 rfl rfl)
theorem dL_law_625 : decode cL_law 625 = .ok (.iadd, 1) := dk_96 (dk_at dksL_law_21 21 rfl rfl)
theorem dL_law_626 : decode cL_law 626 = .ok (.iaload, 1) := dk_46 (dk_at dksL_law_21 22 rfl rfl)
theorem dL_law_627 : decode cL_law 627 = .ok (.aload_n 0, 1) := dk_42 (dk_at dksL_law_21 23 rfl rfl)
theorem dL_law_628 : decode cL_law 628 = .ok (.iload_n 3, 1) := dk_29 (dk_at dksL_law_22 0 rfl rfl)
theorem dL_law_629 : decode cL_law 629 = .ok (.iconst 2, 1) := dk_5 (dk_at dksL_law_22 1 rfl rfl)
theorem dL_law_630 : decode cL_law 630 = .ok (.iadd, 1) := dk_96 (dk_at dksL_law_22 2 rfl rfl)
theorem dL_law_631 : decode cL_law 631 = .ok (.iaload, 1) := dk_46 (dk_at dksL_law_22 3 rfl rfl)
theorem dL_law_632 : decode cL_law 632 = .ok (.aload_n 0, 1) := dk_42 (dk_at dksL_law_22 4 rfl rfl)
theorem dL_law_633 : decode cL_law 633 = .ok (.iload_n 3, 1) := dk_29 (dk_at dksL_law_22 5 rfl rfl)
theorem dL_law_634 : decode cL_law 634 = .ok (.iconst 3, 1) := dk_6 (dk_at dksL_law_22 6 rfl rfl)
theorem dL_law_635 : decode cL_law 635 = .ok (.iadd, 1) := dk_96 (dk_at dksL_law_22 7 rfl rfl)
theorem dL_law_636 : decode cL_law 636 = .ok (.iaload, 1) := dk_46 (dk_at dksL_law_22 8 rfl rfl)
theorem dL_law_637 : decode cL_law 637 = .ok (.invokevirtual 71, 3) := dk_182 0 71 (dk_at dksL_law_22 9 rfl rfl)
theorem dL_law_640 : decode cL_law 640 = .ok (.if_icmp .eq 502, 3) := dk_159 1 246 (dk_at dksL_law_22 12 rfl rfl)
theorem dL_law_643 : decode cL_law 643 = .ok (.iconst 0, 1) := dk_3 (dk_at dksL_law_22 15 rfl rfl)
theorem dL_law_644 : decode cL_law 644 = .ok (.ireturn, 1) := dk_172 (dk_at dksL_law_22 16 rfl rfl)
theorem dL_law_645 : decode cL_law 645 = .ok (.aload_n 1, 1) := dk_43 (dk_at dksL_law_22 17 rfl rfl)
theorem dL_law_646 : decode cL_law 646 = .ok (.aload_n 0, 1) := dk_42 (dk_at dksL_law_22 18 rfl rfl)
theorem dL_law_647 : decode cL_law 647 = .ok (.iload_n 3, 1) := dk_29 (dk_at dksL_law_22 19 rfl rfl)
theorem dL_law_648 : decode cL_law 648 = .ok (.iconst 1, 1) := dk_4 (dk_at dksL_law_22 20 rfl rfl)
theorem dL_law_649 : decode cL_law 649 = .ok (.iadd, 1) := dk_96 (dk_at dksL_law_22 21 rfl rfl)
theorem dL_law_650 : decode cL_law 650 = .ok (.iaload, 1) := dk_46 (dk_at dksL_law_22 22 rfl rfl)
theorem dL_law_651 : decode cL_law 651 = .ok (.aload_n 0, 1) := dk_42 (dk_at dksL_law_22 23 rfl rfl)
theorem dL_law_652 : decode cL_law 652 = .ok (.iload_n 3, 1) := dk_29 (dk_at dksL_law_23 0 rfl rfl)
theorem dL_law_653 : decode cL_law 653 = .ok (.iconst 2, 1) := dk_5 (dk_at dksL_law_23 1 rfl rfl)
theorem dL_law_654 : decode cL_law 654 = .ok (.iadd, 1) := dk_96 (dk_at dksL_law_23 2 rfl rfl)
theorem dL_law_655 : decode cL_law 655 = .ok (.iaload, 1) := dk_46 (dk_at dksL_law_23 3 rfl rfl)
theorem dL_law_656 : decode cL_law 656 = .ok (.invokevirtual 72, 3) := dk_182 0 72 (dk_at dksL_law_23 4 rfl rfl)
theorem dL_law_659 : decode cL_law 659 = .ok (.aload_n 2, 1) := dk_44 (dk_at dksL_law_23 7 rfl rfl)
theorem dL_law_660 : decode cL_law 660 = .ok (.aload_n 0, 1) := dk_42 (dk_at dksL_law_23 8 rfl rfl)
theorem dL_law_661 : decode cL_law 661 = .ok (.iload_n 3, 1) := dk_29 (dk_at dksL_law_23 9 rfl rfl)
theorem dL_law_662 : decode cL_law 662 = .ok (.iconst 1, 1) := dk_4 (dk_at dksL_law_23 10 rfl rfl)
theorem dL_law_663 : decode cL_law 663 = .ok (.iadd, 1) := dk_96 (dk_at dksL_law_23 11 rfl rfl)
theorem dL_law_664 : decode cL_law 664 = .ok (.iaload, 1) := dk_46 (dk_at dksL_law_23 12 rfl rfl)
theorem dL_law_665 : decode cL_law 665 = .ok (.aload_n 0, 1) := dk_42 (dk_at dksL_law_23 13 rfl rfl)
theorem dL_law_666 : decode cL_law 666 = .ok (.iload_n 3, 1) := dk_29 (dk_at dksL_law_23 14 rfl rfl)
theorem dL_law_667 : decode cL_law 667 = .ok (.iconst 2, 1) := dk_5 (dk_at dksL_law_23 15 rfl rfl)
theorem dL_law_668 : decode cL_law 668 = .ok (.iadd, 1) := dk_96 (dk_at dksL_law_23 16 rfl rfl)
theorem dL_law_669 : decode cL_law 669 = .ok (.iaload, 1) := dk_46 (dk_at dksL_law_23 17 rfl rfl)
theorem dL_law_670 : decode cL_law 670 = .ok (.invokevirtual 75, 3) := dk_182 0 75 (dk_at dksL_law_23 18 rfl rfl)
theorem dL_law_673 : decode cL_law 673 = .ok (.if_icmp .eq 469, 3) := dk_159 1 213 (dk_at dksL_law_23 21 rfl rfl)
theorem dL_law_676 : decode cL_law 676 = .ok (.iconst 0, 1) := dk_3 (dk_at dksL_law_24 0 rfl rfl)
theorem dL_law_677 : decode cL_law 677 = .ok (.ireturn, 1) := dk_172 (dk_at dksL_law_24 1 rfl rfl)
theorem dL_law_678 : decode cL_law 678 = .ok (.aload_n 1, 1) := dk_43 (dk_at dksL_law_24 2 rfl rfl)
theorem dL_law_679 : decode cL_law 679 = .ok (.aload_n 0, 1) := dk_42 (dk_at dksL_law_24 3 rfl rfl)
theorem dL_law_680 : decode cL_law 680 = .ok (.iload_n 3, 1) := dk_29 (dk_at dksL_law_24 4 rfl rfl)
theorem dL_law_681 : decode cL_law 681 = .ok (.iconst 1, 1) := dk_4 (dk_at dksL_law_24 5 rfl rfl)
theorem dL_law_682 : decode cL_law 682 = .ok (.iadd, 1) := dk_96 (dk_at dksL_law_24 6 rfl rfl)
theorem dL_law_683 : decode cL_law 683 = .ok (.iaload, 1) := dk_46 (dk_at dksL_law_24 7 rfl rfl)
theorem dL_law_684 : decode cL_law 684 = .ok (.aload_n 0, 1) := dk_42 (dk_at dksL_law_24 8 rfl rfl)
theorem dL_law_685 : decode cL_law 685 = .ok (.iload_n 3, 1) := dk_29 (dk_at dksL_law_24 9 rfl rfl)
theorem dL_law_686 : decode cL_law 686 = .ok (.iconst 2, 1) := dk_5 (dk_at dksL_law_24 10 rfl rfl)
theorem dL_law_687 : decode cL_law 687 = .ok (.iadd, 1) := dk_96 (dk_at dksL_law_24 11 rfl rfl)
theorem dL_law_688 : decode cL_law 688 = .ok (.iaload, 1) := dk_46 (dk_at dksL_law_24 12 rfl rfl)
theorem dL_law_689 : decode cL_law 689 = .ok (.aload_n 0, 1) := dk_42 (dk_at dksL_law_24 13 rfl rfl)
theorem dL_law_690 : decode cL_law 690 = .ok (.iload_n 3, 1) := dk_29 (dk_at dksL_law_24 14 rfl rfl)
theorem dL_law_691 : decode cL_law 691 = .ok (.iconst 3, 1) := dk_6 (dk_at dksL_law_24 15 rfl rfl)
theorem dL_law_692 : decode cL_law 692 = .ok (.iadd, 1) := dk_96 (dk_at dksL_law_24 16 rfl rfl)
theorem dL_law_693 : decode cL_law 693 = .ok (.iaload, 1) := dk_46 (dk_at dksL_law_24 17 rfl rfl)
theorem dL_law_694 : decode cL_law 694 = .ok (.invokevirtual 76, 3) := dk_182 0 76 (dk_at dksL_law_24 18 rfl rfl)
theorem dL_law_697 : decode cL_law 697 = .ok (.aload_n 2, 1) := dk_44 (dk_at dksL_law_24 21 rfl rfl)
theorem dL_law_698 : decode cL_law 698 = .ok (.aload_n 0, 1) := dk_42 (dk_at dksL_law_24 22 rfl rfl)
theorem dL_law_699 : decode cL_law 699 = .ok (.iload_n 3, 1) := dk_29 (dk_at dksL_law_24 23 rfl rfl)
theorem dL_law_700 : decode cL_law 700 = .ok (.iconst 1, 1) := dk_4 (dk_at dksL_law_25 0 rfl rfl)
theorem dL_law_701 : decode cL_law 701 = .ok (.iadd, 1) := dk_96 (dk_at dksL_law_25 1 rfl rfl)
theorem dL_law_702 : decode cL_law 702 = .ok (.iaload, 1) := dk_46 (dk_at dksL_law_25 2 rfl rfl)
theorem dL_law_703 : decode cL_law 703 = .ok (.aload_n 0, 1) := dk_42 (dk_at dksL_law_25 3 rfl rfl)
theorem dL_law_704 : decode cL_law 704 = .ok (.iload_n 3, 1) := dk_29 (dk_at dksL_law_25 4 rfl rfl)
theorem dL_law_705 : decode cL_law 705 = .ok (.iconst 2, 1) := dk_5 (dk_at dksL_law_25 5 rfl rfl)
theorem dL_law_706 : decode cL_law 706 = .ok (.iadd, 1) := dk_96 (dk_at dksL_law_25 6 rfl rfl)
theorem dL_law_707 : decode cL_law 707 = .ok (.iaload, 1) := dk_46 (dk_at dksL_law_25 7 rfl rfl)
theorem dL_law_708 : decode cL_law 708 = .ok (.aload_n 0, 1) := dk_42 (dk_at dksL_law_25 8 rfl rfl)
theorem dL_law_709 : decode cL_law 709 = .ok (.iload_n 3, 1) := dk_29 (dk_at dksL_law_25 9 rfl rfl)
theorem dL_law_710 : decode cL_law 710 = .ok (.iconst 3, 1) := dk_6 (dk_at dksL_law_25 10 rfl rfl)
theorem dL_law_711 : decode cL_law 711 = .ok (.iadd, 1) := dk_96 (dk_at dksL_law_25 11 rfl rfl)
theorem dL_law_712 : decode cL_law 712 = .ok (.iaload, 1) := dk_46 (dk_at dksL_law_25 12 rfl rfl)
theorem dL_law_713 : decode cL_law 713 = .ok (.invokevirtual 79, 3) := dk_182 0 79 (dk_at dksL_law_25 13 rfl rfl)
theorem dL_law_716 : decode cL_law 716 = .ok (.if_icmp .eq 426, 3) := dk_159 1 170 (dk_at dksL_law_25 16 rfl rfl)
theorem dL_law_719 : decode cL_law 719 = .ok (.iconst 0, 1) := dk_3 (dk_at dksL_law_25 19 rfl rfl)
theorem dL_law_720 : decode cL_law 720 = .ok (.ireturn, 1) := dk_172 (dk_at dksL_law_25 20 rfl rfl)
theorem dL_law_721 : decode cL_law 721 = .ok (.aload_n 1, 1) := dk_43 (dk_at dksL_law_25 21 rfl rfl)
theorem dL_law_722 : decode cL_law 722 = .ok (.aload_n 0, 1) := dk_42 (dk_at dksL_law_25 22 rfl rfl)
theorem dL_law_723 : decode cL_law 723 = .ok (.iload_n 3, 1) := dk_29 (dk_at dksL_law_25 23 rfl rfl)
theorem dL_law_724 : decode cL_law 724 = .ok (.iconst 1, 1) := dk_4 (dk_at dksL_law_26 0 rfl rfl)
theorem dL_law_725 : decode cL_law 725 = .ok (.iadd, 1) := dk_96 (dk_at dksL_law_26 1 rfl rfl)
theorem dL_law_726 : decode cL_law 726 = .ok (.iaload, 1) := dk_46 (dk_at dksL_law_26 2 rfl rfl)
theorem dL_law_727 : decode cL_law 727 = .ok (.aload_n 0, 1) := dk_42 (dk_at dksL_law_26 3 rfl rfl)
theorem dL_law_728 : decode cL_law 728 = .ok (.iload_n 3, 1) := dk_29 (dk_at dksL_law_26 4 rfl rfl)
theorem dL_law_729 : decode cL_law 729 = .ok (.iconst 2, 1) := dk_5 (dk_at dksL_law_26 5 rfl rfl)
theorem dL_law_730 : decode cL_law 730 = .ok (.iadd, 1) := dk_96 (dk_at dksL_law_26 6 rfl rfl)
theorem dL_law_731 : decode cL_law 731 = .ok (.iaload, 1) := dk_46 (dk_at dksL_law_26 7 rfl rfl)
theorem dL_law_732 : decode cL_law 732 = .ok (.invokevirtual 80, 3) := dk_182 0 80 (dk_at dksL_law_26 8 rfl rfl)
theorem dL_law_735 : decode cL_law 735 = .ok (.aload_n 2, 1) := dk_44 (dk_at dksL_law_26 11 rfl rfl)
theorem dL_law_736 : decode cL_law 736 = .ok (.aload_n 0, 1) := dk_42 (dk_at dksL_law_26 12 rfl rfl)
theorem dL_law_737 : decode cL_law 737 = .ok (.iload_n 3, 1) := dk_29 (dk_at dksL_law_26 13 rfl rfl)
theorem dL_law_738 : decode cL_law 738 = .ok (.iconst 1, 1) := dk_4 (dk_at dksL_law_26 14 rfl rfl)
theorem dL_law_739 : decode cL_law 739 = .ok (.iadd, 1) := dk_96 (dk_at dksL_law_26 15 rfl rfl)
theorem dL_law_740 : decode cL_law 740 = .ok (.iaload, 1) := dk_46 (dk_at dksL_law_26 16 rfl rfl)
theorem dL_law_741 : decode cL_law 741 = .ok (.aload_n 0, 1) := dk_42 (dk_at dksL_law_26 17 rfl rfl)
theorem dL_law_742 : decode cL_law 742 = .ok (.iload_n 3, 1) := dk_29 (dk_at dksL_law_26 18 rfl rfl)
theorem dL_law_743 : decode cL_law 743 = .ok (.iconst 2, 1) := dk_5 (dk_at dksL_law_26 19 rfl rfl)
theorem dL_law_744 : decode cL_law 744 = .ok (.iadd, 1) := dk_96 (dk_at dksL_law_26 20 rfl rfl)
theorem dL_law_745 : decode cL_law 745 = .ok (.iaload, 1) := dk_46 (dk_at dksL_law_26 21 rfl rfl)
theorem dL_law_746 : decode cL_law 746 = .ok (.invokevirtual 83, 3) := dk_182 0 83 (dk_at dksL_law_27 0 rfl rfl)
theorem dL_law_749 : decode cL_law 749 = .ok (.if_icmp .eq 393, 3) := dk_159 1 137 (dk_at dksL_law_27 3 rfl rfl)
theorem dL_law_752 : decode cL_law 752 = .ok (.iconst 0, 1) := dk_3 (dk_at dksL_law_27 6 rfl rfl)
theorem dL_law_753 : decode cL_law 753 = .ok (.ireturn, 1) := dk_172 (dk_at dksL_law_27 7 rfl rfl)
theorem dL_law_754 : decode cL_law 754 = .ok (.aload_n 1, 1) := dk_43 (dk_at dksL_law_27 8 rfl rfl)
theorem dL_law_755 : decode cL_law 755 = .ok (.aload_n 0, 1) := dk_42 (dk_at dksL_law_27 9 rfl rfl)
theorem dL_law_756 : decode cL_law 756 = .ok (.iload_n 3, 1) := dk_29 (dk_at dksL_law_27 10 rfl rfl)
theorem dL_law_757 : decode cL_law 757 = .ok (.iconst 1, 1) := dk_4 (dk_at dksL_law_27 11 rfl rfl)
theorem dL_law_758 : decode cL_law 758 = .ok (.iadd, 1) := dk_96 (dk_at dksL_law_27 12 rfl rfl)
theorem dL_law_759 : decode cL_law 759 = .ok (.iaload, 1) := dk_46 (dk_at dksL_law_27 13 rfl rfl)
theorem dL_law_760 : decode cL_law 760 = .ok (.aload_n 0, 1) := dk_42 (dk_at dksL_law_27 14 rfl rfl)
theorem dL_law_761 : decode cL_law 761 = .ok (.iload_n 3, 1) := dk_29 (dk_at dksL_law_27 15 rfl rfl)
theorem dL_law_762 : decode cL_law 762 = .ok (.iconst 2, 1) := dk_5 (dk_at dksL_law_27 16 rfl rfl)
theorem dL_law_763 : decode cL_law 763 = .ok (.iadd, 1) := dk_96 (dk_at dksL_law_27 17 rfl rfl)
theorem dL_law_764 : decode cL_law 764 = .ok (.iaload, 1) := dk_46 (dk_at dksL_law_27 18 rfl rfl)
theorem dL_law_765 : decode cL_law 765 = .ok (.aload_n 0, 1) := dk_42 (dk_at dksL_law_27 19 rfl rfl)
theorem dL_law_766 : decode cL_law 766 = .ok (.iload_n 3, 1) := dk_29 (dk_at dksL_law_27 20 rfl rfl)
theorem dL_law_767 : decode cL_law 767 = .ok (.iconst 3, 1) := dk_6 (dk_at dksL_law_27 21 rfl rfl)
theorem dL_law_768 : decode cL_law 768 = .ok (.iadd, 1) := dk_96 (dk_at dksL_law_27 22 rfl rfl)
theorem dL_law_769 : decode cL_law 769 = .ok (.iaload, 1) := dk_46 (dk_at dksL_law_27 23 rfl rfl)
theorem dL_law_770 : decode cL_law 770 = .ok (.invokevirtual 84, 3) := dk_182 0 84 (dk_at dksL_law_28 0 rfl rfl)
theorem dL_law_773 : decode cL_law 773 = .ok (.aload_n 2, 1) := dk_44 (dk_at dksL_law_28 3 rfl rfl)
theorem dL_law_774 : decode cL_law 774 = .ok (.aload_n 0, 1) := dk_42 (dk_at dksL_law_28 4 rfl rfl)
theorem dL_law_775 : decode cL_law 775 = .ok (.iload_n 3, 1) := dk_29 (dk_at dksL_law_28 5 rfl rfl)
theorem dL_law_776 : decode cL_law 776 = .ok (.iconst 1, 1) := dk_4 (dk_at dksL_law_28 6 rfl rfl)
theorem dL_law_777 : decode cL_law 777 = .ok (.iadd, 1) := dk_96 (dk_at dksL_law_28 7 rfl rfl)
theorem dL_law_778 : decode cL_law 778 = .ok (.iaload, 1) := dk_46 (dk_at dksL_law_28 8 rfl rfl)
theorem dL_law_779 : decode cL_law 779 = .ok (.aload_n 0, 1) := dk_42 (dk_at dksL_law_28 9 rfl rfl)
theorem dL_law_780 : decode cL_law 780 = .ok (.iload_n 3, 1) := dk_29 (dk_at dksL_law_28 10 rfl rfl)
theorem dL_law_781 : decode cL_law 781 = .ok (.iconst 2, 1) := dk_5 (dk_at dksL_law_28 11 rfl rfl)
theorem dL_law_782 : decode cL_law 782 = .ok (.iadd, 1) := dk_96 (dk_at dksL_law_28 12 rfl rfl)
theorem dL_law_783 : decode cL_law 783 = .ok (.iaload, 1) := dk_46 (dk_at dksL_law_28 13 rfl rfl)
theorem dL_law_784 : decode cL_law 784 = .ok (.aload_n 0, 1) := dk_42 (dk_at dksL_law_28 14 rfl rfl)
theorem dL_law_785 : decode cL_law 785 = .ok (.iload_n 3, 1) := dk_29 (dk_at dksL_law_28 15 rfl rfl)
theorem dL_law_786 : decode cL_law 786 = .ok (.iconst 3, 1) := dk_6 (dk_at dksL_law_28 16 rfl rfl)
theorem dL_law_787 : decode cL_law 787 = .ok (.iadd, 1) := dk_96 (dk_at dksL_law_28 17 rfl rfl)
theorem dL_law_788 : decode cL_law 788 = .ok (.iaload, 1) := dk_46 (dk_at dksL_law_28 18 rfl rfl)
theorem dL_law_789 : decode cL_law 789 = .ok (.invokevirtual 87, 3) := dk_182 0 87 (dk_at dksL_law_28 19 rfl rfl)
theorem dL_law_792 : decode cL_law 792 = .ok (.if_icmp .eq 350, 3) := dk_159 1 94 (dk_at dksL_law_29 0 rfl rfl)
theorem dL_law_795 : decode cL_law 795 = .ok (.iconst 0, 1) := dk_3 (dk_at dksL_law_29 3 rfl rfl)
theorem dL_law_796 : decode cL_law 796 = .ok (.ireturn, 1) := dk_172 (dk_at dksL_law_29 4 rfl rfl)
theorem dL_law_797 : decode cL_law 797 = .ok (.aload_n 1, 1) := dk_43 (dk_at dksL_law_29 5 rfl rfl)
theorem dL_law_798 : decode cL_law 798 = .ok (.aload_n 0, 1) := dk_42 (dk_at dksL_law_29 6 rfl rfl)
theorem dL_law_799 : decode cL_law 799 = .ok (.iload_n 3, 1) := dk_29 (dk_at dksL_law_29 7 rfl rfl)
theorem dL_law_800 : decode cL_law 800 = .ok (.iconst 1, 1) := dk_4 (dk_at dksL_law_29 8 rfl rfl)
theorem dL_law_801 : decode cL_law 801 = .ok (.iadd, 1) := dk_96 (dk_at dksL_law_29 9 rfl rfl)
theorem dL_law_802 : decode cL_law 802 = .ok (.iaload, 1) := dk_46 (dk_at dksL_law_29 10 rfl rfl)
theorem dL_law_803 : decode cL_law 803 = .ok (.aload_n 0, 1) := dk_42 (dk_at dksL_law_29 11 rfl rfl)
theorem dL_law_804 : decode cL_law 804 = .ok (.iload_n 3, 1) := dk_29 (dk_at dksL_law_29 12 rfl rfl)
theorem dL_law_805 : decode cL_law 805 = .ok (.iconst 2, 1) := dk_5 (dk_at dksL_law_29 13 rfl rfl)
theorem dL_law_806 : decode cL_law 806 = .ok (.iadd, 1) := dk_96 (dk_at dksL_law_29 14 rfl rfl)
theorem dL_law_807 : decode cL_law 807 = .ok (.iaload, 1) := dk_46 (dk_at dksL_law_29 15 rfl rfl)
theorem dL_law_808 : decode cL_law 808 = .ok (.invokevirtual 88, 3) := dk_182 0 88 (dk_at dksL_law_29 16 rfl rfl)
theorem dL_law_811 : decode cL_law 811 = .ok (.aload_n 2, 1) := dk_44 (dk_at dksL_law_29 19 rfl rfl)
theorem dL_law_812 : decode cL_law 812 = .ok (.aload_n 0, 1) := dk_42 (dk_at dksL_law_29 20 rfl rfl)
theorem dL_law_813 : decode cL_law 813 = .ok (.iload_n 3, 1) := dk_29 (dk_at dksL_law_29 21 rfl rfl)
theorem dL_law_814 : decode cL_law 814 = .ok (.iconst 1, 1) := dk_4 (dk_at dksL_law_29 22 rfl rfl)
theorem dL_law_815 : decode cL_law 815 = .ok (.iadd, 1) := dk_96 (dk_at dksL_law_29 23 rfl rfl)
theorem dL_law_816 : decode cL_law 816 = .ok (.iaload, 1) := dk_46 (dk_at dksL_law_30 0 rfl rfl)
theorem dL_law_817 : decode cL_law 817 = .ok (.aload_n 0, 1) := dk_42 (dk_at dksL_law_30 1 rfl rfl)
theorem dL_law_818 : decode cL_law 818 = .ok (.iload_n 3, 1) := dk_29 (dk_at dksL_law_30 2 rfl rfl)
theorem dL_law_819 : decode cL_law 819 = .ok (.iconst 2, 1) := dk_5 (dk_at dksL_law_30 3 rfl rfl)
theorem dL_law_820 : decode cL_law 820 = .ok (.iadd, 1) := dk_96 (dk_at dksL_law_30 4 rfl rfl)
theorem dL_law_821 : decode cL_law 821 = .ok (.iaload, 1) := dk_46 (dk_at dksL_law_30 5 rfl rfl)
theorem dL_law_822 : decode cL_law 822 = .ok (.invokevirtual 91, 3) := dk_182 0 91 (dk_at dksL_law_30 6 rfl rfl)
theorem dL_law_825 : decode cL_law 825 = .ok (.if_icmp .eq 317, 3) := dk_159 1 61 (dk_at dksL_law_30 9 rfl rfl)
theorem dL_law_828 : decode cL_law 828 = .ok (.iconst 0, 1) := dk_3 (dk_at dksL_law_30 12 rfl rfl)
theorem dL_law_829 : decode cL_law 829 = .ok (.ireturn, 1) := dk_172 (dk_at dksL_law_30 13 rfl rfl)
theorem dL_law_830 : decode cL_law 830 = .ok (.aload_n 1, 1) := dk_43 (dk_at dksL_law_30 14 rfl rfl)
theorem dL_law_831 : decode cL_law 831 = .ok (.aload_n 0, 1) := dk_42 (dk_at dksL_law_30 15 rfl rfl)
theorem dL_law_832 : decode cL_law 832 = .ok (.iload_n 3, 1) := dk_29 (dk_at dksL_law_30 16 rfl rfl)
theorem dL_law_833 : decode cL_law 833 = .ok (.iconst 1, 1) := dk_4 (dk_at dksL_law_30 17 rfl rfl)
theorem dL_law_834 : decode cL_law 834 = .ok (.iadd, 1) := dk_96 (dk_at dksL_law_30 18 rfl rfl)
theorem dL_law_835 : decode cL_law 835 = .ok (.iaload, 1) := dk_46 (dk_at dksL_law_30 19 rfl rfl)
theorem dL_law_836 : decode cL_law 836 = .ok (.aload_n 0, 1) := dk_42 (dk_at dksL_law_30 20 rfl rfl)
theorem dL_law_837 : decode cL_law 837 = .ok (.iload_n 3, 1) := dk_29 (dk_at dksL_law_30 21 rfl rfl)
theorem dL_law_838 : decode cL_law 838 = .ok (.iconst 2, 1) := dk_5 (dk_at dksL_law_30 22 rfl rfl)
theorem dL_law_839 : decode cL_law 839 = .ok (.iadd, 1) := dk_96 (dk_at dksL_law_30 23 rfl rfl)
theorem dL_law_840 : decode cL_law 840 = .ok (.iaload, 1) := dk_46 (dk_at dksL_law_31 0 rfl rfl)
theorem dL_law_841 : decode cL_law 841 = .ok (.invokevirtual 92, 3) := dk_182 0 92 (dk_at dksL_law_31 1 rfl rfl)
theorem dL_law_844 : decode cL_law 844 = .ok (.aload_n 2, 1) := dk_44 (dk_at dksL_law_31 4 rfl rfl)
theorem dL_law_845 : decode cL_law 845 = .ok (.aload_n 0, 1) := dk_42 (dk_at dksL_law_31 5 rfl rfl)
theorem dL_law_846 : decode cL_law 846 = .ok (.iload_n 3, 1) := dk_29 (dk_at dksL_law_31 6 rfl rfl)
theorem dL_law_847 : decode cL_law 847 = .ok (.iconst 1, 1) := dk_4 (dk_at dksL_law_31 7 rfl rfl)
theorem dL_law_848 : decode cL_law 848 = .ok (.iadd, 1) := dk_96 (dk_at dksL_law_31 8 rfl rfl)
theorem dL_law_849 : decode cL_law 849 = .ok (.iaload, 1) := dk_46 (dk_at dksL_law_31 9 rfl rfl)
theorem dL_law_850 : decode cL_law 850 = .ok (.aload_n 0, 1) := dk_42 (dk_at dksL_law_31 10 rfl rfl)
theorem dL_law_851 : decode cL_law 851 = .ok (.iload_n 3, 1) := dk_29 (dk_at dksL_law_31 11 rfl rfl)
theorem dL_law_852 : decode cL_law 852 = .ok (.iconst 2, 1) := dk_5 (dk_at dksL_law_31 12 rfl rfl)
theorem dL_law_853 : decode cL_law 853 = .ok (.iadd, 1) := dk_96 (dk_at dksL_law_31 13 rfl rfl)
theorem dL_law_854 : decode cL_law 854 = .ok (.iaload, 1) := dk_46 (dk_at dksL_law_31 14 rfl rfl)
theorem dL_law_855 : decode cL_law 855 = .ok (.invokevirtual 95, 3) := dk_182 0 95 (dk_at dksL_law_31 15 rfl rfl)
theorem dL_law_858 : decode cL_law 858 = .ok (.if_icmp .eq 284, 3) := dk_159 1 28 (dk_at dksL_law_31 18 rfl rfl)
theorem dL_law_861 : decode cL_law 861 = .ok (.iconst 0, 1) := dk_3 (dk_at dksL_law_31 21 rfl rfl)
theorem dL_law_862 : decode cL_law 862 = .ok (.ireturn, 1) := dk_172 (dk_at dksL_law_31 22 rfl rfl)
theorem dL_law_863 : decode cL_law 863 = .ok (.aload_n 1, 1) := dk_43 (dk_at dksL_law_31 23 rfl rfl)
theorem dL_law_864 : decode cL_law 864 = .ok (.invokevirtual 96, 3) := dk_182 0 96 (dk_at dksL_law_32 0 rfl rfl)
theorem dL_law_867 : decode cL_law 867 = .ok (.aload_n 2, 1) := dk_44 (dk_at dksL_law_32 3 rfl rfl)
theorem dL_law_868 : decode cL_law 868 = .ok (.invokevirtual 100, 3) := dk_182 0 100 (dk_at dksL_law_32 4 rfl rfl)
theorem dL_law_871 : decode cL_law 871 = .ok (.if_icmp .eq 271, 3) := dk_159 1 15 (dk_at dksL_law_32 7 rfl rfl)
theorem dL_law_874 : decode cL_law 874 = .ok (.iconst 0, 1) := dk_3 (dk_at dksL_law_32 10 rfl rfl)
theorem dL_law_875 : decode cL_law 875 = .ok (.ireturn, 1) := dk_172 (dk_at dksL_law_32 11 rfl rfl)
theorem dL_law_876 : decode cL_law 876 = .ok (.aload_n 1, 1) := dk_43 (dk_at dksL_law_32 12 rfl rfl)
theorem dL_law_877 : decode cL_law 877 = .ok (.invokevirtual 101, 3) := dk_182 0 101 (dk_at dksL_law_32 13 rfl rfl)
theorem dL_law_880 : decode cL_law 880 = .ok (.aload_n 2, 1) := dk_44 (dk_at dksL_law_32 16 rfl rfl)
theorem dL_law_881 : decode cL_law 881 = .ok (.invokevirtual 104, 3) := dk_182 0 104 (dk_at dksL_law_32 17 rfl rfl)
theorem dL_law_884 : decode cL_law 884 = .ok (.if_icmp .eq 258, 3) := dk_159 1 2 (dk_at dksL_law_32 20 rfl rfl)
theorem dL_law_887 : decode cL_law 887 = .ok (.iconst 0, 1) := dk_3 (dk_at dksL_law_32 23 rfl rfl)
theorem dL_law_888 : decode cL_law 888 = .ok (.ireturn, 1) := dk_172 (dk_at dksL_law_33 0 rfl rfl)
theorem dL_law_889 : decode cL_law 889 = .ok (.aload_n 1, 1) := dk_43 (dk_at dksL_law_33 1 rfl rfl)
theorem dL_law_890 : decode cL_law 890 = .ok (.aload_n 0, 1) := dk_42 (dk_at dksL_law_33 2 rfl rfl)
theorem dL_law_891 : decode cL_law 891 = .ok (.iload_n 3, 1) := dk_29 (dk_at dksL_law_33 3 rfl rfl)
theorem dL_law_892 : decode cL_law 892 = .ok (.iconst 1, 1) := dk_4 (dk_at dksL_law_33 4 rfl rfl)
theorem dL_law_893 : decode cL_law 893 = .ok (.iadd, 1) := dk_96 (dk_at dksL_law_33 5 rfl rfl)
theorem dL_law_894 : decode cL_law 894 = .ok (.iaload, 1) := dk_46 (dk_at dksL_law_33 6 rfl rfl)
theorem dL_law_895 : decode cL_law 895 = .ok (.invokevirtual 105, 3) := dk_182 0 105 (dk_at dksL_law_33 7 rfl rfl)
theorem dL_law_898 : decode cL_law 898 = .ok (.aload_n 2, 1) := dk_44 (dk_at dksL_law_33 10 rfl rfl)
theorem dL_law_899 : decode cL_law 899 = .ok (.aload_n 0, 1) := dk_42 (dk_at dksL_law_33 11 rfl rfl)
theorem dL_law_900 : decode cL_law 900 = .ok (.iload_n 3, 1) := dk_29 (dk_at dksL_law_33 12 rfl rfl)
theorem dL_law_901 : decode cL_law 901 = .ok (.iconst 1, 1) := dk_4 (dk_at dksL_law_33 13 rfl rfl)
theorem dL_law_902 : decode cL_law 902 = .ok (.iadd, 1) := dk_96 (dk_at dksL_law_33 14 rfl rfl)
theorem dL_law_903 : decode cL_law 903 = .ok (.iaload, 1) := dk_46 (dk_at dksL_law_33 15 rfl rfl)
theorem dL_law_904 : decode cL_law 904 = .ok (.invokevirtual 108, 3) := dk_182 0 108 (dk_at dksL_law_33 16 rfl rfl)
theorem dL_law_907 : decode cL_law 907 = .ok (.if_icmp .eq 235, 3) := dk_159 0 235 (dk_at dksL_law_33 19 rfl rfl)
theorem dL_law_910 : decode cL_law 910 = .ok (.iconst 0, 1) := dk_3 (dk_at dksL_law_33 22 rfl rfl)
theorem dL_law_911 : decode cL_law 911 = .ok (.ireturn, 1) := dk_172 (dk_at dksL_law_33 23 rfl rfl)
theorem dL_law_912 : decode cL_law 912 = .ok (.aload_n 1, 1) := dk_43 (dk_at dksL_law_34 0 rfl rfl)
theorem dL_law_913 : decode cL_law 913 = .ok (.aload_n 0, 1) := dk_42 (dk_at dksL_law_34 1 rfl rfl)
theorem dL_law_914 : decode cL_law 914 = .ok (.iload_n 3, 1) := dk_29 (dk_at dksL_law_34 2 rfl rfl)
theorem dL_law_915 : decode cL_law 915 = .ok (.iconst 1, 1) := dk_4 (dk_at dksL_law_34 3 rfl rfl)
theorem dL_law_916 : decode cL_law 916 = .ok (.iadd, 1) := dk_96 (dk_at dksL_law_34 4 rfl rfl)
theorem dL_law_917 : decode cL_law 917 = .ok (.iaload, 1) := dk_46 (dk_at dksL_law_34 5 rfl rfl)
theorem dL_law_918 : decode cL_law 918 = .ok (.invokevirtual 109, 3) := dk_182 0 109 (dk_at dksL_law_34 6 rfl rfl)
theorem dL_law_921 : decode cL_law 921 = .ok (.aload_n 2, 1) := dk_44 (dk_at dksL_law_34 9 rfl rfl)
theorem dL_law_922 : decode cL_law 922 = .ok (.aload_n 0, 1) := dk_42 (dk_at dksL_law_34 10 rfl rfl)
theorem dL_law_923 : decode cL_law 923 = .ok (.iload_n 3, 1) := dk_29 (dk_at dksL_law_34 11 rfl rfl)
theorem dL_law_924 : decode cL_law 924 = .ok (.iconst 1, 1) := dk_4 (dk_at dksL_law_34 12 rfl rfl)
theorem dL_law_925 : decode cL_law 925 = .ok (.iadd, 1) := dk_96 (dk_at dksL_law_34 13 rfl rfl)
theorem dL_law_926 : decode cL_law 926 = .ok (.iaload, 1) := dk_46 (dk_at dksL_law_34 14 rfl rfl)
theorem dL_law_927 : decode cL_law 927 = .ok (.invokevirtual 112, 3) := dk_182 0 112 (dk_at dksL_law_34 15 rfl rfl)
theorem dL_law_930 : decode cL_law 930 = .ok (.if_icmp .eq 212, 3) := dk_159 0 212 (dk_at dksL_law_34 18 rfl rfl)
theorem dL_law_933 : decode cL_law 933 = .ok (.iconst 0, 1) := dk_3 (dk_at dksL_law_34 21 rfl rfl)
theorem dL_law_934 : decode cL_law 934 = .ok (.ireturn, 1) := dk_172 (dk_at dksL_law_34 22 rfl rfl)
theorem dL_law_935 : decode cL_law 935 = .ok (.aload_n 1, 1) := dk_43 (dk_at dksL_law_34 23 rfl rfl)
theorem dL_law_936 : decode cL_law 936 = .ok (.aload_n 0, 1) := dk_42 (dk_at dksL_law_35 0 rfl rfl)
theorem dL_law_937 : decode cL_law 937 = .ok (.iload_n 3, 1) := dk_29 (dk_at dksL_law_35 1 rfl rfl)
theorem dL_law_938 : decode cL_law 938 = .ok (.iconst 1, 1) := dk_4 (dk_at dksL_law_35 2 rfl rfl)
theorem dL_law_939 : decode cL_law 939 = .ok (.iadd, 1) := dk_96 (dk_at dksL_law_35 3 rfl rfl)
theorem dL_law_940 : decode cL_law 940 = .ok (.iaload, 1) := dk_46 (dk_at dksL_law_35 4 rfl rfl)
theorem dL_law_941 : decode cL_law 941 = .ok (.invokevirtual 113, 3) := dk_182 0 113 (dk_at dksL_law_35 5 rfl rfl)
theorem dL_law_944 : decode cL_law 944 = .ok (.aload_n 2, 1) := dk_44 (dk_at dksL_law_35 8 rfl rfl)
theorem dL_law_945 : decode cL_law 945 = .ok (.aload_n 0, 1) := dk_42 (dk_at dksL_law_35 9 rfl rfl)
theorem dL_law_946 : decode cL_law 946 = .ok (.iload_n 3, 1) := dk_29 (dk_at dksL_law_35 10 rfl rfl)
theorem dL_law_947 : decode cL_law 947 = .ok (.iconst 1, 1) := dk_4 (dk_at dksL_law_35 11 rfl rfl)
theorem dL_law_948 : decode cL_law 948 = .ok (.iadd, 1) := dk_96 (dk_at dksL_law_35 12 rfl rfl)
theorem dL_law_949 : decode cL_law 949 = .ok (.iaload, 1) := dk_46 (dk_at dksL_law_35 13 rfl rfl)
theorem dL_law_950 : decode cL_law 950 = .ok (.invokevirtual 116, 3) := dk_182 0 116 (dk_at dksL_law_35 14 rfl rfl)
theorem dL_law_953 : decode cL_law 953 = .ok (.if_icmp .eq 189, 3) := dk_159 0 189 (dk_at dksL_law_35 17 rfl rfl)
theorem dL_law_956 : decode cL_law 956 = .ok (.iconst 0, 1) := dk_3 (dk_at dksL_law_35 20 rfl rfl)
theorem dL_law_957 : decode cL_law 957 = .ok (.ireturn, 1) := dk_172 (dk_at dksL_law_35 21 rfl rfl)
theorem dL_law_958 : decode cL_law 958 = .ok (.aload_n 1, 1) := dk_43 (dk_at dksL_law_35 22 rfl rfl)
theorem dL_law_959 : decode cL_law 959 = .ok (.aload_n 0, 1) := dk_42 (dk_at dksL_law_35 23 rfl rfl)
theorem dL_law_960 : decode cL_law 960 = .ok (.iload_n 3, 1) := dk_29 (dk_at dksL_law_36 0 rfl rfl)
theorem dL_law_961 : decode cL_law 961 = .ok (.iconst 1, 1) := dk_4 (dk_at dksL_law_36 1 rfl rfl)
theorem dL_law_962 : decode cL_law 962 = .ok (.iadd, 1) := dk_96 (dk_at dksL_law_36 2 rfl rfl)
theorem dL_law_963 : decode cL_law 963 = .ok (.iaload, 1) := dk_46 (dk_at dksL_law_36 3 rfl rfl)
theorem dL_law_964 : decode cL_law 964 = .ok (.invokevirtual 117, 3) := dk_182 0 117 (dk_at dksL_law_36 4 rfl rfl)
theorem dL_law_967 : decode cL_law 967 = .ok (.aload_n 2, 1) := dk_44 (dk_at dksL_law_36 7 rfl rfl)
theorem dL_law_968 : decode cL_law 968 = .ok (.aload_n 0, 1) := dk_42 (dk_at dksL_law_36 8 rfl rfl)
theorem dL_law_969 : decode cL_law 969 = .ok (.iload_n 3, 1) := dk_29 (dk_at dksL_law_36 9 rfl rfl)
theorem dL_law_970 : decode cL_law 970 = .ok (.iconst 1, 1) := dk_4 (dk_at dksL_law_36 10 rfl rfl)
theorem dL_law_971 : decode cL_law 971 = .ok (.iadd, 1) := dk_96 (dk_at dksL_law_36 11 rfl rfl)
theorem dL_law_972 : decode cL_law 972 = .ok (.iaload, 1) := dk_46 (dk_at dksL_law_36 12 rfl rfl)
theorem dL_law_973 : decode cL_law 973 = .ok (.invokevirtual 120, 3) := dk_182 0 120 (dk_at dksL_law_36 13 rfl rfl)
theorem dL_law_976 : decode cL_law 976 = .ok (.if_icmp .eq 166, 3) := dk_159 0 166 (dk_at dksL_law_36 16 rfl rfl)
theorem dL_law_979 : decode cL_law 979 = .ok (.iconst 0, 1) := dk_3 (dk_at dksL_law_36 19 rfl rfl)
theorem dL_law_980 : decode cL_law 980 = .ok (.ireturn, 1) := dk_172 (dk_at dksL_law_36 20 rfl rfl)
theorem dL_law_981 : decode cL_law 981 = .ok (.aload_n 1, 1) := dk_43 (dk_at dksL_law_36 21 rfl rfl)
theorem dL_law_982 : decode cL_law 982 = .ok (.aload_n 0, 1) := dk_42 (dk_at dksL_law_36 22 rfl rfl)
theorem dL_law_983 : decode cL_law 983 = .ok (.iload_n 3, 1) := dk_29 (dk_at dksL_law_36 23 rfl rfl)
theorem dL_law_984 : decode cL_law 984 = .ok (.iconst 1, 1) := dk_4 (dk_at dksL_law_37 0 rfl rfl)
theorem dL_law_985 : decode cL_law 985 = .ok (.iadd, 1) := dk_96 (dk_at dksL_law_37 1 rfl rfl)
theorem dL_law_986 : decode cL_law 986 = .ok (.iaload, 1) := dk_46 (dk_at dksL_law_37 2 rfl rfl)
theorem dL_law_987 : decode cL_law 987 = .ok (.aload_n 0, 1) := dk_42 (dk_at dksL_law_37 3 rfl rfl)
theorem dL_law_988 : decode cL_law 988 = .ok (.iload_n 3, 1) := dk_29 (dk_at dksL_law_37 4 rfl rfl)
theorem dL_law_989 : decode cL_law 989 = .ok (.iconst 2, 1) := dk_5 (dk_at dksL_law_37 5 rfl rfl)
theorem dL_law_990 : decode cL_law 990 = .ok (.iadd, 1) := dk_96 (dk_at dksL_law_37 6 rfl rfl)
theorem dL_law_991 : decode cL_law 991 = .ok (.iaload, 1) := dk_46 (dk_at dksL_law_37 7 rfl rfl)
theorem dL_law_992 : decode cL_law 992 = .ok (.invokevirtual 121, 3) := dk_182 0 121 (dk_at dksL_law_37 8 rfl rfl)
theorem dL_law_995 : decode cL_law 995 = .ok (.aload_n 2, 1) := dk_44 (dk_at dksL_law_37 11 rfl rfl)
theorem dL_law_996 : decode cL_law 996 = .ok (.aload_n 0, 1) := dk_42 (dk_at dksL_law_37 12 rfl rfl)
theorem dL_law_997 : decode cL_law 997 = .ok (.iload_n 3, 1) := dk_29 (dk_at dksL_law_37 13 rfl rfl)
theorem dL_law_998 : decode cL_law 998 = .ok (.iconst 1, 1) := dk_4 (dk_at dksL_law_37 14 rfl rfl)
theorem dL_law_999 : decode cL_law 999 = .ok (.iadd, 1) := dk_96 (dk_at dksL_law_37 15 rfl rfl)
theorem dL_law_1000 : decode cL_law 1000 = .ok (.iaload, 1) := dk_46 (dk_at dksL_law_37 16 rfl rfl)
theorem dL_law_1001 : decode cL_law 1001 = .ok (.aload_n 0, 1) := dk_42 (dk_at dksL_law_37 17 rfl rfl)
theorem dL_law_1002 : decode cL_law 1002 = .ok (.iload_n 3, 1) := dk_29 (dk_at dksL_law_37 18 rfl rfl)
theorem dL_law_1003 : decode cL_law 1003 = .ok (.iconst 2, 1) := dk_5 (dk_at dksL_law_37 19 rfl rfl)
theorem dL_law_1004 : decode cL_law 1004 = .ok (.iadd, 1) := dk_96 (dk_at dksL_law_37 20 rfl rfl)
theorem dL_law_1005 : decode cL_law 1005 = .ok (.iaload, 1) := dk_46 (dk_at dksL_law_37 21 rfl rfl)
theorem dL_law_1006 : decode cL_law 1006 = .ok (.invokevirtual 124, 3) := dk_182 0 124 (dk_at dksL_law_38 0 rfl rfl)
theorem dL_law_1009 : decode cL_law 1009 = .ok (.if_icmp .eq 133, 3) := dk_159 0 133 (dk_at dksL_law_38 3 rfl rfl)
theorem dL_law_1012 : decode cL_law 1012 = .ok (.iconst 0, 1) := dk_3 (dk_at dksL_law_38 6 rfl rfl)
theorem dL_law_1013 : decode cL_law 1013 = .ok (.ireturn, 1) := dk_172 (dk_at dksL_law_38 7 rfl rfl)
theorem dL_law_1014 : decode cL_law 1014 = .ok (.aload_n 1, 1) := dk_43 (dk_at dksL_law_38 8 rfl rfl)
theorem dL_law_1015 : decode cL_law 1015 = .ok (.aload_n 0, 1) := dk_42 (dk_at dksL_law_38 9 rfl rfl)
theorem dL_law_1016 : decode cL_law 1016 = .ok (.iload_n 3, 1) := dk_29 (dk_at dksL_law_38 10 rfl rfl)
theorem dL_law_1017 : decode cL_law 1017 = .ok (.iconst 1, 1) := dk_4 (dk_at dksL_law_38 11 rfl rfl)
theorem dL_law_1018 : decode cL_law 1018 = .ok (.iadd, 1) := dk_96 (dk_at dksL_law_38 12 rfl rfl)
theorem dL_law_1019 : decode cL_law 1019 = .ok (.iaload, 1) := dk_46 (dk_at dksL_law_38 13 rfl rfl)
theorem dL_law_1020 : decode cL_law 1020 = .ok (.aload_n 0, 1) := dk_42 (dk_at dksL_law_38 14 rfl rfl)
theorem dL_law_1021 : decode cL_law 1021 = .ok (.iload_n 3, 1) := dk_29 (dk_at dksL_law_38 15 rfl rfl)
theorem dL_law_1022 : decode cL_law 1022 = .ok (.iconst 2, 1) := dk_5 (dk_at dksL_law_38 16 rfl rfl)
theorem dL_law_1023 : decode cL_law 1023 = .ok (.iadd, 1) := dk_96 (dk_at dksL_law_38 17 rfl rfl)
theorem dL_law_1024 : decode cL_law 1024 = .ok (.iaload, 1) := dk_46 (dk_at dksL_law_38 18 rfl rfl)
theorem dL_law_1025 : decode cL_law 1025 = .ok (.invokevirtual 125, 3) := dk_182 0 125 (dk_at dksL_law_38 19 rfl rfl)
theorem dL_law_1028 : decode cL_law 1028 = .ok (.aload_n 2, 1) := dk_44 (dk_at dksL_law_38 22 rfl rfl)
theorem dL_law_1029 : decode cL_law 1029 = .ok (.aload_n 0, 1) := dk_42 (dk_at dksL_law_38 23 rfl rfl)
theorem dL_law_1030 : decode cL_law 1030 = .ok (.iload_n 3, 1) := dk_29 (dk_at dksL_law_39 0 rfl rfl)
theorem dL_law_1031 : decode cL_law 1031 = .ok (.iconst 1, 1) := dk_4 (dk_at dksL_law_39 1 rfl rfl)
theorem dL_law_1032 : decode cL_law 1032 = .ok (.iadd, 1) := dk_96 (dk_at dksL_law_39 2 rfl rfl)
theorem dL_law_1033 : decode cL_law 1033 = .ok (.iaload, 1) := dk_46 (dk_at dksL_law_39 3 rfl rfl)
theorem dL_law_1034 : decode cL_law 1034 = .ok (.aload_n 0, 1) := dk_42 (dk_at dksL_law_39 4 rfl rfl)
theorem dL_law_1035 : decode cL_law 1035 = .ok (.iload_n 3, 1) := dk_29 (dk_at dksL_law_39 5 rfl rfl)
theorem dL_law_1036 : decode cL_law 1036 = .ok (.iconst 2, 1) := dk_5 (dk_at dksL_law_39 6 rfl rfl)
theorem dL_law_1037 : decode cL_law 1037 = .ok (.iadd, 1) := dk_96 (dk_at dksL_law_39 7 rfl rfl)
theorem dL_law_1038 : decode cL_law 1038 = .ok (.iaload, 1) := dk_46 (dk_at dksL_law_39 8 rfl rfl)
theorem dL_law_1039 : decode cL_law 1039 = .ok (.invokevirtual 128, 3) := dk_182 0 128 (dk_at dksL_law_39 9 rfl rfl)
theorem dL_law_1042 : decode cL_law 1042 = .ok (.if_icmp .eq 100, 3) := dk_159 0 100 (dk_at dksL_law_39 12 rfl rfl)
theorem dL_law_1045 : decode cL_law 1045 = .ok (.iconst 0, 1) := dk_3 (dk_at dksL_law_39 15 rfl rfl)
theorem dL_law_1046 : decode cL_law 1046 = .ok (.ireturn, 1) := dk_172 (dk_at dksL_law_39 16 rfl rfl)
theorem dL_law_1047 : decode cL_law 1047 = .ok (.aload_n 1, 1) := dk_43 (dk_at dksL_law_39 17 rfl rfl)
theorem dL_law_1048 : decode cL_law 1048 = .ok (.aload_n 0, 1) := dk_42 (dk_at dksL_law_39 18 rfl rfl)
theorem dL_law_1049 : decode cL_law 1049 = .ok (.iload_n 3, 1) := dk_29 (dk_at dksL_law_39 19 rfl rfl)
theorem dL_law_1050 : decode cL_law 1050 = .ok (.iconst 1, 1) := dk_4 (dk_at dksL_law_39 20 rfl rfl)
theorem dL_law_1051 : decode cL_law 1051 = .ok (.iadd, 1) := dk_96 (dk_at dksL_law_39 21 rfl rfl)
theorem dL_law_1052 : decode cL_law 1052 = .ok (.iaload, 1) := dk_46 (dk_at dksL_law_39 22 rfl rfl)
theorem dL_law_1053 : decode cL_law 1053 = .ok (.invokevirtual 129, 3) := dk_182 0 129 (dk_at dksL_law_40 0 rfl rfl)
theorem dL_law_1056 : decode cL_law 1056 = .ok (.aload_n 2, 1) := dk_44 (dk_at dksL_law_40 3 rfl rfl)
theorem dL_law_1057 : decode cL_law 1057 = .ok (.aload_n 0, 1) := dk_42 (dk_at dksL_law_40 4 rfl rfl)
theorem dL_law_1058 : decode cL_law 1058 = .ok (.iload_n 3, 1) := dk_29 (dk_at dksL_law_40 5 rfl rfl)
theorem dL_law_1059 : decode cL_law 1059 = .ok (.iconst 1, 1) := dk_4 (dk_at dksL_law_40 6 rfl rfl)
theorem dL_law_1060 : decode cL_law 1060 = .ok (.iadd, 1) := dk_96 (dk_at dksL_law_40 7 rfl rfl)
theorem dL_law_1061 : decode cL_law 1061 = .ok (.iaload, 1) := dk_46 (dk_at dksL_law_40 8 rfl rfl)
theorem dL_law_1062 : decode cL_law 1062 = .ok (.invokevirtual 132, 3) := dk_182 0 132 (dk_at dksL_law_40 9 rfl rfl)
theorem dL_law_1065 : decode cL_law 1065 = .ok (.if_icmp .eq 77, 3) := dk_159 0 77 (dk_at dksL_law_40 12 rfl rfl)
theorem dL_law_1068 : decode cL_law 1068 = .ok (.iconst 0, 1) := dk_3 (dk_at dksL_law_40 15 rfl rfl)
theorem dL_law_1069 : decode cL_law 1069 = .ok (.ireturn, 1) := dk_172 (dk_at dksL_law_40 16 rfl rfl)
theorem dL_law_1070 : decode cL_law 1070 = .ok (.aload_n 1, 1) := dk_43 (dk_at dksL_law_40 17 rfl rfl)
theorem dL_law_1071 : decode cL_law 1071 = .ok (.invokevirtual 133, 3) := dk_182 0 133 (dk_at dksL_law_40 18 rfl rfl)
theorem dL_law_1074 : decode cL_law 1074 = .ok (.aload_n 2, 1) := dk_44 (dk_at dksL_law_40 21 rfl rfl)
theorem dL_law_1075 : decode cL_law 1075 = .ok (.invokevirtual 136, 3) := dk_182 0 136 (dk_at dksL_law_41 0 rfl rfl)
theorem dL_law_1078 : decode cL_law 1078 = .ok (.if_icmp .eq 64, 3) := dk_159 0 64 (dk_at dksL_law_41 3 rfl rfl)
theorem dL_law_1081 : decode cL_law 1081 = .ok (.iconst 0, 1) := dk_3 (dk_at dksL_law_41 6 rfl rfl)
theorem dL_law_1082 : decode cL_law 1082 = .ok (.ireturn, 1) := dk_172 (dk_at dksL_law_41 7 rfl rfl)
theorem dL_law_1083 : decode cL_law 1083 = .ok (.aload_n 1, 1) := dk_43 (dk_at dksL_law_41 8 rfl rfl)
theorem dL_law_1084 : decode cL_law 1084 = .ok (.invokevirtual 137, 3) := dk_182 0 137 (dk_at dksL_law_41 9 rfl rfl)
theorem dL_law_1087 : decode cL_law 1087 = .ok (.aload_n 2, 1) := dk_44 (dk_at dksL_law_41 12 rfl rfl)
theorem dL_law_1088 : decode cL_law 1088 = .ok (.invokevirtual 141, 3) := dk_182 0 141 (dk_at dksL_law_41 13 rfl rfl)
theorem dL_law_1091 : decode cL_law 1091 = .ok (.if_icmp .eq 51, 3) := dk_159 0 51 (dk_at dksL_law_41 16 rfl rfl)
theorem dL_law_1094 : decode cL_law 1094 = .ok (.iconst 0, 1) := dk_3 (dk_at dksL_law_41 19 rfl rfl)
theorem dL_law_1095 : decode cL_law 1095 = .ok (.ireturn, 1) := dk_172 (dk_at dksL_law_41 20 rfl rfl)
theorem dL_law_1096 : decode cL_law 1096 = .ok (.aload_n 1, 1) := dk_43 (dk_at dksL_law_41 21 rfl rfl)
theorem dL_law_1097 : decode cL_law 1097 = .ok (.aload_n 0, 1) := dk_42 (dk_at dksL_law_41 22 rfl rfl)
theorem dL_law_1098 : decode cL_law 1098 = .ok (.iload_n 3, 1) := dk_29 (dk_at dksL_law_41 23 rfl rfl)
theorem dL_law_1099 : decode cL_law 1099 = .ok (.iconst 1, 1) := dk_4 (dk_at dksL_law_42 0 rfl rfl)
theorem dL_law_1100 : decode cL_law 1100 = .ok (.iadd, 1) := dk_96 (dk_at dksL_law_42 1 rfl rfl)
theorem dL_law_1101 : decode cL_law 1101 = .ok (.iaload, 1) := dk_46 (dk_at dksL_law_42 2 rfl rfl)
theorem dL_law_1102 : decode cL_law 1102 = .ok (.invokevirtual 142, 3) := dk_182 0 142 (dk_at dksL_law_42 3 rfl rfl)
theorem dL_law_1105 : decode cL_law 1105 = .ok (.aload_n 2, 1) := dk_44 (dk_at dksL_law_42 6 rfl rfl)
theorem dL_law_1106 : decode cL_law 1106 = .ok (.aload_n 0, 1) := dk_42 (dk_at dksL_law_42 7 rfl rfl)
theorem dL_law_1107 : decode cL_law 1107 = .ok (.iload_n 3, 1) := dk_29 (dk_at dksL_law_42 8 rfl rfl)
theorem dL_law_1108 : decode cL_law 1108 = .ok (.iconst 1, 1) := dk_4 (dk_at dksL_law_42 9 rfl rfl)
theorem dL_law_1109 : decode cL_law 1109 = .ok (.iadd, 1) := dk_96 (dk_at dksL_law_42 10 rfl rfl)
theorem dL_law_1110 : decode cL_law 1110 = .ok (.iaload, 1) := dk_46 (dk_at dksL_law_42 11 rfl rfl)
theorem dL_law_1111 : decode cL_law 1111 = .ok (.invokevirtual 145, 3) := dk_182 0 145 (dk_at dksL_law_42 12 rfl rfl)
theorem dL_law_1114 : decode cL_law 1114 = .ok (.if_icmp .eq 28, 3) := dk_159 0 28 (dk_at dksL_law_42 15 rfl rfl)
theorem dL_law_1117 : decode cL_law 1117 = .ok (.iconst 0, 1) := dk_3 (dk_at dksL_law_42 18 rfl rfl)
theorem dL_law_1118 : decode cL_law 1118 = .ok (.ireturn, 1) := dk_172 (dk_at dksL_law_42 19 rfl rfl)
theorem dL_law_1119 : decode cL_law 1119 = .ok (.aload_n 1, 1) := dk_43 (dk_at dksL_law_42 20 rfl rfl)
theorem dL_law_1120 : decode cL_law 1120 = .ok (.aload_n 0, 1) := dk_42 (dk_at dksL_law_42 21 rfl rfl)
theorem dL_law_1121 : decode cL_law 1121 = .ok (.iload_n 3, 1) := dk_29 (dk_at dksL_law_42 22 rfl rfl)
theorem dL_law_1122 : decode cL_law 1122 = .ok (.iconst 1, 1) := dk_4 (dk_at dksL_law_42 23 rfl rfl)
theorem dL_law_1123 : decode cL_law 1123 = .ok (.iadd, 1) := dk_96 (dk_at dksL_law_43 0 rfl rfl)
theorem dL_law_1124 : decode cL_law 1124 = .ok (.iaload, 1) := dk_46 (dk_at dksL_law_43 1 rfl rfl)
theorem dL_law_1125 : decode cL_law 1125 = .ok (.invokevirtual 146, 3) := dk_182 0 146 (dk_at dksL_law_43 2 rfl rfl)
theorem dL_law_1128 : decode cL_law 1128 = .ok (.aload_n 2, 1) := dk_44 (dk_at dksL_law_43 5 rfl rfl)
theorem dL_law_1129 : decode cL_law 1129 = .ok (.aload_n 0, 1) := dk_42 (dk_at dksL_law_43 6 rfl rfl)
theorem dL_law_1130 : decode cL_law 1130 = .ok (.iload_n 3, 1) := dk_29 (dk_at dksL_law_43 7 rfl rfl)
theorem dL_law_1131 : decode cL_law 1131 = .ok (.iconst 1, 1) := dk_4 (dk_at dksL_law_43 8 rfl rfl)
theorem dL_law_1132 : decode cL_law 1132 = .ok (.iadd, 1) := dk_96 (dk_at dksL_law_43 9 rfl rfl)
theorem dL_law_1133 : decode cL_law 1133 = .ok (.iaload, 1) := dk_46 (dk_at dksL_law_43 10 rfl rfl)
theorem dL_law_1134 : decode cL_law 1134 = .ok (.invokevirtual 149, 3) := dk_182 0 149 (dk_at dksL_law_43 11 rfl rfl)
theorem dL_law_1137 : decode cL_law 1137 = .ok (.if_icmp .eq 5, 3) := dk_159 0 5 (dk_at dksL_law_43 14 rfl rfl)
theorem dL_law_1140 : decode cL_law 1140 = .ok (.iconst 0, 1) := dk_3 (dk_at dksL_law_43 17 rfl rfl)
theorem dL_law_1141 : decode cL_law 1141 = .ok (.ireturn, 1) := dk_172 (dk_at dksL_law_43 18 rfl rfl)
theorem dL_law_1142 : decode cL_law 1142 = .ok (.iinc 3 6, 3) := dk_132 3 6 (dk_at dksL_law_43 19 rfl rfl)
theorem dL_law_1145 : decode cL_law 1145 = .ok (.goto (-1127), 3) := dk_167 251 153 (dk_at dksL_law_44 0 rfl rfl)
theorem dL_law_1148 : decode cL_law 1148 = .ok (.iconst 1, 1) := dk_4 (dk_at dksL_law_44 3 rfl rfl)
theorem dL_law_1149 : decode cL_law 1149 = .ok (.ireturn, 1) := dk_172 (dk_at dksL_law_44 4 rfl rfl)
theorem q101 : (Jvm.Cond.initialized "MissedTrainsLaw") ∈ lw_all := lw_g (lw_at lw_m1 0 rfl) rfl
set_option maxRecDepth 100000
theorem q128 : (Jvm.Cond.classLink "MissedTrainsLaw" (7 : Nat) "MissedTrains") ∈ lw_all := lw_g (lw_at lw_m1 27 rfl) rfl
theorem q130 : (Jvm.Cond.methodLink "MissedTrainsLaw" (9 : Nat) ({ cls := "MissedTrains", name := "<init>", desc := "()V" } : Jvm.MethodName)) ∈ lw_all := lw_g (lw_at lw_m1 29 rfl) rfl
theorem q405 : (Jvm.Cond.methodLink "MissedTrainsLaw" (13 : Nat) ({ cls := "MissedTrains", name := "person", desc := "(IIII)Z" } : Jvm.MethodName)) ∈ lw_all := lw_g (lw_at lw_m2 64 rfl) rfl
theorem q418 : (Jvm.Cond.methodLink "MissedTrainsLaw" (18 : Nat) ({ cls := "MissedTrains", name := "changing", desc := "(I)Z" } : Jvm.MethodName)) ∈ lw_all := lw_g (lw_at lw_m2 77 rfl) rfl
theorem q425 : (Jvm.Cond.methodLink "MissedTrainsLaw" (23 : Nat) ({ cls := "MissedTrains", name := "feed", desc := "(IIIII)I" } : Jvm.MethodName)) ∈ lw_all := lw_g (lw_at lw_m2 84 rfl) rfl
theorem q433 : (Jvm.Cond.methodLink "MissedTrainsLaw" (28 : Nat) ({ cls := "MissedTrains", name := "law", desc := "(I)I" } : Jvm.MethodName)) ∈ lw_all := lw_g (lw_at lw_m2 92 rfl) rfl
theorem q702 : (Jvm.Cond.methodLink "MissedTrainsLaw" (33 : Nat) ({ cls := "MissedTrains", name := "timetable", desc := "(I)I" } : Jvm.MethodName)) ∈ lw_all := lw_g (lw_at lw_m3 121 rfl) rfl
theorem q874 : (Jvm.Cond.methodLink "MissedTrainsLaw" (37 : Nat) ({ cls := "MissedTrains", name := "orders", desc := "(I)I" } : Jvm.MethodName)) ∈ lw_all := lw_g (lw_at lw_m4 53 rfl) rfl
theorem q906 : (Jvm.Cond.methodLink "MissedTrainsLaw" (41 : Nat) ({ cls := "MissedTrains", name := "days", desc := "(I)I" } : Jvm.MethodName)) ∈ lw_all := lw_g (lw_at lw_m4 85 rfl) rfl
theorem q1012 : (Jvm.Cond.methodLink "MissedTrainsLaw" (45 : Nat) ({ cls := "MissedTrains", name := "tried", desc := "(II)I" } : Jvm.MethodName)) ∈ lw_all := lw_g (lw_at lw_m4 191 rfl) rfl
theorem q1028 : (Jvm.Cond.methodLink "MissedTrainsLaw" (50 : Nat) ({ cls := "MissedTrains", name := "personIs", desc := "(II)I" } : Jvm.MethodName)) ∈ lw_all := lw_g (lw_at lw_m4 207 rfl) rfl
theorem q1032 : (Jvm.Cond.methodLink "MissedTrainsLaw" (54 : Nat) ({ cls := "MissedTrains", name := "trainIs", desc := "(II)I" } : Jvm.MethodName)) ∈ lw_all := lw_g (lw_at lw_m4 211 rfl) rfl
theorem q1046 : (Jvm.Cond.methodLink "MissedTrainsLaw" (58 : Nat) ({ cls := "MissedTrains", name := "stopIs", desc := "(III)I" } : Jvm.MethodName)) ∈ lw_all := lw_g (lw_at lw_m4 225 rfl) rfl
theorem q1050 : (Jvm.Cond.methodLink "MissedTrainsLaw" (63 : Nat) ({ cls := "MissedTrains", name := "earliest", desc := "(IIII)I" } : Jvm.MethodName)) ∈ lw_all := lw_g (lw_at lw_m4 229 rfl) rfl
theorem q1063 : (Jvm.Cond.methodLink "MissedTrainsLaw" (68 : Nat) ({ cls := "MissedTrains", name := "latest", desc := "(III)I" } : Jvm.MethodName)) ∈ lw_all := lw_g (lw_at lw_m5 2 rfl) rfl
theorem q1080 : (Jvm.Cond.methodLink "MissedTrainsLaw" (72 : Nat) ({ cls := "MissedTrains", name := "fastest", desc := "(II)I" } : Jvm.MethodName)) ∈ lw_all := lw_g (lw_at lw_m5 19 rfl) rfl
theorem q1084 : (Jvm.Cond.methodLink "MissedTrainsLaw" (76 : Nat) ({ cls := "MissedTrains", name := "best", desc := "(III)I" } : Jvm.MethodName)) ∈ lw_all := lw_g (lw_at lw_m5 23 rfl) rfl
theorem q1092 : (Jvm.Cond.methodLink "MissedTrainsLaw" (80 : Nat) ({ cls := "MissedTrains", name := "comeTo", desc := "(II)I" } : Jvm.MethodName)) ∈ lw_all := lw_g (lw_at lw_m5 31 rfl) rfl
theorem q1096 : (Jvm.Cond.methodLink "MissedTrainsLaw" (84 : Nat) ({ cls := "MissedTrains", name := "direct", desc := "(III)I" } : Jvm.MethodName)) ∈ lw_all := lw_g (lw_at lw_m5 35 rfl) rfl
theorem q1104 : (Jvm.Cond.methodLink "MissedTrainsLaw" (88 : Nat) ({ cls := "MissedTrains", name := "justMissed", desc := "(II)I" } : Jvm.MethodName)) ∈ lw_all := lw_g (lw_at lw_m5 43 rfl) rfl
theorem q1112 : (Jvm.Cond.methodLink "MissedTrainsLaw" (92 : Nat) ({ cls := "MissedTrains", name := "platforms", desc := "(II)I" } : Jvm.MethodName)) ∈ lw_all := lw_g (lw_at lw_m5 51 rfl) rfl
theorem q1121 : (Jvm.Cond.methodLink "MissedTrainsLaw" (96 : Nat) ({ cls := "MissedTrains", name := "sets", desc := "()I" } : Jvm.MethodName)) ∈ lw_all := lw_g (lw_at lw_m5 60 rfl) rfl
theorem q1137 : (Jvm.Cond.methodLink "MissedTrainsLaw" (101 : Nat) ({ cls := "MissedTrains", name := "meets", desc := "()I" } : Jvm.MethodName)) ∈ lw_all := lw_g (lw_at lw_m5 76 rfl) rfl
theorem q1145 : (Jvm.Cond.methodLink "MissedTrainsLaw" (105 : Nat) ({ cls := "MissedTrains", name := "inspector", desc := "(I)I" } : Jvm.MethodName)) ∈ lw_all := lw_g (lw_at lw_m5 84 rfl) rfl
theorem q1153 : (Jvm.Cond.methodLink "MissedTrainsLaw" (109 : Nat) ({ cls := "MissedTrains", name := "longestWait", desc := "(I)I" } : Jvm.MethodName)) ∈ lw_all := lw_g (lw_at lw_m5 92 rfl) rfl
theorem q1157 : (Jvm.Cond.methodLink "MissedTrainsLaw" (113 : Nat) ({ cls := "MissedTrains", name := "busiest", desc := "(I)I" } : Jvm.MethodName)) ∈ lw_all := lw_g (lw_at lw_m5 96 rfl) rfl
theorem q1165 : (Jvm.Cond.methodLink "MissedTrainsLaw" (117 : Nat) ({ cls := "MissedTrains", name := "onTheWay", desc := "(I)I" } : Jvm.MethodName)) ∈ lw_all := lw_g (lw_at lw_m5 104 rfl) rfl
theorem q1169 : (Jvm.Cond.methodLink "MissedTrainsLaw" (121 : Nat) ({ cls := "MissedTrains", name := "regular", desc := "(II)I" } : Jvm.MethodName)) ∈ lw_all := lw_g (lw_at lw_m5 108 rfl) rfl
theorem q1177 : (Jvm.Cond.methodLink "MissedTrainsLaw" (125 : Nat) ({ cls := "MissedTrains", name := "fares", desc := "(II)I" } : Jvm.MethodName)) ∈ lw_all := lw_g (lw_at lw_m5 116 rfl) rfl
theorem q1185 : (Jvm.Cond.methodLink "MissedTrainsLaw" (129 : Nat) ({ cls := "MissedTrains", name := "seed", desc := "(I)Z" } : Jvm.MethodName)) ∈ lw_all := lw_g (lw_at lw_m5 124 rfl) rfl
theorem q1190 : (Jvm.Cond.methodLink "MissedTrainsLaw" (133 : Nat) ({ cls := "MissedTrains", name := "keep", desc := "()I" } : Jvm.MethodName)) ∈ lw_all := lw_g (lw_at lw_m5 129 rfl) rfl
theorem q1194 : (Jvm.Cond.methodLink "MissedTrainsLaw" (137 : Nat) ({ cls := "MissedTrains", name := "undo", desc := "()Z" } : Jvm.MethodName)) ∈ lw_all := lw_g (lw_at lw_m5 133 rfl) rfl
theorem q1202 : (Jvm.Cond.methodLink "MissedTrainsLaw" (142 : Nat) ({ cls := "MissedTrains", name := "check", desc := "(I)I" } : Jvm.MethodName)) ∈ lw_all := lw_g (lw_at lw_m5 141 rfl) rfl
theorem q1206 : (Jvm.Cond.methodLink "MissedTrainsLaw" (146 : Nat) ({ cls := "MissedTrains", name := "count", desc := "(I)I" } : Jvm.MethodName)) ∈ lw_all := lw_g (lw_at lw_m5 145 rfl) rfl
theorem q1218 : (Jvm.Cond.classLink "MissedTrainsLaw" (10 : Nat) "MissedTrainsModel") ∈ lw_all := lw_g (lw_at lw_m5 157 rfl) rfl
theorem q1220 : (Jvm.Cond.methodLink "MissedTrainsLaw" (12 : Nat) ({ cls := "MissedTrainsModel", name := "<init>", desc := "()V" } : Jvm.MethodName)) ∈ lw_all := lw_g (lw_at lw_m5 159 rfl) rfl
theorem q1423 : (Jvm.Cond.methodLink "MissedTrainsLaw" (17 : Nat) ({ cls := "MissedTrainsModel", name := "person", desc := "(IIII)Z" } : Jvm.MethodName)) ∈ lw_all := lw_g (lw_at lw_m6 122 rfl) rfl
theorem q1436 : (Jvm.Cond.methodLink "MissedTrainsLaw" (22 : Nat) ({ cls := "MissedTrainsModel", name := "changing", desc := "(I)Z" } : Jvm.MethodName)) ∈ lw_all := lw_g (lw_at lw_m6 135 rfl) rfl
theorem q1440 : (Jvm.Cond.methodLink "MissedTrainsLaw" (27 : Nat) ({ cls := "MissedTrainsModel", name := "feed", desc := "(IIIII)I" } : Jvm.MethodName)) ∈ lw_all := lw_g (lw_at lw_m6 139 rfl) rfl
theorem q1448 : (Jvm.Cond.methodLink "MissedTrainsLaw" (32 : Nat) ({ cls := "MissedTrainsModel", name := "law", desc := "(I)I" } : Jvm.MethodName)) ∈ lw_all := lw_g (lw_at lw_m6 147 rfl) rfl
theorem q1535 : (Jvm.Cond.methodLink "MissedTrainsLaw" (36 : Nat) ({ cls := "MissedTrainsModel", name := "timetable", desc := "(I)I" } : Jvm.MethodName)) ∈ lw_all := lw_g (lw_at lw_m6 234 rfl) rfl
theorem q1562 : (Jvm.Cond.methodLink "MissedTrainsLaw" (40 : Nat) ({ cls := "MissedTrainsModel", name := "orders", desc := "(I)I" } : Jvm.MethodName)) ∈ lw_all := lw_g (lw_at lw_m7 21 rfl) rfl
theorem q1570 : (Jvm.Cond.methodLink "MissedTrainsLaw" (44 : Nat) ({ cls := "MissedTrainsModel", name := "days", desc := "(I)I" } : Jvm.MethodName)) ∈ lw_all := lw_g (lw_at lw_m7 29 rfl) rfl
theorem q1632 : (Jvm.Cond.methodLink "MissedTrainsLaw" (49 : Nat) ({ cls := "MissedTrainsModel", name := "tried", desc := "(II)I" } : Jvm.MethodName)) ∈ lw_all := lw_g (lw_at lw_m7 91 rfl) rfl
theorem q1643 : (Jvm.Cond.methodLink "MissedTrainsLaw" (53 : Nat) ({ cls := "MissedTrainsModel", name := "personIs", desc := "(II)I" } : Jvm.MethodName)) ∈ lw_all := lw_g (lw_at lw_m7 102 rfl) rfl
theorem q1647 : (Jvm.Cond.methodLink "MissedTrainsLaw" (57 : Nat) ({ cls := "MissedTrainsModel", name := "trainIs", desc := "(II)I" } : Jvm.MethodName)) ∈ lw_all := lw_g (lw_at lw_m7 106 rfl) rfl
theorem q1651 : (Jvm.Cond.methodLink "MissedTrainsLaw" (62 : Nat) ({ cls := "MissedTrainsModel", name := "stopIs", desc := "(III)I" } : Jvm.MethodName)) ∈ lw_all := lw_g (lw_at lw_m7 110 rfl) rfl
theorem q1655 : (Jvm.Cond.methodLink "MissedTrainsLaw" (67 : Nat) ({ cls := "MissedTrainsModel", name := "earliest", desc := "(IIII)I" } : Jvm.MethodName)) ∈ lw_all := lw_g (lw_at lw_m7 114 rfl) rfl
theorem q1672 : (Jvm.Cond.methodLink "MissedTrainsLaw" (71 : Nat) ({ cls := "MissedTrainsModel", name := "latest", desc := "(III)I" } : Jvm.MethodName)) ∈ lw_all := lw_g (lw_at lw_m7 131 rfl) rfl
theorem q1680 : (Jvm.Cond.methodLink "MissedTrainsLaw" (75 : Nat) ({ cls := "MissedTrainsModel", name := "fastest", desc := "(II)I" } : Jvm.MethodName)) ∈ lw_all := lw_g (lw_at lw_m7 139 rfl) rfl
theorem q1688 : (Jvm.Cond.methodLink "MissedTrainsLaw" (79 : Nat) ({ cls := "MissedTrainsModel", name := "best", desc := "(III)I" } : Jvm.MethodName)) ∈ lw_all := lw_g (lw_at lw_m7 147 rfl) rfl
theorem q1696 : (Jvm.Cond.methodLink "MissedTrainsLaw" (83 : Nat) ({ cls := "MissedTrainsModel", name := "comeTo", desc := "(II)I" } : Jvm.MethodName)) ∈ lw_all := lw_g (lw_at lw_m7 155 rfl) rfl
theorem q1700 : (Jvm.Cond.methodLink "MissedTrainsLaw" (87 : Nat) ({ cls := "MissedTrainsModel", name := "direct", desc := "(III)I" } : Jvm.MethodName)) ∈ lw_all := lw_g (lw_at lw_m7 159 rfl) rfl
theorem q1716 : (Jvm.Cond.methodLink "MissedTrainsLaw" (112 : Nat) ({ cls := "MissedTrainsModel", name := "longestWait", desc := "(I)I" } : Jvm.MethodName)) ∈ lw_all := lw_g (lw_at lw_m7 175 rfl) rfl
theorem q1720 : (Jvm.Cond.methodLink "MissedTrainsLaw" (91 : Nat) ({ cls := "MissedTrainsModel", name := "justMissed", desc := "(II)I" } : Jvm.MethodName)) ∈ lw_all := lw_g (lw_at lw_m7 179 rfl) rfl
theorem q1728 : (Jvm.Cond.methodLink "MissedTrainsLaw" (95 : Nat) ({ cls := "MissedTrainsModel", name := "platforms", desc := "(II)I" } : Jvm.MethodName)) ∈ lw_all := lw_g (lw_at lw_m7 187 rfl) rfl
theorem q1732 : (Jvm.Cond.methodLink "MissedTrainsLaw" (100 : Nat) ({ cls := "MissedTrainsModel", name := "sets", desc := "()I" } : Jvm.MethodName)) ∈ lw_all := lw_g (lw_at lw_m7 191 rfl) rfl
theorem q1749 : (Jvm.Cond.methodLink "MissedTrainsLaw" (104 : Nat) ({ cls := "MissedTrainsModel", name := "meets", desc := "()I" } : Jvm.MethodName)) ∈ lw_all := lw_g (lw_at lw_m7 208 rfl) rfl
theorem q1757 : (Jvm.Cond.methodLink "MissedTrainsLaw" (108 : Nat) ({ cls := "MissedTrainsModel", name := "inspector", desc := "(I)I" } : Jvm.MethodName)) ∈ lw_all := lw_g (lw_at lw_m7 216 rfl) rfl
theorem q1765 : (Jvm.Cond.methodLink "MissedTrainsLaw" (116 : Nat) ({ cls := "MissedTrainsModel", name := "busiest", desc := "(I)I" } : Jvm.MethodName)) ∈ lw_all := lw_g (lw_at lw_m7 224 rfl) rfl
theorem q1769 : (Jvm.Cond.methodLink "MissedTrainsLaw" (120 : Nat) ({ cls := "MissedTrainsModel", name := "onTheWay", desc := "(I)I" } : Jvm.MethodName)) ∈ lw_all := lw_g (lw_at lw_m7 228 rfl) rfl
theorem q1773 : (Jvm.Cond.methodLink "MissedTrainsLaw" (124 : Nat) ({ cls := "MissedTrainsModel", name := "regular", desc := "(II)I" } : Jvm.MethodName)) ∈ lw_all := lw_g (lw_at lw_m7 232 rfl) rfl
theorem q1777 : (Jvm.Cond.methodLink "MissedTrainsLaw" (128 : Nat) ({ cls := "MissedTrainsModel", name := "fares", desc := "(II)I" } : Jvm.MethodName)) ∈ lw_all := lw_g (lw_at lw_m7 236 rfl) rfl
theorem q1789 : (Jvm.Cond.methodLink "MissedTrainsLaw" (132 : Nat) ({ cls := "MissedTrainsModel", name := "seed", desc := "(I)Z" } : Jvm.MethodName)) ∈ lw_all := lw_g (lw_at lw_m8 8 rfl) rfl
theorem q1794 : (Jvm.Cond.methodLink "MissedTrainsLaw" (136 : Nat) ({ cls := "MissedTrainsModel", name := "keep", desc := "()I" } : Jvm.MethodName)) ∈ lw_all := lw_g (lw_at lw_m8 13 rfl) rfl
theorem q1798 : (Jvm.Cond.methodLink "MissedTrainsLaw" (141 : Nat) ({ cls := "MissedTrainsModel", name := "undo", desc := "()Z" } : Jvm.MethodName)) ∈ lw_all := lw_g (lw_at lw_m8 17 rfl) rfl
theorem q1802 : (Jvm.Cond.methodLink "MissedTrainsLaw" (145 : Nat) ({ cls := "MissedTrainsModel", name := "check", desc := "(I)I" } : Jvm.MethodName)) ∈ lw_all := lw_g (lw_at lw_m8 21 rfl) rfl
theorem q1806 : (Jvm.Cond.methodLink "MissedTrainsLaw" (149 : Nat) ({ cls := "MissedTrainsModel", name := "count", desc := "(I)I" } : Jvm.MethodName)) ∈ lw_all := lw_g (lw_at lw_m8 25 rfl) rfl
theorem q137 : (Jvm.Cond.arrayOver (Jvm.ClassFile.FieldType.object "MissedTrains$Train")) ∈ lw_tbl := lw_at lw_m1 36 rfl
set_option maxRecDepth 100000
theorem q180 : (Jvm.Cond.arrayClass Jvm.ClassFile.FieldType.int) ∈ lw_all := lw_g (lw_at lw_m1 79 rfl) rfl
theorem q188 : (Jvm.Cond.arrayOver (Jvm.ClassFile.FieldType.object "MissedTrains$Person")) ∈ lw_tbl := lw_at lw_m1 87 rfl
theorem q266 : (Jvm.Cond.arrayOver (Jvm.ClassFile.FieldType.object "MissedTrains$Sum")) ∈ lw_tbl := lw_at lw_m1 165 rfl
theorem q268 : (Jvm.Cond.arrayOver (Jvm.ClassFile.FieldType.object "MissedTrains$Condition")) ∈ lw_tbl := lw_at lw_m1 167 rfl
theorem q287 : (Jvm.Cond.arrayClass Jvm.ClassFile.FieldType.byte) ∈ lw_all := lw_g (lw_at lw_m1 186 rfl) rfl
theorem q289 : (Jvm.Cond.arrayOver (Jvm.ClassFile.FieldType.array Jvm.ClassFile.FieldType.int)) ∈ lw_tbl := lw_at lw_m1 188 rfl
theorem q325 : (Jvm.Cond.arrayClass Jvm.ClassFile.FieldType.boolean) ∈ lw_all := lw_g (lw_at lw_m1 224 rfl) rfl

/-! MissedTrains -/
set_option maxRecDepth 100000
def RX0 : String := "MissedTrains"
def TX0 : u_T := fun k => match k with
  | 0 => ("MissedTrains", "trains", "[LMissedTrains$Train;", true)
  | 1 => ("MissedTrains", "eventTrain", "[I", true)
  | 2 => ("MissedTrains", "eventStop", "[I", true)
  | 3 => ("MissedTrains", "many", "I", false)
  | 4 => ("MissedTrains", "events", "I", false)
  | 5 => ("MissedTrains", "changing", "I", false)
  | 6 => ("MissedTrains", "moment", "LMissedTrains$Moment;", true)
  | 7 => ("MissedTrains", "platform", "LMissedTrains$Platform;", true)
  | 8 => ("MissedTrains", "then", "LMissedTrains$Platform;", true)
  | 9 => ("MissedTrains", "kept", "LMissedTrains$Platform;", true)
  | 10 => ("MissedTrains", "tape", "[B", true)
  | 11 => ("MissedTrains", "law", "LMissedTrains$Text;", false)
  | 12 => ("MissedTrains", "taped", "I", false)
  | 13 => ("MissedTrains", "isKept", "Z", false)
  | 14 => ("MissedTrains", "there", "[I", true)
  | 15 => ("MissedTrains", "now", "[I", true)
  | 16 => ("MissedTrains", "leaving", "[I", true)
  | 17 => ("MissedTrains", "arriving", "[I", true)
  | 18 => ("MissedTrains", "behind", "[I", true)
  | 19 => ("MissedTrains", "isSeen", "[Z", true)
  | 20 => ("MissedTrains", "further", "[[I", true)
  | _ => ("MissedTrains", "least", "[I", true)
def tyX0 : Nat → FieldType := fun k => match k with
  | 0 => .array (.object "MissedTrains$Train")
  | 1 => .array .int
  | 2 => .array .int
  | 3 => .int
  | 4 => .int
  | 5 => .int
  | 6 => .object "MissedTrains$Moment"
  | 7 => .object "MissedTrains$Platform"
  | 8 => .object "MissedTrains$Platform"
  | 9 => .object "MissedTrains$Platform"
  | 10 => .array .byte
  | 11 => .object "MissedTrains$Text"
  | 12 => .int
  | 13 => .boolean
  | 14 => .array .int
  | 15 => .array .int
  | 16 => .array .int
  | 17 => .array .int
  | 18 => .array .int
  | 19 => .array .boolean
  | 20 => .array (.array .int)
  | _ => .array .int
abbrev wsX00 : List Cond := u_ws RX0 TX0 22
set_option maxRecDepth 100000 in
theorem nmX0 : ∀ a, a < 22 → ∀ b, b < 22 → a ≠ b → (TX0 a).2.1 ≠ (TX0 b).2.1 := by decide +kernel
set_option maxRecDepth 100000 in
theorem tyX0_ok : ∀ k, k < 22 → parseFieldDescriptor (TX0 k).2.2.1 = some (tyX0 k) := by decide +kernel
abbrev cX0_init : ByteArray := prog_1_method_11_code
def yX0_init : MethodName := ⟨RX0, "<init>", "()V"⟩
def dkwX0_init_8 : List UInt8 := [183, 0, 124, 83, 132, 1, 1, 167, 255, 234, 42, 180, 0, 82, 4, 181, 0, 125, 177]
abbrev dktX0_init_8 : List UInt8 := dkwX0_init_8 ++ []
def dkwX0_init_7 : List UInt8 := [16, 31, 188, 10, 181, 0, 121, 3, 60, 27, 16, 48, 162, 0, 22, 42, 180, 0, 24, 27, 187, 0, 33, 89]
abbrev dktX0_init_7 : List UInt8 := dkwX0_init_7 ++ dktX0_init_8
def dkwX0_init_6 : List UInt8 := [181, 0, 109, 42, 16, 48, 188, 4, 181, 0, 112, 42, 16, 48, 16, 8, 197, 0, 116, 2, 181, 0, 118, 42]
abbrev dktX0_init_6 : List UInt8 := dkwX0_init_6 ++ dktX0_init_7
def dkwX0_init_5 : List UInt8 := [181, 0, 100, 42, 16, 48, 188, 10, 181, 0, 103, 42, 16, 48, 188, 10, 181, 0, 106, 42, 16, 48, 188, 10]
abbrev dktX0_init_5 : List UInt8 := dkwX0_init_5 ++ dktX0_init_6
def dkwX0_init_4 : List UInt8 := [187, 0, 57, 89, 183, 0, 96, 181, 0, 48, 42, 16, 10, 188, 10, 181, 0, 97, 42, 16, 10, 188, 10]
abbrev dktX0_init_4 : List UInt8 := dkwX0_init_4 ++ dktX0_init_5
def dkwX0_init_3 : List UInt8 := [42, 187, 0, 77, 89, 42, 183, 0, 79, 181, 0, 89, 42, 17, 1, 4, 188, 8, 181, 0, 92, 42]
abbrev dktX0_init_3 : List UInt8 := dkwX0_init_3 ++ dktX0_init_4
def dkwX0_init_2 : List UInt8 := [42, 187, 0, 77, 89, 42, 183, 0, 79, 181, 0, 82, 42, 187, 0, 77, 89, 42, 183, 0, 79, 181, 0, 86]
abbrev dktX0_init_2 : List UInt8 := dkwX0_init_2 ++ dktX0_init_3
def dkwX0_init_1 : List UInt8 := [17, 1, 128, 188, 10, 181, 0, 37, 42, 8, 181, 0, 71, 42, 187, 0, 74, 89, 183, 0, 76, 181, 0, 52]
abbrev dktX0_init_1 : List UInt8 := dkwX0_init_1 ++ dktX0_init_2
def dkwX0_init_0 : List UInt8 := [42, 183, 0, 65, 42, 16, 48, 189, 0, 33, 181, 0, 24, 42, 17, 1, 128, 188, 10, 181, 0, 28, 42]
abbrev dktX0_init_0 : List UInt8 := dkwX0_init_0 ++ dktX0_init_1
theorem dksX0_init_0 : cX0_init.data.toList.drop 0 = dktX0_init_0 := by decide +kernel
theorem dksX0_init_1 : cX0_init.data.toList.drop 23 = dktX0_init_1 := dk_seg dksX0_init_0 23 rfl rfl
theorem dksX0_init_2 : cX0_init.data.toList.drop 47 = dktX0_init_2 := dk_seg dksX0_init_1 24 rfl rfl
theorem dksX0_init_3 : cX0_init.data.toList.drop 71 = dktX0_init_3 := dk_seg dksX0_init_2 24 rfl rfl
theorem dksX0_init_4 : cX0_init.data.toList.drop 93 = dktX0_init_4 := dk_seg dksX0_init_3 22 rfl rfl
theorem dksX0_init_5 : cX0_init.data.toList.drop 116 = dktX0_init_5 := dk_seg dksX0_init_4 23 rfl rfl
theorem dksX0_init_6 : cX0_init.data.toList.drop 140 = dktX0_init_6 := dk_seg dksX0_init_5 24 rfl rfl
theorem dksX0_init_7 : cX0_init.data.toList.drop 164 = dktX0_init_7 := dk_seg dksX0_init_6 24 rfl rfl
theorem dksX0_init_8 : cX0_init.data.toList.drop 188 = dktX0_init_8 := dk_seg dksX0_init_7 24 rfl rfl
theorem dX0_init_0 : decode cX0_init 0 = .ok (.aload_n 0, 1) := dk_42 (dk_at dksX0_init_0 0 rfl rfl)
theorem dX0_init_1 : decode cX0_init 1 = .ok (.invokespecial 65, 3) := dk_183 0 65 (dk_at dksX0_init_0 1 rfl rfl)
theorem dX0_init_4 : decode cX0_init 4 = .ok (.aload_n 0, 1) := dk_42 (dk_at dksX0_init_0 4 rfl rfl)
theorem dX0_init_5 : decode cX0_init 5 = .ok (.bipush 48, 2) := dk_16 48 (dk_at dksX0_init_0 5 rfl rfl)
theorem dX0_init_7 : decode cX0_init 7 = .ok (.anewarray 33, 3) := dk_189 0 33 (dk_at dksX0_init_0 7 rfl rfl)
theorem dX0_init_10 : decode cX0_init 10 = .ok (.putfield 24, 3) := dk_181 0 24 (dk_at dksX0_init_0 10 rfl rfl)
theorem dX0_init_13 : decode cX0_init 13 = .ok (.aload_n 0, 1) := dk_42 (dk_at dksX0_init_0 13 rfl rfl)
theorem dX0_init_14 : decode cX0_init 14 = .ok (.sipush 384, 3) := dk_17 1 128 (dk_at dksX0_init_0 14 rfl rfl)
theorem dX0_init_17 : decode cX0_init 17 = .ok (.newarray .int, 2) := dk_188_10 (dk_at dksX0_init_0 17 rfl rfl)
theorem dX0_init_19 : decode cX0_init 19 = .ok (.putfield 28, 3) := dk_181 0 28 (dk_at dksX0_init_0 19 rfl rfl)
theorem dX0_init_22 : decode cX0_init 22 = .ok (.aload_n 0, 1) := dk_42 (dk_at dksX0_init_0 22 rfl rfl)
theorem dX0_init_23 : decode cX0_init 23 = .ok (.sipush 384, 3) := dk_17 1 128 (dk_at dksX0_init_1 0 rfl rfl)
theorem dX0_init_26 : decode cX0_init 26 = .ok (.newarray .int, 2) := dk_188_10 (dk_at dksX0_init_1 3 rfl rfl)
theorem dX0_init_28 : decode cX0_init 28 = .ok (.putfield 37, 3) := dk_181 0 37 (dk_at dksX0_init_1 5 rfl rfl)
theorem dX0_init_31 : decode cX0_init 31 = .ok (.aload_n 0, 1) := dk_42 (dk_at dksX0_init_1 8 rfl rfl)
theorem dX0_init_32 : decode cX0_init 32 = .ok (.iconst 5, 1) := dk_8 (dk_at dksX0_init_1 9 rfl rfl)
theorem dX0_init_33 : decode cX0_init 33 = .ok (.putfield 71, 3) := dk_181 0 71 (dk_at dksX0_init_1 10 rfl rfl)
theorem dX0_init_36 : decode cX0_init 36 = .ok (.aload_n 0, 1) := dk_42 (dk_at dksX0_init_1 13 rfl rfl)
theorem dX0_init_37 : decode cX0_init 37 = .ok (.new 74, 3) := dk_187 0 74 (dk_at dksX0_init_1 14 rfl rfl)
theorem dX0_init_40 : decode cX0_init 40 = .ok (.dup, 1) := dk_89 (dk_at dksX0_init_1 17 rfl rfl)
theorem dX0_init_41 : decode cX0_init 41 = .ok (.invokespecial 76, 3) := dk_183 0 76 (dk_at dksX0_init_1 18 rfl rfl)
theorem dX0_init_44 : decode cX0_init 44 = .ok (.putfield 52, 3) := dk_181 0 52 (dk_at dksX0_init_1 21 rfl rfl)
theorem dX0_init_47 : decode cX0_init 47 = .ok (.aload_n 0, 1) := dk_42 (dk_at dksX0_init_2 0 rfl rfl)
theorem dX0_init_48 : decode cX0_init 48 = .ok (.new 77, 3) := dk_187 0 77 (dk_at dksX0_init_2 1 rfl rfl)
theorem dX0_init_51 : decode cX0_init 51 = .ok (.dup, 1) := dk_89 (dk_at dksX0_init_2 4 rfl rfl)
theorem dX0_init_52 : decode cX0_init 52 = .ok (.aload_n 0, 1) := dk_42 (dk_at dksX0_init_2 5 rfl rfl)
theorem dX0_init_53 : decode cX0_init 53 = .ok (.invokespecial 79, 3) := dk_183 0 79 (dk_at dksX0_init_2 6 rfl rfl)
theorem dX0_init_56 : decode cX0_init 56 = .ok (.putfield 82, 3) := dk_181 0 82 (dk_at dksX0_init_2 9 rfl rfl)
theorem dX0_init_59 : decode cX0_init 59 = .ok (.aload_n 0, 1) := dk_42 (dk_at dksX0_init_2 12 rfl rfl)
theorem dX0_init_60 : decode cX0_init 60 = .ok (.new 77, 3) := dk_187 0 77 (dk_at dksX0_init_2 13 rfl rfl)
theorem dX0_init_63 : decode cX0_init 63 = .ok (.dup, 1) := dk_89 (dk_at dksX0_init_2 16 rfl rfl)
theorem dX0_init_64 : decode cX0_init 64 = .ok (.aload_n 0, 1) := dk_42 (dk_at dksX0_init_2 17 rfl rfl)
theorem dX0_init_65 : decode cX0_init 65 = .ok (.invokespecial 79, 3) := dk_183 0 79 (dk_at dksX0_init_2 18 rfl rfl)
theorem dX0_init_68 : decode cX0_init 68 = .ok (.putfield 86, 3) := dk_181 0 86 (dk_at dksX0_init_2 21 rfl rfl)
theorem dX0_init_71 : decode cX0_init 71 = .ok (.aload_n 0, 1) := dk_42 (dk_at dksX0_init_3 0 rfl rfl)
theorem dX0_init_72 : decode cX0_init 72 = .ok (.new 77, 3) := dk_187 0 77 (dk_at dksX0_init_3 1 rfl rfl)
theorem dX0_init_75 : decode cX0_init 75 = .ok (.dup, 1) := dk_89 (dk_at dksX0_init_3 4 rfl rfl)
theorem dX0_init_76 : decode cX0_init 76 = .ok (.aload_n 0, 1) := dk_42 (dk_at dksX0_init_3 5 rfl rfl)
theorem dX0_init_77 : decode cX0_init 77 = .ok (.invokespecial 79, 3) := dk_183 0 79 (dk_at dksX0_init_3 6 rfl rfl)
theorem dX0_init_80 : decode cX0_init 80 = .ok (.putfield 89, 3) := dk_181 0 89 (dk_at dksX0_init_3 9 rfl rfl)
theorem dX0_init_83 : decode cX0_init 83 = .ok (.aload_n 0, 1) := dk_42 (dk_at dksX0_init_3 12 rfl rfl)
theorem dX0_init_84 : decode cX0_init 84 = .ok (.sipush 260, 3) := dk_17 1 4 (dk_at dksX0_init_3 13 rfl rfl)
theorem dX0_init_87 : decode cX0_init 87 = .ok (.newarray .byte, 2) := dk_188_8 (dk_at dksX0_init_3 16 rfl rfl)
theorem dX0_init_89 : decode cX0_init 89 = .ok (.putfield 92, 3) := dk_181 0 92 (dk_at dksX0_init_3 18 rfl rfl)
theorem dX0_init_92 : decode cX0_init 92 = .ok (.aload_n 0, 1) := dk_42 (dk_at dksX0_init_3 21 rfl rfl)
theorem dX0_init_93 : decode cX0_init 93 = .ok (.new 57, 3) := dk_187 0 57 (dk_at dksX0_init_4 0 rfl rfl)
theorem dX0_init_96 : decode cX0_init 96 = .ok (.dup, 1) := dk_89 (dk_at dksX0_init_4 3 rfl rfl)
theorem dX0_init_97 : decode cX0_init 97 = .ok (.invokespecial 96, 3) := dk_183 0 96 (dk_at dksX0_init_4 4 rfl rfl)
theorem dX0_init_100 : decode cX0_init 100 = .ok (.putfield 48, 3) := dk_181 0 48 (dk_at dksX0_init_4 7 rfl rfl)
theorem dX0_init_103 : decode cX0_init 103 = .ok (.aload_n 0, 1) := dk_42 (dk_at dksX0_init_4 10 rfl rfl)
theorem dX0_init_104 : decode cX0_init 104 = .ok (.bipush 10, 2) := dk_16 10 (dk_at dksX0_init_4 11 rfl rfl)
theorem dX0_init_106 : decode cX0_init 106 = .ok (.newarray .int, 2) := dk_188_10 (dk_at dksX0_init_4 13 rfl rfl)
theorem dX0_init_108 : decode cX0_init 108 = .ok (.putfield 97, 3) := dk_181 0 97 (dk_at dksX0_init_4 15 rfl rfl)
theorem dX0_init_111 : decode cX0_init 111 = .ok (.aload_n 0, 1) := dk_42 (dk_at dksX0_init_4 18 rfl rfl)
theorem dX0_init_112 : decode cX0_init 112 = .ok (.bipush 10, 2) := dk_16 10 (dk_at dksX0_init_4 19 rfl rfl)
theorem dX0_init_114 : decode cX0_init 114 = .ok (.newarray .int, 2) := dk_188_10 (dk_at dksX0_init_4 21 rfl rfl)
theorem dX0_init_116 : decode cX0_init 116 = .ok (.putfield 100, 3) := dk_181 0 100 (dk_at dksX0_init_5 0 rfl rfl)
theorem dX0_init_119 : decode cX0_init 119 = .ok (.aload_n 0, 1) := dk_42 (dk_at dksX0_init_5 3 rfl rfl)
theorem dX0_init_120 : decode cX0_init 120 = .ok (.bipush 48, 2) := dk_16 48 (dk_at dksX0_init_5 4 rfl rfl)
theorem dX0_init_122 : decode cX0_init 122 = .ok (.newarray .int, 2) := dk_188_10 (dk_at dksX0_init_5 6 rfl rfl)
theorem dX0_init_124 : decode cX0_init 124 = .ok (.putfield 103, 3) := dk_181 0 103 (dk_at dksX0_init_5 8 rfl rfl)
theorem dX0_init_127 : decode cX0_init 127 = .ok (.aload_n 0, 1) := dk_42 (dk_at dksX0_init_5 11 rfl rfl)
theorem dX0_init_128 : decode cX0_init 128 = .ok (.bipush 48, 2) := dk_16 48 (dk_at dksX0_init_5 12 rfl rfl)
theorem dX0_init_130 : decode cX0_init 130 = .ok (.newarray .int, 2) := dk_188_10 (dk_at dksX0_init_5 14 rfl rfl)
theorem dX0_init_132 : decode cX0_init 132 = .ok (.putfield 106, 3) := dk_181 0 106 (dk_at dksX0_init_5 16 rfl rfl)
theorem dX0_init_135 : decode cX0_init 135 = .ok (.aload_n 0, 1) := dk_42 (dk_at dksX0_init_5 19 rfl rfl)
theorem dX0_init_136 : decode cX0_init 136 = .ok (.bipush 48, 2) := dk_16 48 (dk_at dksX0_init_5 20 rfl rfl)
theorem dX0_init_138 : decode cX0_init 138 = .ok (.newarray .int, 2) := dk_188_10 (dk_at dksX0_init_5 22 rfl rfl)
theorem dX0_init_140 : decode cX0_init 140 = .ok (.putfield 109, 3) := dk_181 0 109 (dk_at dksX0_init_6 0 rfl rfl)
theorem dX0_init_143 : decode cX0_init 143 = .ok (.aload_n 0, 1) := dk_42 (dk_at dksX0_init_6 3 rfl rfl)
theorem dX0_init_144 : decode cX0_init 144 = .ok (.bipush 48, 2) := dk_16 48 (dk_at dksX0_init_6 4 rfl rfl)
theorem dX0_init_146 : decode cX0_init 146 = .ok (.newarray .boolean, 2) := dk_188_4 (dk_at dksX0_init_6 6 rfl rfl)
theorem dX0_init_148 : decode cX0_init 148 = .ok (.putfield 112, 3) := dk_181 0 112 (dk_at dksX0_init_6 8 rfl rfl)
theorem dX0_init_151 : decode cX0_init 151 = .ok (.aload_n 0, 1) := dk_42 (dk_at dksX0_init_6 11 rfl rfl)
theorem dX0_init_152 : decode cX0_init 152 = .ok (.bipush 48, 2) := dk_16 48 (dk_at dksX0_init_6 12 rfl rfl)
theorem dX0_init_154 : decode cX0_init 154 = .ok (.bipush 8, 2) := dk_16 8 (dk_at dksX0_init_6 14 rfl rfl)
theorem dX0_init_156 : decode cX0_init 156 = .ok (.multianewarray 116 2, 4) := by decide +kernel
theorem dX0_init_160 : decode cX0_init 160 = .ok (.putfield 118, 3) := dk_181 0 118 (dk_at dksX0_init_6 20 rfl rfl)
theorem dX0_init_163 : decode cX0_init 163 = .ok (.aload_n 0, 1) := dk_42 (dk_at dksX0_init_6 23 rfl rfl)
theorem dX0_init_164 : decode cX0_init 164 = .ok (.bipush 31, 2) := dk_16 31 (dk_at dksX0_init_7 0 rfl rfl)
theorem dX0_init_166 : decode cX0_init 166 = .ok (.newarray .int, 2) := dk_188_10 (dk_at dksX0_init_7 2 rfl rfl)
theorem dX0_init_168 : decode cX0_init 168 = .ok (.putfield 121, 3) := dk_181 0 121 (dk_at dksX0_init_7 4 rfl rfl)
theorem dX0_init_171 : decode cX0_init 171 = .ok (.iconst 0, 1) := dk_3 (dk_at dksX0_init_7 7 rfl rfl)
theorem dX0_init_172 : decode cX0_init 172 = .ok (.istore_n 1, 1) := dk_60 (dk_at dksX0_init_7 8 rfl rfl)
theorem dX0_init_173 : decode cX0_init 173 = .ok (.iload_n 1, 1) := dk_27 (dk_at dksX0_init_7 9 rfl rfl)
theorem dX0_init_174 : decode cX0_init 174 = .ok (.bipush 48, 2) := dk_16 48 (dk_at dksX0_init_7 10 rfl rfl)
theorem dX0_init_176 : decode cX0_init 176 = .ok (.if_icmp .ge 22, 3) := dk_162 0 22 (dk_at dksX0_init_7 12 rfl rfl)
theorem dX0_init_179 : decode cX0_init 179 = .ok (.aload_n 0, 1) := dk_42 (dk_at dksX0_init_7 15 rfl rfl)
theorem dX0_init_180 : decode cX0_init 180 = .ok (.getfield 24, 3) := dk_180 0 24 (dk_at dksX0_init_7 16 rfl rfl)
theorem dX0_init_183 : decode cX0_init 183 = .ok (.iload_n 1, 1) := dk_27 (dk_at dksX0_init_7 19 rfl rfl)
theorem dX0_init_184 : decode cX0_init 184 = .ok (.new 33, 3) := dk_187 0 33 (dk_at dksX0_init_7 20 rfl rfl)
theorem dX0_init_187 : decode cX0_init 187 = .ok (.dup, 1) := dk_89 (dk_at dksX0_init_7 23 rfl rfl)
theorem dX0_init_188 : decode cX0_init 188 = .ok (.invokespecial 124, 3) := dk_183 0 124 (dk_at dksX0_init_8 0 rfl rfl)
theorem dX0_init_191 : decode cX0_init 191 = .ok (.aastore, 1) := dk_83 (dk_at dksX0_init_8 3 rfl rfl)
theorem dX0_init_192 : decode cX0_init 192 = .ok (.iinc 1 1, 3) := dk_132 1 1 (dk_at dksX0_init_8 4 rfl rfl)
theorem dX0_init_195 : decode cX0_init 195 = .ok (.goto (-22), 3) := dk_167 255 234 (dk_at dksX0_init_8 7 rfl rfl)
theorem dX0_init_198 : decode cX0_init 198 = .ok (.aload_n 0, 1) := dk_42 (dk_at dksX0_init_8 10 rfl rfl)
theorem dX0_init_199 : decode cX0_init 199 = .ok (.getfield 82, 3) := dk_180 0 82 (dk_at dksX0_init_8 11 rfl rfl)
theorem dX0_init_202 : decode cX0_init 202 = .ok (.iconst 1, 1) := dk_4 (dk_at dksX0_init_8 14 rfl rfl)
theorem dX0_init_203 : decode cX0_init 203 = .ok (.putfield 125, 3) := dk_181 0 125 (dk_at dksX0_init_8 15 rfl rfl)
theorem dX0_init_206 : decode cX0_init 206 = .ok (.return_, 1) := dk_177 (dk_at dksX0_init_8 18 rfl rfl)
abbrev cX0_person : ByteArray := prog_1_method_13_code
def yX0_person : MethodName := ⟨RX0, "person", "(IIII)Z"⟩
def dkwX0_person_3 : List UInt8 := [3, 181, 0, 150, 25, 5, 3, 181, 0, 153, 4, 172]
abbrev dktX0_person_3 : List UInt8 := dkwX0_person_3 ++ []
def dkwX0_person_2 : List UInt8 := [181, 0, 132, 25, 5, 28, 181, 0, 141, 25, 5, 29, 181, 0, 144, 25, 5, 21, 4, 181, 0, 147, 25, 5]
abbrev dktX0_person_2 : List UInt8 := dkwX0_person_2 ++ dktX0_person_3
def dkwX0_person_1 : List UInt8 := [184, 0, 16, 154, 0, 5, 3, 172, 42, 180, 0, 82, 180, 0, 128, 27, 50, 58, 5, 25, 5, 4]
abbrev dktX0_person_1 : List UInt8 := dkwX0_person_1 ++ dktX0_person_2
def dkwX0_person_0 : List UInt8 := [27, 16, 12, 184, 0, 16, 153, 0, 22, 28, 29, 184, 0, 138, 153, 0, 14, 21, 4, 17, 5, 160]
abbrev dktX0_person_0 : List UInt8 := dkwX0_person_0 ++ dktX0_person_1
theorem dksX0_person_0 : cX0_person.data.toList.drop 0 = dktX0_person_0 := by decide +kernel
theorem dksX0_person_1 : cX0_person.data.toList.drop 22 = dktX0_person_1 := dk_seg dksX0_person_0 22 rfl rfl
theorem dksX0_person_2 : cX0_person.data.toList.drop 44 = dktX0_person_2 := dk_seg dksX0_person_1 22 rfl rfl
theorem dksX0_person_3 : cX0_person.data.toList.drop 68 = dktX0_person_3 := dk_seg dksX0_person_2 24 rfl rfl
theorem dX0_person_0 : decode cX0_person 0 = .ok (.iload_n 1, 1) := dk_27 (dk_at dksX0_person_0 0 rfl rfl)
theorem dX0_person_1 : decode cX0_person 1 = .ok (.bipush 12, 2) := dk_16 12 (dk_at dksX0_person_0 1 rfl rfl)
theorem dX0_person_3 : decode cX0_person 3 = .ok (.invokestatic 16, 3) := dk_184 0 16 (dk_at dksX0_person_0 3 rfl rfl)
theorem dX0_person_6 : decode cX0_person 6 = .ok (.ifCond .eq 22, 3) := dk_153 0 22 (dk_at dksX0_person_0 6 rfl rfl)
theorem dX0_person_9 : decode cX0_person 9 = .ok (.iload_n 2, 1) := dk_28 (dk_at dksX0_person_0 9 rfl rfl)
theorem dX0_person_10 : decode cX0_person 10 = .ok (.iload_n 3, 1) := dk_29 (dk_at dksX0_person_0 10 rfl rfl)
theorem dX0_person_11 : decode cX0_person 11 = .ok (.invokestatic 138, 3) := dk_184 0 138 (dk_at dksX0_person_0 11 rfl rfl)
theorem dX0_person_14 : decode cX0_person 14 = .ok (.ifCond .eq 14, 3) := dk_153 0 14 (dk_at dksX0_person_0 14 rfl rfl)
theorem dX0_person_17 : decode cX0_person 17 = .ok (.iload 4, 2) := dk_21 4 (dk_at dksX0_person_0 17 rfl rfl)
theorem dX0_person_19 : decode cX0_person 19 = .ok (.sipush 1440, 3) := dk_17 5 160 (dk_at dksX0_person_0 19 rfl rfl)
theorem dX0_person_22 : decode cX0_person 22 = .ok (.invokestatic 16, 3) := dk_184 0 16 (dk_at dksX0_person_1 0 rfl rfl)
theorem dX0_person_25 : decode cX0_person 25 = .ok (.ifCond .ne 5, 3) := dk_154 0 5 (dk_at dksX0_person_1 3 rfl rfl)
theorem dX0_person_28 : decode cX0_person 28 = .ok (.iconst 0, 1) := dk_3 (dk_at dksX0_person_1 6 rfl rfl)
theorem dX0_person_29 : decode cX0_person 29 = .ok (.ireturn, 1) := dk_172 (dk_at dksX0_person_1 7 rfl rfl)
theorem dX0_person_30 : decode cX0_person 30 = .ok (.aload_n 0, 1) := dk_42 (dk_at dksX0_person_1 8 rfl rfl)
theorem dX0_person_31 : decode cX0_person 31 = .ok (.getfield 82, 3) := dk_180 0 82 (dk_at dksX0_person_1 9 rfl rfl)
theorem dX0_person_34 : decode cX0_person 34 = .ok (.getfield 128, 3) := dk_180 0 128 (dk_at dksX0_person_1 12 rfl rfl)
theorem dX0_person_37 : decode cX0_person 37 = .ok (.iload_n 1, 1) := dk_27 (dk_at dksX0_person_1 15 rfl rfl)
theorem dX0_person_38 : decode cX0_person 38 = .ok (.aaload, 1) := dk_50 (dk_at dksX0_person_1 16 rfl rfl)
theorem dX0_person_39 : decode cX0_person 39 = .ok (.astore 5, 2) := dk_58 5 (dk_at dksX0_person_1 17 rfl rfl)
theorem dX0_person_41 : decode cX0_person 41 = .ok (.aload 5, 2) := dk_25 5 (dk_at dksX0_person_1 19 rfl rfl)
theorem dX0_person_43 : decode cX0_person 43 = .ok (.iconst 1, 1) := dk_4 (dk_at dksX0_person_1 21 rfl rfl)
theorem dX0_person_44 : decode cX0_person 44 = .ok (.putfield 132, 3) := dk_181 0 132 (dk_at dksX0_person_2 0 rfl rfl)
theorem dX0_person_47 : decode cX0_person 47 = .ok (.aload 5, 2) := dk_25 5 (dk_at dksX0_person_2 3 rfl rfl)
theorem dX0_person_49 : decode cX0_person 49 = .ok (.iload_n 2, 1) := dk_28 (dk_at dksX0_person_2 5 rfl rfl)
theorem dX0_person_50 : decode cX0_person 50 = .ok (.putfield 141, 3) := dk_181 0 141 (dk_at dksX0_person_2 6 rfl rfl)
theorem dX0_person_53 : decode cX0_person 53 = .ok (.aload 5, 2) := dk_25 5 (dk_at dksX0_person_2 9 rfl rfl)
theorem dX0_person_55 : decode cX0_person 55 = .ok (.iload_n 3, 1) := dk_29 (dk_at dksX0_person_2 11 rfl rfl)
theorem dX0_person_56 : decode cX0_person 56 = .ok (.putfield 144, 3) := dk_181 0 144 (dk_at dksX0_person_2 12 rfl rfl)
theorem dX0_person_59 : decode cX0_person 59 = .ok (.aload 5, 2) := dk_25 5 (dk_at dksX0_person_2 15 rfl rfl)
theorem dX0_person_61 : decode cX0_person 61 = .ok (.iload 4, 2) := dk_21 4 (dk_at dksX0_person_2 17 rfl rfl)
theorem dX0_person_63 : decode cX0_person 63 = .ok (.putfield 147, 3) := dk_181 0 147 (dk_at dksX0_person_2 19 rfl rfl)
theorem dX0_person_66 : decode cX0_person 66 = .ok (.aload 5, 2) := dk_25 5 (dk_at dksX0_person_2 22 rfl rfl)
theorem dX0_person_68 : decode cX0_person 68 = .ok (.iconst 0, 1) := dk_3 (dk_at dksX0_person_3 0 rfl rfl)
theorem dX0_person_69 : decode cX0_person 69 = .ok (.putfield 150, 3) := dk_181 0 150 (dk_at dksX0_person_3 1 rfl rfl)
theorem dX0_person_72 : decode cX0_person 72 = .ok (.aload 5, 2) := dk_25 5 (dk_at dksX0_person_3 4 rfl rfl)
theorem dX0_person_74 : decode cX0_person 74 = .ok (.iconst 0, 1) := dk_3 (dk_at dksX0_person_3 6 rfl rfl)
theorem dX0_person_75 : decode cX0_person 75 = .ok (.putfield 153, 3) := dk_181 0 153 (dk_at dksX0_person_3 7 rfl rfl)
theorem dX0_person_78 : decode cX0_person 78 = .ok (.iconst 1, 1) := dk_4 (dk_at dksX0_person_3 10 rfl rfl)
theorem dX0_person_79 : decode cX0_person 79 = .ok (.ireturn, 1) := dk_172 (dk_at dksX0_person_3 11 rfl rfl)
abbrev cX0_in : ByteArray := prog_1_method_1_code
def yX0_in : MethodName := ⟨RX0, "in", "(II)Z"⟩
def dkwX0_in_0 : List UInt8 := [26, 155, 0, 12, 26, 27, 162, 0, 7, 4, 167, 0, 4, 3, 172]
abbrev dktX0_in_0 : List UInt8 := dkwX0_in_0 ++ []
theorem dksX0_in_0 : cX0_in.data.toList.drop 0 = dktX0_in_0 := by decide +kernel
theorem dX0_in_0 : decode cX0_in 0 = .ok (.iload_n 0, 1) := dk_26 (dk_at dksX0_in_0 0 rfl rfl)
theorem dX0_in_1 : decode cX0_in 1 = .ok (.ifCond .lt 12, 3) := dk_155 0 12 (dk_at dksX0_in_0 1 rfl rfl)
theorem dX0_in_4 : decode cX0_in 4 = .ok (.iload_n 0, 1) := dk_26 (dk_at dksX0_in_0 4 rfl rfl)
theorem dX0_in_5 : decode cX0_in 5 = .ok (.iload_n 1, 1) := dk_27 (dk_at dksX0_in_0 5 rfl rfl)
theorem dX0_in_6 : decode cX0_in 6 = .ok (.if_icmp .ge 7, 3) := dk_162 0 7 (dk_at dksX0_in_0 6 rfl rfl)
theorem dX0_in_9 : decode cX0_in 9 = .ok (.iconst 1, 1) := dk_4 (dk_at dksX0_in_0 9 rfl rfl)
theorem dX0_in_10 : decode cX0_in 10 = .ok (.goto 4, 3) := dk_167 0 4 (dk_at dksX0_in_0 10 rfl rfl)
theorem dX0_in_13 : decode cX0_in 13 = .ok (.iconst 0, 1) := dk_3 (dk_at dksX0_in_0 13 rfl rfl)
theorem dX0_in_14 : decode cX0_in 14 = .ok (.ireturn, 1) := dk_172 (dk_at dksX0_in_0 14 rfl rfl)
abbrev cX0_areTwo : ByteArray := prog_1_method_7_code
def yX0_areTwo : MethodName := ⟨RX0, "areTwo", "(II)Z"⟩
def dkwX0_areTwo_1 : List UInt8 := [172]
abbrev dktX0_areTwo_1 : List UInt8 := dkwX0_areTwo_1 ++ []
def dkwX0_areTwo_0 : List UInt8 := [26, 184, 0, 20, 153, 0, 19, 27, 184, 0, 20, 153, 0, 12, 26, 27, 159, 0, 7, 4, 167, 0, 4, 3]
abbrev dktX0_areTwo_0 : List UInt8 := dkwX0_areTwo_0 ++ dktX0_areTwo_1
theorem dksX0_areTwo_0 : cX0_areTwo.data.toList.drop 0 = dktX0_areTwo_0 := by decide +kernel
theorem dksX0_areTwo_1 : cX0_areTwo.data.toList.drop 24 = dktX0_areTwo_1 := dk_seg dksX0_areTwo_0 24 rfl rfl
theorem dX0_areTwo_0 : decode cX0_areTwo 0 = .ok (.iload_n 0, 1) := dk_26 (dk_at dksX0_areTwo_0 0 rfl rfl)
theorem dX0_areTwo_1 : decode cX0_areTwo 1 = .ok (.invokestatic 20, 3) := dk_184 0 20 (dk_at dksX0_areTwo_0 1 rfl rfl)
theorem dX0_areTwo_4 : decode cX0_areTwo 4 = .ok (.ifCond .eq 19, 3) := dk_153 0 19 (dk_at dksX0_areTwo_0 4 rfl rfl)
theorem dX0_areTwo_7 : decode cX0_areTwo 7 = .ok (.iload_n 1, 1) := dk_27 (dk_at dksX0_areTwo_0 7 rfl rfl)
theorem dX0_areTwo_8 : decode cX0_areTwo 8 = .ok (.invokestatic 20, 3) := dk_184 0 20 (dk_at dksX0_areTwo_0 8 rfl rfl)
theorem dX0_areTwo_11 : decode cX0_areTwo 11 = .ok (.ifCond .eq 12, 3) := dk_153 0 12 (dk_at dksX0_areTwo_0 11 rfl rfl)
theorem dX0_areTwo_14 : decode cX0_areTwo 14 = .ok (.iload_n 0, 1) := dk_26 (dk_at dksX0_areTwo_0 14 rfl rfl)
theorem dX0_areTwo_15 : decode cX0_areTwo 15 = .ok (.iload_n 1, 1) := dk_27 (dk_at dksX0_areTwo_0 15 rfl rfl)
theorem dX0_areTwo_16 : decode cX0_areTwo 16 = .ok (.if_icmp .eq 7, 3) := dk_159 0 7 (dk_at dksX0_areTwo_0 16 rfl rfl)
theorem dX0_areTwo_19 : decode cX0_areTwo 19 = .ok (.iconst 1, 1) := dk_4 (dk_at dksX0_areTwo_0 19 rfl rfl)
theorem dX0_areTwo_20 : decode cX0_areTwo 20 = .ok (.goto 4, 3) := dk_167 0 4 (dk_at dksX0_areTwo_0 20 rfl rfl)
theorem dX0_areTwo_23 : decode cX0_areTwo 23 = .ok (.iconst 0, 1) := dk_3 (dk_at dksX0_areTwo_0 23 rfl rfl)
theorem dX0_areTwo_24 : decode cX0_areTwo 24 = .ok (.ireturn, 1) := dk_172 (dk_at dksX0_areTwo_1 0 rfl rfl)
abbrev cX0_isStation : ByteArray := prog_1_method_6_code
def yX0_isStation : MethodName := ⟨RX0, "isStation", "(I)Z"⟩
def dkwX0_isStation_0 : List UInt8 := [26, 16, 10, 184, 0, 16, 172]
abbrev dktX0_isStation_0 : List UInt8 := dkwX0_isStation_0 ++ []
theorem dksX0_isStation_0 : cX0_isStation.data.toList.drop 0 = dktX0_isStation_0 := by decide +kernel
theorem dX0_isStation_0 : decode cX0_isStation 0 = .ok (.iload_n 0, 1) := dk_26 (dk_at dksX0_isStation_0 0 rfl rfl)
theorem dX0_isStation_1 : decode cX0_isStation 1 = .ok (.bipush 10, 2) := dk_16 10 (dk_at dksX0_isStation_0 1 rfl rfl)
theorem dX0_isStation_3 : decode cX0_isStation 3 = .ok (.invokestatic 16, 3) := dk_184 0 16 (dk_at dksX0_isStation_0 3 rfl rfl)
theorem dX0_isStation_6 : decode cX0_isStation 6 = .ok (.ireturn, 1) := dk_172 (dk_at dksX0_isStation_0 6 rfl rfl)
abbrev cX0_changing : ByteArray := prog_1_method_14_code
def yX0_changing : MethodName := ⟨RX0, "changing", "(I)Z"⟩
def dkwX0_changing_0 : List UInt8 := [27, 3, 16, 60, 184, 0, 156, 154, 0, 5, 3, 172, 42, 27, 181, 0, 71, 4, 172]
abbrev dktX0_changing_0 : List UInt8 := dkwX0_changing_0 ++ []
theorem dksX0_changing_0 : cX0_changing.data.toList.drop 0 = dktX0_changing_0 := by decide +kernel
theorem dX0_changing_0 : decode cX0_changing 0 = .ok (.iload_n 1, 1) := dk_27 (dk_at dksX0_changing_0 0 rfl rfl)
theorem dX0_changing_1 : decode cX0_changing 1 = .ok (.iconst 0, 1) := dk_3 (dk_at dksX0_changing_0 1 rfl rfl)
theorem dX0_changing_2 : decode cX0_changing 2 = .ok (.bipush 60, 2) := dk_16 60 (dk_at dksX0_changing_0 2 rfl rfl)
theorem dX0_changing_4 : decode cX0_changing 4 = .ok (.invokestatic 156, 3) := dk_184 0 156 (dk_at dksX0_changing_0 4 rfl rfl)
theorem dX0_changing_7 : decode cX0_changing 7 = .ok (.ifCond .ne 5, 3) := dk_154 0 5 (dk_at dksX0_changing_0 7 rfl rfl)
theorem dX0_changing_10 : decode cX0_changing 10 = .ok (.iconst 0, 1) := dk_3 (dk_at dksX0_changing_0 10 rfl rfl)
theorem dX0_changing_11 : decode cX0_changing 11 = .ok (.ireturn, 1) := dk_172 (dk_at dksX0_changing_0 11 rfl rfl)
theorem dX0_changing_12 : decode cX0_changing 12 = .ok (.aload_n 0, 1) := dk_42 (dk_at dksX0_changing_0 12 rfl rfl)
theorem dX0_changing_13 : decode cX0_changing 13 = .ok (.iload_n 1, 1) := dk_27 (dk_at dksX0_changing_0 13 rfl rfl)
theorem dX0_changing_14 : decode cX0_changing 14 = .ok (.putfield 71, 3) := dk_181 0 71 (dk_at dksX0_changing_0 14 rfl rfl)
theorem dX0_changing_17 : decode cX0_changing 17 = .ok (.iconst 1, 1) := dk_4 (dk_at dksX0_changing_0 17 rfl rfl)
theorem dX0_changing_18 : decode cX0_changing 18 = .ok (.ireturn, 1) := dk_172 (dk_at dksX0_changing_0 18 rfl rfl)
abbrev cX0_within : ByteArray := prog_1_method_2_code
def yX0_within : MethodName := ⟨RX0, "within", "(III)Z"⟩
def dkwX0_within_0 : List UInt8 := [26, 27, 161, 0, 12, 26, 28, 163, 0, 7, 4, 167, 0, 4, 3, 172]
abbrev dktX0_within_0 : List UInt8 := dkwX0_within_0 ++ []
theorem dksX0_within_0 : cX0_within.data.toList.drop 0 = dktX0_within_0 := by decide +kernel
theorem dX0_within_0 : decode cX0_within 0 = .ok (.iload_n 0, 1) := dk_26 (dk_at dksX0_within_0 0 rfl rfl)
theorem dX0_within_1 : decode cX0_within 1 = .ok (.iload_n 1, 1) := dk_27 (dk_at dksX0_within_0 1 rfl rfl)
theorem dX0_within_2 : decode cX0_within 2 = .ok (.if_icmp .lt 12, 3) := dk_161 0 12 (dk_at dksX0_within_0 2 rfl rfl)
theorem dX0_within_5 : decode cX0_within 5 = .ok (.iload_n 0, 1) := dk_26 (dk_at dksX0_within_0 5 rfl rfl)
theorem dX0_within_6 : decode cX0_within 6 = .ok (.iload_n 2, 1) := dk_28 (dk_at dksX0_within_0 6 rfl rfl)
theorem dX0_within_7 : decode cX0_within 7 = .ok (.if_icmp .gt 7, 3) := dk_163 0 7 (dk_at dksX0_within_0 7 rfl rfl)
theorem dX0_within_10 : decode cX0_within 10 = .ok (.iconst 1, 1) := dk_4 (dk_at dksX0_within_0 10 rfl rfl)
theorem dX0_within_11 : decode cX0_within 11 = .ok (.goto 4, 3) := dk_167 0 4 (dk_at dksX0_within_0 11 rfl rfl)
theorem dX0_within_14 : decode cX0_within 14 = .ok (.iconst 0, 1) := dk_3 (dk_at dksX0_within_0 14 rfl rfl)
theorem dX0_within_15 : decode cX0_within 15 = .ok (.ireturn, 1) := dk_172 (dk_at dksX0_within_0 15 rfl rfl)
abbrev cX0_feed : ByteArray := prog_1_method_16_code
def yX0_feed : MethodName := ⟨RX0, "feed", "(IIIII)I"⟩
def dkwX0_feed_2 : List UInt8 := [172]
abbrev dktX0_feed_2 : List UInt8 := dkwX0_feed_2 ++ []
def dkwX0_feed_1 : List UInt8 := [182, 0, 163, 42, 29, 182, 0, 163, 42, 21, 4, 182, 0, 163, 42, 21, 5, 182, 0, 163, 42, 180, 0, 160]
abbrev dktX0_feed_1 : List UInt8 := dkwX0_feed_1 ++ dktX0_feed_2
def dkwX0_feed_0 : List UInt8 := [42, 180, 0, 160, 16, 20, 96, 17, 1, 4, 164, 0, 5, 2, 172, 42, 27, 182, 0, 163, 42, 28]
abbrev dktX0_feed_0 : List UInt8 := dkwX0_feed_0 ++ dktX0_feed_1
theorem dksX0_feed_0 : cX0_feed.data.toList.drop 0 = dktX0_feed_0 := by decide +kernel
theorem dksX0_feed_1 : cX0_feed.data.toList.drop 22 = dktX0_feed_1 := dk_seg dksX0_feed_0 22 rfl rfl
theorem dksX0_feed_2 : cX0_feed.data.toList.drop 46 = dktX0_feed_2 := dk_seg dksX0_feed_1 24 rfl rfl
theorem dX0_feed_0 : decode cX0_feed 0 = .ok (.aload_n 0, 1) := dk_42 (dk_at dksX0_feed_0 0 rfl rfl)
theorem dX0_feed_1 : decode cX0_feed 1 = .ok (.getfield 160, 3) := dk_180 0 160 (dk_at dksX0_feed_0 1 rfl rfl)
theorem dX0_feed_4 : decode cX0_feed 4 = .ok (.bipush 20, 2) := dk_16 20 (dk_at dksX0_feed_0 4 rfl rfl)
theorem dX0_feed_6 : decode cX0_feed 6 = .ok (.iadd, 1) := dk_96 (dk_at dksX0_feed_0 6 rfl rfl)
theorem dX0_feed_7 : decode cX0_feed 7 = .ok (.sipush 260, 3) := dk_17 1 4 (dk_at dksX0_feed_0 7 rfl rfl)
theorem dX0_feed_10 : decode cX0_feed 10 = .ok (.if_icmp .le 5, 3) := dk_164 0 5 (dk_at dksX0_feed_0 10 rfl rfl)
theorem dX0_feed_13 : decode cX0_feed 13 = .ok (.iconst (-1), 1) := dk_2 (dk_at dksX0_feed_0 13 rfl rfl)
theorem dX0_feed_14 : decode cX0_feed 14 = .ok (.ireturn, 1) := dk_172 (dk_at dksX0_feed_0 14 rfl rfl)
theorem dX0_feed_15 : decode cX0_feed 15 = .ok (.aload_n 0, 1) := dk_42 (dk_at dksX0_feed_0 15 rfl rfl)
theorem dX0_feed_16 : decode cX0_feed 16 = .ok (.iload_n 1, 1) := dk_27 (dk_at dksX0_feed_0 16 rfl rfl)
theorem dX0_feed_17 : decode cX0_feed 17 = .ok (.invokevirtual 163, 3) := dk_182 0 163 (dk_at dksX0_feed_0 17 rfl rfl)
theorem dX0_feed_20 : decode cX0_feed 20 = .ok (.aload_n 0, 1) := dk_42 (dk_at dksX0_feed_0 20 rfl rfl)
theorem dX0_feed_21 : decode cX0_feed 21 = .ok (.iload_n 2, 1) := dk_28 (dk_at dksX0_feed_0 21 rfl rfl)
theorem dX0_feed_22 : decode cX0_feed 22 = .ok (.invokevirtual 163, 3) := dk_182 0 163 (dk_at dksX0_feed_1 0 rfl rfl)
theorem dX0_feed_25 : decode cX0_feed 25 = .ok (.aload_n 0, 1) := dk_42 (dk_at dksX0_feed_1 3 rfl rfl)
theorem dX0_feed_26 : decode cX0_feed 26 = .ok (.iload_n 3, 1) := dk_29 (dk_at dksX0_feed_1 4 rfl rfl)
theorem dX0_feed_27 : decode cX0_feed 27 = .ok (.invokevirtual 163, 3) := dk_182 0 163 (dk_at dksX0_feed_1 5 rfl rfl)
theorem dX0_feed_30 : decode cX0_feed 30 = .ok (.aload_n 0, 1) := dk_42 (dk_at dksX0_feed_1 8 rfl rfl)
theorem dX0_feed_31 : decode cX0_feed 31 = .ok (.iload 4, 2) := dk_21 4 (dk_at dksX0_feed_1 9 rfl rfl)
theorem dX0_feed_33 : decode cX0_feed 33 = .ok (.invokevirtual 163, 3) := dk_182 0 163 (dk_at dksX0_feed_1 11 rfl rfl)
theorem dX0_feed_36 : decode cX0_feed 36 = .ok (.aload_n 0, 1) := dk_42 (dk_at dksX0_feed_1 14 rfl rfl)
theorem dX0_feed_37 : decode cX0_feed 37 = .ok (.iload 5, 2) := dk_21 5 (dk_at dksX0_feed_1 15 rfl rfl)
theorem dX0_feed_39 : decode cX0_feed 39 = .ok (.invokevirtual 163, 3) := dk_182 0 163 (dk_at dksX0_feed_1 17 rfl rfl)
theorem dX0_feed_42 : decode cX0_feed 42 = .ok (.aload_n 0, 1) := dk_42 (dk_at dksX0_feed_1 20 rfl rfl)
theorem dX0_feed_43 : decode cX0_feed 43 = .ok (.getfield 160, 3) := dk_180 0 160 (dk_at dksX0_feed_1 21 rfl rfl)
theorem dX0_feed_46 : decode cX0_feed 46 = .ok (.ireturn, 1) := dk_172 (dk_at dksX0_feed_2 0 rfl rfl)
abbrev cX0_push : ByteArray := prog_1_method_15_code
def yX0_push : MethodName := ⟨RX0, "push", "(I)V"⟩
def dkwX0_push_1 : List UInt8 := [180, 0, 160, 4, 96, 181, 0, 160, 132, 2, 248, 167, 255, 226, 177]
abbrev dktX0_push_1 : List UInt8 := dkwX0_push_1 ++ []
def dkwX0_push_0 : List UInt8 := [16, 24, 61, 28, 155, 0, 32, 42, 180, 0, 92, 42, 180, 0, 160, 27, 28, 122, 145, 84, 42, 89]
abbrev dktX0_push_0 : List UInt8 := dkwX0_push_0 ++ dktX0_push_1
theorem dksX0_push_0 : cX0_push.data.toList.drop 0 = dktX0_push_0 := by decide +kernel
theorem dksX0_push_1 : cX0_push.data.toList.drop 22 = dktX0_push_1 := dk_seg dksX0_push_0 22 rfl rfl
theorem dX0_push_0 : decode cX0_push 0 = .ok (.bipush 24, 2) := dk_16 24 (dk_at dksX0_push_0 0 rfl rfl)
theorem dX0_push_2 : decode cX0_push 2 = .ok (.istore_n 2, 1) := dk_61 (dk_at dksX0_push_0 2 rfl rfl)
theorem dX0_push_3 : decode cX0_push 3 = .ok (.iload_n 2, 1) := dk_28 (dk_at dksX0_push_0 3 rfl rfl)
theorem dX0_push_4 : decode cX0_push 4 = .ok (.ifCond .lt 32, 3) := dk_155 0 32 (dk_at dksX0_push_0 4 rfl rfl)
theorem dX0_push_7 : decode cX0_push 7 = .ok (.aload_n 0, 1) := dk_42 (dk_at dksX0_push_0 7 rfl rfl)
theorem dX0_push_8 : decode cX0_push 8 = .ok (.getfield 92, 3) := dk_180 0 92 (dk_at dksX0_push_0 8 rfl rfl)
theorem dX0_push_11 : decode cX0_push 11 = .ok (.aload_n 0, 1) := dk_42 (dk_at dksX0_push_0 11 rfl rfl)
theorem dX0_push_12 : decode cX0_push 12 = .ok (.getfield 160, 3) := dk_180 0 160 (dk_at dksX0_push_0 12 rfl rfl)
theorem dX0_push_15 : decode cX0_push 15 = .ok (.iload_n 1, 1) := dk_27 (dk_at dksX0_push_0 15 rfl rfl)
theorem dX0_push_16 : decode cX0_push 16 = .ok (.iload_n 2, 1) := dk_28 (dk_at dksX0_push_0 16 rfl rfl)
theorem dX0_push_17 : decode cX0_push 17 = .ok (.ishr, 1) := dk_122 (dk_at dksX0_push_0 17 rfl rfl)
theorem dX0_push_18 : decode cX0_push 18 = .ok (.i2b, 1) := dk_145 (dk_at dksX0_push_0 18 rfl rfl)
theorem dX0_push_19 : decode cX0_push 19 = .ok (.bastore, 1) := dk_84 (dk_at dksX0_push_0 19 rfl rfl)
theorem dX0_push_20 : decode cX0_push 20 = .ok (.aload_n 0, 1) := dk_42 (dk_at dksX0_push_0 20 rfl rfl)
theorem dX0_push_21 : decode cX0_push 21 = .ok (.dup, 1) := dk_89 (dk_at dksX0_push_0 21 rfl rfl)
theorem dX0_push_22 : decode cX0_push 22 = .ok (.getfield 160, 3) := dk_180 0 160 (dk_at dksX0_push_1 0 rfl rfl)
theorem dX0_push_25 : decode cX0_push 25 = .ok (.iconst 1, 1) := dk_4 (dk_at dksX0_push_1 3 rfl rfl)
theorem dX0_push_26 : decode cX0_push 26 = .ok (.iadd, 1) := dk_96 (dk_at dksX0_push_1 4 rfl rfl)
theorem dX0_push_27 : decode cX0_push 27 = .ok (.putfield 160, 3) := dk_181 0 160 (dk_at dksX0_push_1 5 rfl rfl)
theorem dX0_push_30 : decode cX0_push 30 = .ok (.iinc 2 (-8), 3) := dk_132 2 248 (dk_at dksX0_push_1 8 rfl rfl)
theorem dX0_push_33 : decode cX0_push 33 = .ok (.goto (-30), 3) := dk_167 255 226 (dk_at dksX0_push_1 11 rfl rfl)
theorem dX0_push_36 : decode cX0_push 36 = .ok (.return_, 1) := dk_177 (dk_at dksX0_push_1 14 rfl rfl)
abbrev cX0_law : ByteArray := prog_1_method_17_code
def yX0_law : MethodName := ⟨RX0, "law", "(I)I"⟩
def dkwX0_law_2 : List UInt8 := [180, 0, 176, 181, 0, 48, 29, 172]
abbrev dktX0_law_2 : List UInt8 := dkwX0_law_2 ++ []
def dkwX0_law_1 : List UInt8 := [181, 0, 160, 187, 0, 167, 89, 42, 27, 183, 0, 169, 77, 44, 182, 0, 172, 62, 29, 155, 0, 11, 42, 44]
abbrev dktX0_law_1 : List UInt8 := dkwX0_law_1 ++ dktX0_law_2
def dkwX0_law_0 : List UInt8 := [27, 4, 17, 0, 240, 184, 0, 156, 153, 0, 11, 27, 42, 180, 0, 160, 164, 0, 5, 2, 172, 42, 3]
abbrev dktX0_law_0 : List UInt8 := dkwX0_law_0 ++ dktX0_law_1
theorem dksX0_law_0 : cX0_law.data.toList.drop 0 = dktX0_law_0 := by decide +kernel
theorem dksX0_law_1 : cX0_law.data.toList.drop 23 = dktX0_law_1 := dk_seg dksX0_law_0 23 rfl rfl
theorem dksX0_law_2 : cX0_law.data.toList.drop 47 = dktX0_law_2 := dk_seg dksX0_law_1 24 rfl rfl
theorem dX0_law_0 : decode cX0_law 0 = .ok (.iload_n 1, 1) := dk_27 (dk_at dksX0_law_0 0 rfl rfl)
theorem dX0_law_1 : decode cX0_law 1 = .ok (.iconst 1, 1) := dk_4 (dk_at dksX0_law_0 1 rfl rfl)
theorem dX0_law_2 : decode cX0_law 2 = .ok (.sipush 240, 3) := dk_17 0 240 (dk_at dksX0_law_0 2 rfl rfl)
theorem dX0_law_5 : decode cX0_law 5 = .ok (.invokestatic 156, 3) := dk_184 0 156 (dk_at dksX0_law_0 5 rfl rfl)
theorem dX0_law_8 : decode cX0_law 8 = .ok (.ifCond .eq 11, 3) := dk_153 0 11 (dk_at dksX0_law_0 8 rfl rfl)
theorem dX0_law_11 : decode cX0_law 11 = .ok (.iload_n 1, 1) := dk_27 (dk_at dksX0_law_0 11 rfl rfl)
theorem dX0_law_12 : decode cX0_law 12 = .ok (.aload_n 0, 1) := dk_42 (dk_at dksX0_law_0 12 rfl rfl)
theorem dX0_law_13 : decode cX0_law 13 = .ok (.getfield 160, 3) := dk_180 0 160 (dk_at dksX0_law_0 13 rfl rfl)
theorem dX0_law_16 : decode cX0_law 16 = .ok (.if_icmp .le 5, 3) := dk_164 0 5 (dk_at dksX0_law_0 16 rfl rfl)
theorem dX0_law_19 : decode cX0_law 19 = .ok (.iconst (-1), 1) := dk_2 (dk_at dksX0_law_0 19 rfl rfl)
theorem dX0_law_20 : decode cX0_law 20 = .ok (.ireturn, 1) := dk_172 (dk_at dksX0_law_0 20 rfl rfl)
theorem dX0_law_21 : decode cX0_law 21 = .ok (.aload_n 0, 1) := dk_42 (dk_at dksX0_law_0 21 rfl rfl)
theorem dX0_law_22 : decode cX0_law 22 = .ok (.iconst 0, 1) := dk_3 (dk_at dksX0_law_0 22 rfl rfl)
theorem dX0_law_23 : decode cX0_law 23 = .ok (.putfield 160, 3) := dk_181 0 160 (dk_at dksX0_law_1 0 rfl rfl)
theorem dX0_law_26 : decode cX0_law 26 = .ok (.new 167, 3) := dk_187 0 167 (dk_at dksX0_law_1 3 rfl rfl)
theorem dX0_law_29 : decode cX0_law 29 = .ok (.dup, 1) := dk_89 (dk_at dksX0_law_1 6 rfl rfl)
theorem dX0_law_30 : decode cX0_law 30 = .ok (.aload_n 0, 1) := dk_42 (dk_at dksX0_law_1 7 rfl rfl)
theorem dX0_law_31 : decode cX0_law 31 = .ok (.iload_n 1, 1) := dk_27 (dk_at dksX0_law_1 8 rfl rfl)
theorem dX0_law_32 : decode cX0_law 32 = .ok (.invokespecial 169, 3) := dk_183 0 169 (dk_at dksX0_law_1 9 rfl rfl)
theorem dX0_law_35 : decode cX0_law 35 = .ok (.astore_n 2, 1) := dk_77 (dk_at dksX0_law_1 12 rfl rfl)
theorem dX0_law_36 : decode cX0_law 36 = .ok (.aload_n 2, 1) := dk_44 (dk_at dksX0_law_1 13 rfl rfl)
theorem dX0_law_37 : decode cX0_law 37 = .ok (.invokevirtual 172, 3) := dk_182 0 172 (dk_at dksX0_law_1 14 rfl rfl)
theorem dX0_law_40 : decode cX0_law 40 = .ok (.istore_n 3, 1) := dk_62 (dk_at dksX0_law_1 17 rfl rfl)
theorem dX0_law_41 : decode cX0_law 41 = .ok (.iload_n 3, 1) := dk_29 (dk_at dksX0_law_1 18 rfl rfl)
theorem dX0_law_42 : decode cX0_law 42 = .ok (.ifCond .lt 11, 3) := dk_155 0 11 (dk_at dksX0_law_1 19 rfl rfl)
theorem dX0_law_45 : decode cX0_law 45 = .ok (.aload_n 0, 1) := dk_42 (dk_at dksX0_law_1 22 rfl rfl)
theorem dX0_law_46 : decode cX0_law 46 = .ok (.aload_n 2, 1) := dk_44 (dk_at dksX0_law_1 23 rfl rfl)
theorem dX0_law_47 : decode cX0_law 47 = .ok (.getfield 176, 3) := dk_180 0 176 (dk_at dksX0_law_2 0 rfl rfl)
theorem dX0_law_50 : decode cX0_law 50 = .ok (.putfield 48, 3) := dk_181 0 48 (dk_at dksX0_law_2 3 rfl rfl)
theorem dX0_law_53 : decode cX0_law 53 = .ok (.iload_n 3, 1) := dk_29 (dk_at dksX0_law_2 6 rfl rfl)
theorem dX0_law_54 : decode cX0_law 54 = .ok (.ireturn, 1) := dk_172 (dk_at dksX0_law_2 7 rfl rfl)
abbrev cX0_timetable : ByteArray := prog_1_method_18_code
def yX0_timetable : MethodName := ⟨RX0, "timetable", "(I)I"⟩
def dkwX0_timetable_2 : List UInt8 := [42, 44, 29, 182, 0, 183, 181, 0, 10, 42, 182, 0, 186, 42, 180, 0, 10, 172]
abbrev dktX0_timetable_2 : List UInt8 := dkwX0_timetable_2 ++ []
def dkwX0_timetable_1 : List UInt8 := [181, 0, 160, 187, 0, 179, 89, 42, 27, 183, 0, 181, 77, 44, 182, 0, 182, 62, 29, 156, 0, 5, 29, 172]
abbrev dktX0_timetable_1 : List UInt8 := dkwX0_timetable_1 ++ dktX0_timetable_2
def dkwX0_timetable_0 : List UInt8 := [27, 4, 17, 0, 160, 184, 0, 156, 153, 0, 11, 27, 42, 180, 0, 160, 164, 0, 5, 2, 172, 42, 3]
abbrev dktX0_timetable_0 : List UInt8 := dkwX0_timetable_0 ++ dktX0_timetable_1
theorem dksX0_timetable_0 : cX0_timetable.data.toList.drop 0 = dktX0_timetable_0 := by decide +kernel
theorem dksX0_timetable_1 : cX0_timetable.data.toList.drop 23 = dktX0_timetable_1 := dk_seg dksX0_timetable_0 23 rfl rfl
theorem dksX0_timetable_2 : cX0_timetable.data.toList.drop 47 = dktX0_timetable_2 := dk_seg dksX0_timetable_1 24 rfl rfl
theorem dX0_timetable_0 : decode cX0_timetable 0 = .ok (.iload_n 1, 1) := dk_27 (dk_at dksX0_timetable_0 0 rfl rfl)
theorem dX0_timetable_1 : decode cX0_timetable 1 = .ok (.iconst 1, 1) := dk_4 (dk_at dksX0_timetable_0 1 rfl rfl)
theorem dX0_timetable_2 : decode cX0_timetable 2 = .ok (.sipush 160, 3) := dk_17 0 160 (dk_at dksX0_timetable_0 2 rfl rfl)
theorem dX0_timetable_5 : decode cX0_timetable 5 = .ok (.invokestatic 156, 3) := dk_184 0 156 (dk_at dksX0_timetable_0 5 rfl rfl)
theorem dX0_timetable_8 : decode cX0_timetable 8 = .ok (.ifCond .eq 11, 3) := dk_153 0 11 (dk_at dksX0_timetable_0 8 rfl rfl)
theorem dX0_timetable_11 : decode cX0_timetable 11 = .ok (.iload_n 1, 1) := dk_27 (dk_at dksX0_timetable_0 11 rfl rfl)
theorem dX0_timetable_12 : decode cX0_timetable 12 = .ok (.aload_n 0, 1) := dk_42 (dk_at dksX0_timetable_0 12 rfl rfl)
theorem dX0_timetable_13 : decode cX0_timetable 13 = .ok (.getfield 160, 3) := dk_180 0 160 (dk_at dksX0_timetable_0 13 rfl rfl)
theorem dX0_timetable_16 : decode cX0_timetable 16 = .ok (.if_icmp .le 5, 3) := dk_164 0 5 (dk_at dksX0_timetable_0 16 rfl rfl)
theorem dX0_timetable_19 : decode cX0_timetable 19 = .ok (.iconst (-1), 1) := dk_2 (dk_at dksX0_timetable_0 19 rfl rfl)
theorem dX0_timetable_20 : decode cX0_timetable 20 = .ok (.ireturn, 1) := dk_172 (dk_at dksX0_timetable_0 20 rfl rfl)
theorem dX0_timetable_21 : decode cX0_timetable 21 = .ok (.aload_n 0, 1) := dk_42 (dk_at dksX0_timetable_0 21 rfl rfl)
theorem dX0_timetable_22 : decode cX0_timetable 22 = .ok (.iconst 0, 1) := dk_3 (dk_at dksX0_timetable_0 22 rfl rfl)
theorem dX0_timetable_23 : decode cX0_timetable 23 = .ok (.putfield 160, 3) := dk_181 0 160 (dk_at dksX0_timetable_1 0 rfl rfl)
theorem dX0_timetable_26 : decode cX0_timetable 26 = .ok (.new 179, 3) := dk_187 0 179 (dk_at dksX0_timetable_1 3 rfl rfl)
theorem dX0_timetable_29 : decode cX0_timetable 29 = .ok (.dup, 1) := dk_89 (dk_at dksX0_timetable_1 6 rfl rfl)
theorem dX0_timetable_30 : decode cX0_timetable 30 = .ok (.aload_n 0, 1) := dk_42 (dk_at dksX0_timetable_1 7 rfl rfl)
theorem dX0_timetable_31 : decode cX0_timetable 31 = .ok (.iload_n 1, 1) := dk_27 (dk_at dksX0_timetable_1 8 rfl rfl)
theorem dX0_timetable_32 : decode cX0_timetable 32 = .ok (.invokespecial 181, 3) := dk_183 0 181 (dk_at dksX0_timetable_1 9 rfl rfl)
theorem dX0_timetable_35 : decode cX0_timetable 35 = .ok (.astore_n 2, 1) := dk_77 (dk_at dksX0_timetable_1 12 rfl rfl)
theorem dX0_timetable_36 : decode cX0_timetable 36 = .ok (.aload_n 2, 1) := dk_44 (dk_at dksX0_timetable_1 13 rfl rfl)
theorem dX0_timetable_37 : decode cX0_timetable 37 = .ok (.invokevirtual 182, 3) := dk_182 0 182 (dk_at dksX0_timetable_1 14 rfl rfl)
theorem dX0_timetable_40 : decode cX0_timetable 40 = .ok (.istore_n 3, 1) := dk_62 (dk_at dksX0_timetable_1 17 rfl rfl)
theorem dX0_timetable_41 : decode cX0_timetable 41 = .ok (.iload_n 3, 1) := dk_29 (dk_at dksX0_timetable_1 18 rfl rfl)
theorem dX0_timetable_42 : decode cX0_timetable 42 = .ok (.ifCond .ge 5, 3) := dk_156 0 5 (dk_at dksX0_timetable_1 19 rfl rfl)
theorem dX0_timetable_45 : decode cX0_timetable 45 = .ok (.iload_n 3, 1) := dk_29 (dk_at dksX0_timetable_1 22 rfl rfl)
theorem dX0_timetable_46 : decode cX0_timetable 46 = .ok (.ireturn, 1) := dk_172 (dk_at dksX0_timetable_1 23 rfl rfl)
theorem dX0_timetable_47 : decode cX0_timetable 47 = .ok (.aload_n 0, 1) := dk_42 (dk_at dksX0_timetable_2 0 rfl rfl)
theorem dX0_timetable_48 : decode cX0_timetable 48 = .ok (.aload_n 2, 1) := dk_44 (dk_at dksX0_timetable_2 1 rfl rfl)
theorem dX0_timetable_49 : decode cX0_timetable 49 = .ok (.iload_n 3, 1) := dk_29 (dk_at dksX0_timetable_2 2 rfl rfl)
theorem dX0_timetable_50 : decode cX0_timetable 50 = .ok (.invokevirtual 183, 3) := dk_182 0 183 (dk_at dksX0_timetable_2 3 rfl rfl)
theorem dX0_timetable_53 : decode cX0_timetable 53 = .ok (.putfield 10, 3) := dk_181 0 10 (dk_at dksX0_timetable_2 6 rfl rfl)
theorem dX0_timetable_56 : decode cX0_timetable 56 = .ok (.aload_n 0, 1) := dk_42 (dk_at dksX0_timetable_2 9 rfl rfl)
theorem dX0_timetable_57 : decode cX0_timetable 57 = .ok (.invokevirtual 186, 3) := dk_182 0 186 (dk_at dksX0_timetable_2 10 rfl rfl)
theorem dX0_timetable_60 : decode cX0_timetable 60 = .ok (.aload_n 0, 1) := dk_42 (dk_at dksX0_timetable_2 13 rfl rfl)
theorem dX0_timetable_61 : decode cX0_timetable 61 = .ok (.getfield 10, 3) := dk_180 0 10 (dk_at dksX0_timetable_2 14 rfl rfl)
theorem dX0_timetable_64 : decode cX0_timetable 64 = .ok (.ireturn, 1) := dk_172 (dk_at dksX0_timetable_2 17 rfl rfl)
abbrev cX0_isTrain : ByteArray := prog_1_method_5_code
def yX0_isTrain : MethodName := ⟨RX0, "isTrain", "(I)Z"⟩
def dkwX0_isTrain_0 : List UInt8 := [27, 42, 180, 0, 10, 184, 0, 16, 172]
abbrev dktX0_isTrain_0 : List UInt8 := dkwX0_isTrain_0 ++ []
theorem dksX0_isTrain_0 : cX0_isTrain.data.toList.drop 0 = dktX0_isTrain_0 := by decide +kernel
theorem dX0_isTrain_0 : decode cX0_isTrain 0 = .ok (.iload_n 1, 1) := dk_27 (dk_at dksX0_isTrain_0 0 rfl rfl)
theorem dX0_isTrain_1 : decode cX0_isTrain 1 = .ok (.aload_n 0, 1) := dk_42 (dk_at dksX0_isTrain_0 1 rfl rfl)
theorem dX0_isTrain_2 : decode cX0_isTrain 2 = .ok (.getfield 10, 3) := dk_180 0 10 (dk_at dksX0_isTrain_0 2 rfl rfl)
theorem dX0_isTrain_5 : decode cX0_isTrain 5 = .ok (.invokestatic 16, 3) := dk_184 0 16 (dk_at dksX0_isTrain_0 5 rfl rfl)
theorem dX0_isTrain_8 : decode cX0_isTrain 8 = .ok (.ireturn, 1) := dk_172 (dk_at dksX0_isTrain_0 8 rfl rfl)
abbrev cX0_laysEvents : ByteArray := prog_1_method_9_code
def yX0_laysEvents : MethodName := ⟨RX0, "laysEvents", "()V"⟩
def dkwX0_laysEvents_5 : List UInt8 := [132, 2, 1, 167, 255, 152, 132, 1, 1, 167, 255, 136, 177]
abbrev dktX0_laysEvents_5 : List UInt8 := dkwX0_laysEvents_5 ++ []
def dkwX0_laysEvents_4 : List UInt8 := [180, 0, 28, 29, 27, 79, 42, 180, 0, 37, 29, 28, 79, 42, 89, 180, 0, 40, 4, 96, 181, 0, 40]
abbrev dktX0_laysEvents_4 : List UInt8 := dkwX0_laysEvents_4 ++ dktX0_laysEvents_5
def dkwX0_laysEvents_3 : List UInt8 := [100, 46, 79, 42, 180, 0, 37, 29, 42, 180, 0, 37, 29, 4, 100, 46, 79, 132, 3, 255, 167, 255, 200, 42]
abbrev dktX0_laysEvents_3 : List UInt8 := dkwX0_laysEvents_3 ++ dktX0_laysEvents_4
def dkwX0_laysEvents_2 : List UInt8 := [180, 0, 24, 27, 50, 180, 0, 32, 28, 46, 164, 0, 37, 42, 180, 0, 28, 29, 42, 180, 0, 28, 29, 4]
abbrev dktX0_laysEvents_2 : List UInt8 := dkwX0_laysEvents_2 ++ dktX0_laysEvents_3
def dkwX0_laysEvents_1 : List UInt8 := [180, 0, 43, 162, 0, 97, 42, 180, 0, 40, 62, 29, 158, 0, 58, 42, 29, 4, 100, 182, 0, 44, 42]
abbrev dktX0_laysEvents_1 : List UInt8 := dkwX0_laysEvents_1 ++ dktX0_laysEvents_2
def dkwX0_laysEvents_0 : List UInt8 := [42, 3, 181, 0, 40, 3, 60, 27, 42, 180, 0, 10, 162, 0, 118, 3, 61, 28, 42, 180, 0, 24, 27, 50]
abbrev dktX0_laysEvents_0 : List UInt8 := dkwX0_laysEvents_0 ++ dktX0_laysEvents_1
theorem dksX0_laysEvents_0 : cX0_laysEvents.data.toList.drop 0 = dktX0_laysEvents_0 := by decide +kernel
theorem dksX0_laysEvents_1 : cX0_laysEvents.data.toList.drop 24 = dktX0_laysEvents_1 := dk_seg dksX0_laysEvents_0 24 rfl rfl
theorem dksX0_laysEvents_2 : cX0_laysEvents.data.toList.drop 47 = dktX0_laysEvents_2 := dk_seg dksX0_laysEvents_1 23 rfl rfl
theorem dksX0_laysEvents_3 : cX0_laysEvents.data.toList.drop 71 = dktX0_laysEvents_3 := dk_seg dksX0_laysEvents_2 24 rfl rfl
theorem dksX0_laysEvents_4 : cX0_laysEvents.data.toList.drop 95 = dktX0_laysEvents_4 := dk_seg dksX0_laysEvents_3 24 rfl rfl
theorem dksX0_laysEvents_5 : cX0_laysEvents.data.toList.drop 118 = dktX0_laysEvents_5 := dk_seg dksX0_laysEvents_4 23 rfl rfl
theorem dX0_laysEvents_0 : decode cX0_laysEvents 0 = .ok (.aload_n 0, 1) := dk_42 (dk_at dksX0_laysEvents_0 0 rfl rfl)
theorem dX0_laysEvents_1 : decode cX0_laysEvents 1 = .ok (.iconst 0, 1) := dk_3 (dk_at dksX0_laysEvents_0 1 rfl rfl)
theorem dX0_laysEvents_2 : decode cX0_laysEvents 2 = .ok (.putfield 40, 3) := dk_181 0 40 (dk_at dksX0_laysEvents_0 2 rfl rfl)
theorem dX0_laysEvents_5 : decode cX0_laysEvents 5 = .ok (.iconst 0, 1) := dk_3 (dk_at dksX0_laysEvents_0 5 rfl rfl)
theorem dX0_laysEvents_6 : decode cX0_laysEvents 6 = .ok (.istore_n 1, 1) := dk_60 (dk_at dksX0_laysEvents_0 6 rfl rfl)
theorem dX0_laysEvents_7 : decode cX0_laysEvents 7 = .ok (.iload_n 1, 1) := dk_27 (dk_at dksX0_laysEvents_0 7 rfl rfl)
theorem dX0_laysEvents_8 : decode cX0_laysEvents 8 = .ok (.aload_n 0, 1) := dk_42 (dk_at dksX0_laysEvents_0 8 rfl rfl)
theorem dX0_laysEvents_9 : decode cX0_laysEvents 9 = .ok (.getfield 10, 3) := dk_180 0 10 (dk_at dksX0_laysEvents_0 9 rfl rfl)
theorem dX0_laysEvents_12 : decode cX0_laysEvents 12 = .ok (.if_icmp .ge 118, 3) := dk_162 0 118 (dk_at dksX0_laysEvents_0 12 rfl rfl)
theorem dX0_laysEvents_15 : decode cX0_laysEvents 15 = .ok (.iconst 0, 1) := dk_3 (dk_at dksX0_laysEvents_0 15 rfl rfl)
theorem dX0_laysEvents_16 : decode cX0_laysEvents 16 = .ok (.istore_n 2, 1) := dk_61 (dk_at dksX0_laysEvents_0 16 rfl rfl)
theorem dX0_laysEvents_17 : decode cX0_laysEvents 17 = .ok (.iload_n 2, 1) := dk_28 (dk_at dksX0_laysEvents_0 17 rfl rfl)
theorem dX0_laysEvents_18 : decode cX0_laysEvents 18 = .ok (.aload_n 0, 1) := dk_42 (dk_at dksX0_laysEvents_0 18 rfl rfl)
theorem dX0_laysEvents_19 : decode cX0_laysEvents 19 = .ok (.getfield 24, 3) := dk_180 0 24 (dk_at dksX0_laysEvents_0 19 rfl rfl)
theorem dX0_laysEvents_22 : decode cX0_laysEvents 22 = .ok (.iload_n 1, 1) := dk_27 (dk_at dksX0_laysEvents_0 22 rfl rfl)
theorem dX0_laysEvents_23 : decode cX0_laysEvents 23 = .ok (.aaload, 1) := dk_50 (dk_at dksX0_laysEvents_0 23 rfl rfl)
theorem dX0_laysEvents_24 : decode cX0_laysEvents 24 = .ok (.getfield 43, 3) := dk_180 0 43 (dk_at dksX0_laysEvents_1 0 rfl rfl)
theorem dX0_laysEvents_27 : decode cX0_laysEvents 27 = .ok (.if_icmp .ge 97, 3) := dk_162 0 97 (dk_at dksX0_laysEvents_1 3 rfl rfl)
theorem dX0_laysEvents_30 : decode cX0_laysEvents 30 = .ok (.aload_n 0, 1) := dk_42 (dk_at dksX0_laysEvents_1 6 rfl rfl)
theorem dX0_laysEvents_31 : decode cX0_laysEvents 31 = .ok (.getfield 40, 3) := dk_180 0 40 (dk_at dksX0_laysEvents_1 7 rfl rfl)
theorem dX0_laysEvents_34 : decode cX0_laysEvents 34 = .ok (.istore_n 3, 1) := dk_62 (dk_at dksX0_laysEvents_1 10 rfl rfl)
theorem dX0_laysEvents_35 : decode cX0_laysEvents 35 = .ok (.iload_n 3, 1) := dk_29 (dk_at dksX0_laysEvents_1 11 rfl rfl)
theorem dX0_laysEvents_36 : decode cX0_laysEvents 36 = .ok (.ifCond .le 58, 3) := dk_158 0 58 (dk_at dksX0_laysEvents_1 12 rfl rfl)
theorem dX0_laysEvents_39 : decode cX0_laysEvents 39 = .ok (.aload_n 0, 1) := dk_42 (dk_at dksX0_laysEvents_1 15 rfl rfl)
theorem dX0_laysEvents_40 : decode cX0_laysEvents 40 = .ok (.iload_n 3, 1) := dk_29 (dk_at dksX0_laysEvents_1 16 rfl rfl)
theorem dX0_laysEvents_41 : decode cX0_laysEvents 41 = .ok (.iconst 1, 1) := dk_4 (dk_at dksX0_laysEvents_1 17 rfl rfl)
theorem dX0_laysEvents_42 : decode cX0_laysEvents 42 = .ok (.isub, 1) := dk_100 (dk_at dksX0_laysEvents_1 18 rfl rfl)
theorem dX0_laysEvents_43 : decode cX0_laysEvents 43 = .ok (.invokevirtual 44, 3) := dk_182 0 44 (dk_at dksX0_laysEvents_1 19 rfl rfl)
theorem dX0_laysEvents_46 : decode cX0_laysEvents 46 = .ok (.aload_n 0, 1) := dk_42 (dk_at dksX0_laysEvents_1 22 rfl rfl)
theorem dX0_laysEvents_47 : decode cX0_laysEvents 47 = .ok (.getfield 24, 3) := dk_180 0 24 (dk_at dksX0_laysEvents_2 0 rfl rfl)
theorem dX0_laysEvents_50 : decode cX0_laysEvents 50 = .ok (.iload_n 1, 1) := dk_27 (dk_at dksX0_laysEvents_2 3 rfl rfl)
theorem dX0_laysEvents_51 : decode cX0_laysEvents 51 = .ok (.aaload, 1) := dk_50 (dk_at dksX0_laysEvents_2 4 rfl rfl)
theorem dX0_laysEvents_52 : decode cX0_laysEvents 52 = .ok (.getfield 32, 3) := dk_180 0 32 (dk_at dksX0_laysEvents_2 5 rfl rfl)
theorem dX0_laysEvents_55 : decode cX0_laysEvents 55 = .ok (.iload_n 2, 1) := dk_28 (dk_at dksX0_laysEvents_2 8 rfl rfl)
theorem dX0_laysEvents_56 : decode cX0_laysEvents 56 = .ok (.iaload, 1) := dk_46 (dk_at dksX0_laysEvents_2 9 rfl rfl)
theorem dX0_laysEvents_57 : decode cX0_laysEvents 57 = .ok (.if_icmp .le 37, 3) := dk_164 0 37 (dk_at dksX0_laysEvents_2 10 rfl rfl)
theorem dX0_laysEvents_60 : decode cX0_laysEvents 60 = .ok (.aload_n 0, 1) := dk_42 (dk_at dksX0_laysEvents_2 13 rfl rfl)
theorem dX0_laysEvents_61 : decode cX0_laysEvents 61 = .ok (.getfield 28, 3) := dk_180 0 28 (dk_at dksX0_laysEvents_2 14 rfl rfl)
theorem dX0_laysEvents_64 : decode cX0_laysEvents 64 = .ok (.iload_n 3, 1) := dk_29 (dk_at dksX0_laysEvents_2 17 rfl rfl)
theorem dX0_laysEvents_65 : decode cX0_laysEvents 65 = .ok (.aload_n 0, 1) := dk_42 (dk_at dksX0_laysEvents_2 18 rfl rfl)
theorem dX0_laysEvents_66 : decode cX0_laysEvents 66 = .ok (.getfield 28, 3) := dk_180 0 28 (dk_at dksX0_laysEvents_2 19 rfl rfl)
theorem dX0_laysEvents_69 : decode cX0_laysEvents 69 = .ok (.iload_n 3, 1) := dk_29 (dk_at dksX0_laysEvents_2 22 rfl rfl)
theorem dX0_laysEvents_70 : decode cX0_laysEvents 70 = .ok (.iconst 1, 1) := dk_4 (dk_at dksX0_laysEvents_2 23 rfl rfl)
theorem dX0_laysEvents_71 : decode cX0_laysEvents 71 = .ok (.isub, 1) := dk_100 (dk_at dksX0_laysEvents_3 0 rfl rfl)
theorem dX0_laysEvents_72 : decode cX0_laysEvents 72 = .ok (.iaload, 1) := dk_46 (dk_at dksX0_laysEvents_3 1 rfl rfl)
theorem dX0_laysEvents_73 : decode cX0_laysEvents 73 = .ok (.iastore, 1) := dk_79 (dk_at dksX0_laysEvents_3 2 rfl rfl)
theorem dX0_laysEvents_74 : decode cX0_laysEvents 74 = .ok (.aload_n 0, 1) := dk_42 (dk_at dksX0_laysEvents_3 3 rfl rfl)
theorem dX0_laysEvents_75 : decode cX0_laysEvents 75 = .ok (.getfield 37, 3) := dk_180 0 37 (dk_at dksX0_laysEvents_3 4 rfl rfl)
theorem dX0_laysEvents_78 : decode cX0_laysEvents 78 = .ok (.iload_n 3, 1) := dk_29 (dk_at dksX0_laysEvents_3 7 rfl rfl)
theorem dX0_laysEvents_79 : decode cX0_laysEvents 79 = .ok (.aload_n 0, 1) := dk_42 (dk_at dksX0_laysEvents_3 8 rfl rfl)
theorem dX0_laysEvents_80 : decode cX0_laysEvents 80 = .ok (.getfield 37, 3) := dk_180 0 37 (dk_at dksX0_laysEvents_3 9 rfl rfl)
theorem dX0_laysEvents_83 : decode cX0_laysEvents 83 = .ok (.iload_n 3, 1) := dk_29 (dk_at dksX0_laysEvents_3 12 rfl rfl)
theorem dX0_laysEvents_84 : decode cX0_laysEvents 84 = .ok (.iconst 1, 1) := dk_4 (dk_at dksX0_laysEvents_3 13 rfl rfl)
theorem dX0_laysEvents_85 : decode cX0_laysEvents 85 = .ok (.isub, 1) := dk_100 (dk_at dksX0_laysEvents_3 14 rfl rfl)
theorem dX0_laysEvents_86 : decode cX0_laysEvents 86 = .ok (.iaload, 1) := dk_46 (dk_at dksX0_laysEvents_3 15 rfl rfl)
theorem dX0_laysEvents_87 : decode cX0_laysEvents 87 = .ok (.iastore, 1) := dk_79 (dk_at dksX0_laysEvents_3 16 rfl rfl)
theorem dX0_laysEvents_88 : decode cX0_laysEvents 88 = .ok (.iinc 3 (-1), 3) := dk_132 3 255 (dk_at dksX0_laysEvents_3 17 rfl rfl)
theorem dX0_laysEvents_91 : decode cX0_laysEvents 91 = .ok (.goto (-56), 3) := dk_167 255 200 (dk_at dksX0_laysEvents_3 20 rfl rfl)
theorem dX0_laysEvents_94 : decode cX0_laysEvents 94 = .ok (.aload_n 0, 1) := dk_42 (dk_at dksX0_laysEvents_3 23 rfl rfl)
theorem dX0_laysEvents_95 : decode cX0_laysEvents 95 = .ok (.getfield 28, 3) := dk_180 0 28 (dk_at dksX0_laysEvents_4 0 rfl rfl)
theorem dX0_laysEvents_98 : decode cX0_laysEvents 98 = .ok (.iload_n 3, 1) := dk_29 (dk_at dksX0_laysEvents_4 3 rfl rfl)
theorem dX0_laysEvents_99 : decode cX0_laysEvents 99 = .ok (.iload_n 1, 1) := dk_27 (dk_at dksX0_laysEvents_4 4 rfl rfl)
theorem dX0_laysEvents_100 : decode cX0_laysEvents 100 = .ok (.iastore, 1) := dk_79 (dk_at dksX0_laysEvents_4 5 rfl rfl)
theorem dX0_laysEvents_101 : decode cX0_laysEvents 101 = .ok (.aload_n 0, 1) := dk_42 (dk_at dksX0_laysEvents_4 6 rfl rfl)
theorem dX0_laysEvents_102 : decode cX0_laysEvents 102 = .ok (.getfield 37, 3) := dk_180 0 37 (dk_at dksX0_laysEvents_4 7 rfl rfl)
theorem dX0_laysEvents_105 : decode cX0_laysEvents 105 = .ok (.iload_n 3, 1) := dk_29 (dk_at dksX0_laysEvents_4 10 rfl rfl)
theorem dX0_laysEvents_106 : decode cX0_laysEvents 106 = .ok (.iload_n 2, 1) := dk_28 (dk_at dksX0_laysEvents_4 11 rfl rfl)
theorem dX0_laysEvents_107 : decode cX0_laysEvents 107 = .ok (.iastore, 1) := dk_79 (dk_at dksX0_laysEvents_4 12 rfl rfl)
theorem dX0_laysEvents_108 : decode cX0_laysEvents 108 = .ok (.aload_n 0, 1) := dk_42 (dk_at dksX0_laysEvents_4 13 rfl rfl)
theorem dX0_laysEvents_109 : decode cX0_laysEvents 109 = .ok (.dup, 1) := dk_89 (dk_at dksX0_laysEvents_4 14 rfl rfl)
theorem dX0_laysEvents_110 : decode cX0_laysEvents 110 = .ok (.getfield 40, 3) := dk_180 0 40 (dk_at dksX0_laysEvents_4 15 rfl rfl)
theorem dX0_laysEvents_113 : decode cX0_laysEvents 113 = .ok (.iconst 1, 1) := dk_4 (dk_at dksX0_laysEvents_4 18 rfl rfl)
theorem dX0_laysEvents_114 : decode cX0_laysEvents 114 = .ok (.iadd, 1) := dk_96 (dk_at dksX0_laysEvents_4 19 rfl rfl)
theorem dX0_laysEvents_115 : decode cX0_laysEvents 115 = .ok (.putfield 40, 3) := dk_181 0 40 (dk_at dksX0_laysEvents_4 20 rfl rfl)
theorem dX0_laysEvents_118 : decode cX0_laysEvents 118 = .ok (.iinc 2 1, 3) := dk_132 2 1 (dk_at dksX0_laysEvents_5 0 rfl rfl)
theorem dX0_laysEvents_121 : decode cX0_laysEvents 121 = .ok (.goto (-104), 3) := dk_167 255 152 (dk_at dksX0_laysEvents_5 3 rfl rfl)
theorem dX0_laysEvents_124 : decode cX0_laysEvents 124 = .ok (.iinc 1 1, 3) := dk_132 1 1 (dk_at dksX0_laysEvents_5 6 rfl rfl)
theorem dX0_laysEvents_127 : decode cX0_laysEvents 127 = .ok (.goto (-120), 3) := dk_167 255 136 (dk_at dksX0_laysEvents_5 9 rfl rfl)
theorem dX0_laysEvents_130 : decode cX0_laysEvents 130 = .ok (.return_, 1) := dk_177 (dk_at dksX0_laysEvents_5 12 rfl rfl)
abbrev cX0_minuteOf : ByteArray := prog_1_method_8_code
def yX0_minuteOf : MethodName := ⟨RX0, "minuteOf", "(I)I"⟩
def dkwX0_minuteOf_0 : List UInt8 := [42, 180, 0, 24, 42, 180, 0, 28, 27, 46, 50, 180, 0, 32, 42, 180, 0, 37, 27, 46, 46, 172]
abbrev dktX0_minuteOf_0 : List UInt8 := dkwX0_minuteOf_0 ++ []
theorem dksX0_minuteOf_0 : cX0_minuteOf.data.toList.drop 0 = dktX0_minuteOf_0 := by decide +kernel
theorem dX0_minuteOf_0 : decode cX0_minuteOf 0 = .ok (.aload_n 0, 1) := dk_42 (dk_at dksX0_minuteOf_0 0 rfl rfl)
theorem dX0_minuteOf_1 : decode cX0_minuteOf 1 = .ok (.getfield 24, 3) := dk_180 0 24 (dk_at dksX0_minuteOf_0 1 rfl rfl)
theorem dX0_minuteOf_4 : decode cX0_minuteOf 4 = .ok (.aload_n 0, 1) := dk_42 (dk_at dksX0_minuteOf_0 4 rfl rfl)
theorem dX0_minuteOf_5 : decode cX0_minuteOf 5 = .ok (.getfield 28, 3) := dk_180 0 28 (dk_at dksX0_minuteOf_0 5 rfl rfl)
theorem dX0_minuteOf_8 : decode cX0_minuteOf 8 = .ok (.iload_n 1, 1) := dk_27 (dk_at dksX0_minuteOf_0 8 rfl rfl)
theorem dX0_minuteOf_9 : decode cX0_minuteOf 9 = .ok (.iaload, 1) := dk_46 (dk_at dksX0_minuteOf_0 9 rfl rfl)
theorem dX0_minuteOf_10 : decode cX0_minuteOf 10 = .ok (.aaload, 1) := dk_50 (dk_at dksX0_minuteOf_0 10 rfl rfl)
theorem dX0_minuteOf_11 : decode cX0_minuteOf 11 = .ok (.getfield 32, 3) := dk_180 0 32 (dk_at dksX0_minuteOf_0 11 rfl rfl)
theorem dX0_minuteOf_14 : decode cX0_minuteOf 14 = .ok (.aload_n 0, 1) := dk_42 (dk_at dksX0_minuteOf_0 14 rfl rfl)
theorem dX0_minuteOf_15 : decode cX0_minuteOf 15 = .ok (.getfield 37, 3) := dk_180 0 37 (dk_at dksX0_minuteOf_0 15 rfl rfl)
theorem dX0_minuteOf_18 : decode cX0_minuteOf 18 = .ok (.iload_n 1, 1) := dk_27 (dk_at dksX0_minuteOf_0 18 rfl rfl)
theorem dX0_minuteOf_19 : decode cX0_minuteOf 19 = .ok (.iaload, 1) := dk_46 (dk_at dksX0_minuteOf_0 19 rfl rfl)
theorem dX0_minuteOf_20 : decode cX0_minuteOf 20 = .ok (.iaload, 1) := dk_46 (dk_at dksX0_minuteOf_0 20 rfl rfl)
theorem dX0_minuteOf_21 : decode cX0_minuteOf 21 = .ok (.ireturn, 1) := dk_172 (dk_at dksX0_minuteOf_0 21 rfl rfl)
abbrev cX0_orders : ByteArray := prog_1_method_19_code
def yX0_orders : MethodName := ⟨RX0, "orders", "(I)I"⟩
def dkwX0_orders_2 : List UInt8 := [182, 0, 193, 29, 172]
abbrev dktX0_orders_2 : List UInt8 := dkwX0_orders_2 ++ []
def dkwX0_orders_1 : List UInt8 := [181, 0, 160, 187, 0, 189, 89, 42, 27, 183, 0, 191, 77, 44, 182, 0, 192, 62, 29, 155, 0, 7, 44]
abbrev dktX0_orders_1 : List UInt8 := dkwX0_orders_1 ++ dktX0_orders_2
def dkwX0_orders_0 : List UInt8 := [27, 4, 16, 120, 184, 0, 156, 153, 0, 11, 27, 42, 180, 0, 160, 164, 0, 5, 2, 172, 42, 3]
abbrev dktX0_orders_0 : List UInt8 := dkwX0_orders_0 ++ dktX0_orders_1
theorem dksX0_orders_0 : cX0_orders.data.toList.drop 0 = dktX0_orders_0 := by decide +kernel
theorem dksX0_orders_1 : cX0_orders.data.toList.drop 22 = dktX0_orders_1 := dk_seg dksX0_orders_0 22 rfl rfl
theorem dksX0_orders_2 : cX0_orders.data.toList.drop 45 = dktX0_orders_2 := dk_seg dksX0_orders_1 23 rfl rfl
theorem dX0_orders_0 : decode cX0_orders 0 = .ok (.iload_n 1, 1) := dk_27 (dk_at dksX0_orders_0 0 rfl rfl)
theorem dX0_orders_1 : decode cX0_orders 1 = .ok (.iconst 1, 1) := dk_4 (dk_at dksX0_orders_0 1 rfl rfl)
theorem dX0_orders_2 : decode cX0_orders 2 = .ok (.bipush 120, 2) := dk_16 120 (dk_at dksX0_orders_0 2 rfl rfl)
theorem dX0_orders_4 : decode cX0_orders 4 = .ok (.invokestatic 156, 3) := dk_184 0 156 (dk_at dksX0_orders_0 4 rfl rfl)
theorem dX0_orders_7 : decode cX0_orders 7 = .ok (.ifCond .eq 11, 3) := dk_153 0 11 (dk_at dksX0_orders_0 7 rfl rfl)
theorem dX0_orders_10 : decode cX0_orders 10 = .ok (.iload_n 1, 1) := dk_27 (dk_at dksX0_orders_0 10 rfl rfl)
theorem dX0_orders_11 : decode cX0_orders 11 = .ok (.aload_n 0, 1) := dk_42 (dk_at dksX0_orders_0 11 rfl rfl)
theorem dX0_orders_12 : decode cX0_orders 12 = .ok (.getfield 160, 3) := dk_180 0 160 (dk_at dksX0_orders_0 12 rfl rfl)
theorem dX0_orders_15 : decode cX0_orders 15 = .ok (.if_icmp .le 5, 3) := dk_164 0 5 (dk_at dksX0_orders_0 15 rfl rfl)
theorem dX0_orders_18 : decode cX0_orders 18 = .ok (.iconst (-1), 1) := dk_2 (dk_at dksX0_orders_0 18 rfl rfl)
theorem dX0_orders_19 : decode cX0_orders 19 = .ok (.ireturn, 1) := dk_172 (dk_at dksX0_orders_0 19 rfl rfl)
theorem dX0_orders_20 : decode cX0_orders 20 = .ok (.aload_n 0, 1) := dk_42 (dk_at dksX0_orders_0 20 rfl rfl)
theorem dX0_orders_21 : decode cX0_orders 21 = .ok (.iconst 0, 1) := dk_3 (dk_at dksX0_orders_0 21 rfl rfl)
theorem dX0_orders_22 : decode cX0_orders 22 = .ok (.putfield 160, 3) := dk_181 0 160 (dk_at dksX0_orders_1 0 rfl rfl)
theorem dX0_orders_25 : decode cX0_orders 25 = .ok (.new 189, 3) := dk_187 0 189 (dk_at dksX0_orders_1 3 rfl rfl)
theorem dX0_orders_28 : decode cX0_orders 28 = .ok (.dup, 1) := dk_89 (dk_at dksX0_orders_1 6 rfl rfl)
theorem dX0_orders_29 : decode cX0_orders 29 = .ok (.aload_n 0, 1) := dk_42 (dk_at dksX0_orders_1 7 rfl rfl)
theorem dX0_orders_30 : decode cX0_orders 30 = .ok (.iload_n 1, 1) := dk_27 (dk_at dksX0_orders_1 8 rfl rfl)
theorem dX0_orders_31 : decode cX0_orders 31 = .ok (.invokespecial 191, 3) := dk_183 0 191 (dk_at dksX0_orders_1 9 rfl rfl)
theorem dX0_orders_34 : decode cX0_orders 34 = .ok (.astore_n 2, 1) := dk_77 (dk_at dksX0_orders_1 12 rfl rfl)
theorem dX0_orders_35 : decode cX0_orders 35 = .ok (.aload_n 2, 1) := dk_44 (dk_at dksX0_orders_1 13 rfl rfl)
theorem dX0_orders_36 : decode cX0_orders 36 = .ok (.invokevirtual 192, 3) := dk_182 0 192 (dk_at dksX0_orders_1 14 rfl rfl)
theorem dX0_orders_39 : decode cX0_orders 39 = .ok (.istore_n 3, 1) := dk_62 (dk_at dksX0_orders_1 17 rfl rfl)
theorem dX0_orders_40 : decode cX0_orders 40 = .ok (.iload_n 3, 1) := dk_29 (dk_at dksX0_orders_1 18 rfl rfl)
theorem dX0_orders_41 : decode cX0_orders 41 = .ok (.ifCond .lt 7, 3) := dk_155 0 7 (dk_at dksX0_orders_1 19 rfl rfl)
theorem dX0_orders_44 : decode cX0_orders 44 = .ok (.aload_n 2, 1) := dk_44 (dk_at dksX0_orders_1 22 rfl rfl)
theorem dX0_orders_45 : decode cX0_orders 45 = .ok (.invokevirtual 193, 3) := dk_182 0 193 (dk_at dksX0_orders_2 0 rfl rfl)
theorem dX0_orders_48 : decode cX0_orders 48 = .ok (.iload_n 3, 1) := dk_29 (dk_at dksX0_orders_2 3 rfl rfl)
theorem dX0_orders_49 : decode cX0_orders 49 = .ok (.ireturn, 1) := dk_172 (dk_at dksX0_orders_2 4 rfl rfl)
abbrev cX0_days : ByteArray := prog_1_method_20_code
def yX0_days : MethodName := ⟨RX0, "days", "(I)I"⟩
def dkwX0_days_1 : List UInt8 := [2, 172]
abbrev dktX0_days_1 : List UInt8 := dkwX0_days_1 ++ []
def dkwX0_days_0 : List UInt8 := [27, 4, 16, 30, 184, 0, 156, 153, 0, 17, 42, 180, 0, 82, 27, 182, 0, 195, 180, 0, 199, 167, 0, 4]
abbrev dktX0_days_0 : List UInt8 := dkwX0_days_0 ++ dktX0_days_1
theorem dksX0_days_0 : cX0_days.data.toList.drop 0 = dktX0_days_0 := by decide +kernel
theorem dksX0_days_1 : cX0_days.data.toList.drop 24 = dktX0_days_1 := dk_seg dksX0_days_0 24 rfl rfl
theorem dX0_days_0 : decode cX0_days 0 = .ok (.iload_n 1, 1) := dk_27 (dk_at dksX0_days_0 0 rfl rfl)
theorem dX0_days_1 : decode cX0_days 1 = .ok (.iconst 1, 1) := dk_4 (dk_at dksX0_days_0 1 rfl rfl)
theorem dX0_days_2 : decode cX0_days 2 = .ok (.bipush 30, 2) := dk_16 30 (dk_at dksX0_days_0 2 rfl rfl)
theorem dX0_days_4 : decode cX0_days 4 = .ok (.invokestatic 156, 3) := dk_184 0 156 (dk_at dksX0_days_0 4 rfl rfl)
theorem dX0_days_7 : decode cX0_days 7 = .ok (.ifCond .eq 17, 3) := dk_153 0 17 (dk_at dksX0_days_0 7 rfl rfl)
theorem dX0_days_10 : decode cX0_days 10 = .ok (.aload_n 0, 1) := dk_42 (dk_at dksX0_days_0 10 rfl rfl)
theorem dX0_days_11 : decode cX0_days 11 = .ok (.getfield 82, 3) := dk_180 0 82 (dk_at dksX0_days_0 11 rfl rfl)
theorem dX0_days_14 : decode cX0_days 14 = .ok (.iload_n 1, 1) := dk_27 (dk_at dksX0_days_0 14 rfl rfl)
theorem dX0_days_15 : decode cX0_days 15 = .ok (.invokevirtual 195, 3) := dk_182 0 195 (dk_at dksX0_days_0 15 rfl rfl)
theorem dX0_days_18 : decode cX0_days 18 = .ok (.getfield 199, 3) := dk_180 0 199 (dk_at dksX0_days_0 18 rfl rfl)
theorem dX0_days_21 : decode cX0_days 21 = .ok (.goto 4, 3) := dk_167 0 4 (dk_at dksX0_days_0 21 rfl rfl)
theorem dX0_days_24 : decode cX0_days 24 = .ok (.iconst (-1), 1) := dk_2 (dk_at dksX0_days_1 0 rfl rfl)
theorem dX0_days_25 : decode cX0_days 25 = .ok (.ireturn, 1) := dk_172 (dk_at dksX0_days_1 1 rfl rfl)
abbrev cX0_tells : ByteArray := prog_1_method_10_code
def yX0_tells : MethodName := ⟨RX0, "tells", "(II)I"⟩
def dkwX0_tells_0 : List UInt8 := [42, 180, 0, 48, 27, 42, 180, 0, 52, 182, 0, 56, 28, 184, 0, 62, 172]
abbrev dktX0_tells_0 : List UInt8 := dkwX0_tells_0 ++ []
theorem dksX0_tells_0 : cX0_tells.data.toList.drop 0 = dktX0_tells_0 := by decide +kernel
theorem dX0_tells_0 : decode cX0_tells 0 = .ok (.aload_n 0, 1) := dk_42 (dk_at dksX0_tells_0 0 rfl rfl)
theorem dX0_tells_1 : decode cX0_tells 1 = .ok (.getfield 48, 3) := dk_180 0 48 (dk_at dksX0_tells_0 1 rfl rfl)
theorem dX0_tells_4 : decode cX0_tells 4 = .ok (.iload_n 1, 1) := dk_27 (dk_at dksX0_tells_0 4 rfl rfl)
theorem dX0_tells_5 : decode cX0_tells 5 = .ok (.aload_n 0, 1) := dk_42 (dk_at dksX0_tells_0 5 rfl rfl)
theorem dX0_tells_6 : decode cX0_tells 6 = .ok (.getfield 52, 3) := dk_180 0 52 (dk_at dksX0_tells_0 6 rfl rfl)
theorem dX0_tells_9 : decode cX0_tells 9 = .ok (.invokevirtual 56, 3) := dk_182 0 56 (dk_at dksX0_tells_0 9 rfl rfl)
theorem dX0_tells_12 : decode cX0_tells 12 = .ok (.iload_n 2, 1) := dk_28 (dk_at dksX0_tells_0 12 rfl rfl)
theorem dX0_tells_13 : decode cX0_tells 13 = .ok (.invokestatic 62, 3) := dk_184 0 62 (dk_at dksX0_tells_0 13 rfl rfl)
theorem dX0_tells_16 : decode cX0_tells 16 = .ok (.ireturn, 1) := dk_172 (dk_at dksX0_tells_0 16 rfl rfl)
abbrev cX0_held : ByteArray := prog_1_method_4_code
def yX0_held : MethodName := ⟨RX0, "held", "(II)I"⟩
def dkwX0_held_0 : List UInt8 := [3, 27, 26, 184, 0, 1, 184, 0, 7, 172]
abbrev dktX0_held_0 : List UInt8 := dkwX0_held_0 ++ []
theorem dksX0_held_0 : cX0_held.data.toList.drop 0 = dktX0_held_0 := by decide +kernel
theorem dX0_held_0 : decode cX0_held 0 = .ok (.iconst 0, 1) := dk_3 (dk_at dksX0_held_0 0 rfl rfl)
theorem dX0_held_1 : decode cX0_held 1 = .ok (.iload_n 1, 1) := dk_27 (dk_at dksX0_held_0 1 rfl rfl)
theorem dX0_held_2 : decode cX0_held 2 = .ok (.iload_n 0, 1) := dk_26 (dk_at dksX0_held_0 2 rfl rfl)
theorem dX0_held_3 : decode cX0_held 3 = .ok (.invokestatic 1, 3) := dk_184 0 1 (dk_at dksX0_held_0 3 rfl rfl)
theorem dX0_held_6 : decode cX0_held 6 = .ok (.invokestatic 7, 3) := dk_184 0 7 (dk_at dksX0_held_0 6 rfl rfl)
theorem dX0_held_9 : decode cX0_held 9 = .ok (.ireturn, 1) := dk_172 (dk_at dksX0_held_0 9 rfl rfl)
abbrev cX0_tried : ByteArray := prog_1_method_21_code
def yX0_tried : MethodName := ⟨RX0, "tried", "(II)I"⟩
def dkwX0_tried_6 : List UInt8 := [167, 0, 19, 42, 180, 0, 86, 180, 0, 128, 28, 17, 0, 200, 100, 50, 180, 0, 150, 172]
abbrev dktX0_tried_6 : List UInt8 := dkwX0_tried_6 ++ []
def dkwX0_tried_5 : List UInt8 := [28, 17, 0, 200, 162, 0, 21, 42, 180, 0, 86, 180, 0, 128, 28, 16, 100, 100, 50, 180, 0, 153]
abbrev dktX0_tried_5 : List UInt8 := dkwX0_tried_5 ++ dktX0_tried_6
def dkwX0_tried_4 : List UInt8 := [42, 180, 0, 86, 180, 0, 199, 172, 42, 180, 0, 86, 180, 0, 208, 172, 42, 180, 0, 86, 180, 0, 211, 172]
abbrev dktX0_tried_4 : List UInt8 := dkwX0_tried_4 ++ dktX0_tried_5
def dkwX0_tried_3 : List UInt8 := [170, 0, 0, 0, 0, 0, 0, 52, 0, 0, 0, 0, 0, 0, 0, 2, 0, 0, 0, 28, 0, 0, 0, 36, 0, 0, 0, 44]
abbrev dktX0_tried_3 : List UInt8 := dkwX0_tried_3 ++ dktX0_tried_4
def dkwX0_tried_2 : List UInt8 := [42, 180, 0, 82, 182, 0, 204, 27, 182, 0, 195, 87, 28]
abbrev dktX0_tried_2 : List UInt8 := dkwX0_tried_2 ++ dktX0_tried_3
def dkwX0_tried_1 : List UInt8 := [182, 0, 202, 154, 0, 17, 42, 28, 17, 0, 200, 100, 182, 0, 202, 154, 0, 5, 2, 172, 42, 180, 0, 86]
abbrev dktX0_tried_1 : List UInt8 := dkwX0_tried_1 ++ dktX0_tried_2
def dkwX0_tried_0 : List UInt8 := [27, 4, 16, 30, 184, 0, 156, 153, 0, 34, 28, 6, 184, 0, 16, 154, 0, 28, 42, 28, 16, 100, 100]
abbrev dktX0_tried_0 : List UInt8 := dkwX0_tried_0 ++ dktX0_tried_1
theorem dksX0_tried_0 : cX0_tried.data.toList.drop 0 = dktX0_tried_0 := by decide +kernel
theorem dksX0_tried_1 : cX0_tried.data.toList.drop 23 = dktX0_tried_1 := dk_seg dksX0_tried_0 23 rfl rfl
theorem dksX0_tried_2 : cX0_tried.data.toList.drop 47 = dktX0_tried_2 := dk_seg dksX0_tried_1 24 rfl rfl
theorem dksX0_tried_3 : cX0_tried.data.toList.drop 60 = dktX0_tried_3 := dk_seg dksX0_tried_2 13 rfl rfl
theorem dksX0_tried_4 : cX0_tried.data.toList.drop 88 = dktX0_tried_4 := dk_seg dksX0_tried_3 28 rfl rfl
theorem dksX0_tried_5 : cX0_tried.data.toList.drop 112 = dktX0_tried_5 := dk_seg dksX0_tried_4 24 rfl rfl
theorem dksX0_tried_6 : cX0_tried.data.toList.drop 134 = dktX0_tried_6 := dk_seg dksX0_tried_5 22 rfl rfl
theorem dX0_tried_0 : decode cX0_tried 0 = .ok (.iload_n 1, 1) := dk_27 (dk_at dksX0_tried_0 0 rfl rfl)
theorem dX0_tried_1 : decode cX0_tried 1 = .ok (.iconst 1, 1) := dk_4 (dk_at dksX0_tried_0 1 rfl rfl)
theorem dX0_tried_2 : decode cX0_tried 2 = .ok (.bipush 30, 2) := dk_16 30 (dk_at dksX0_tried_0 2 rfl rfl)
theorem dX0_tried_4 : decode cX0_tried 4 = .ok (.invokestatic 156, 3) := dk_184 0 156 (dk_at dksX0_tried_0 4 rfl rfl)
theorem dX0_tried_7 : decode cX0_tried 7 = .ok (.ifCond .eq 34, 3) := dk_153 0 34 (dk_at dksX0_tried_0 7 rfl rfl)
theorem dX0_tried_10 : decode cX0_tried 10 = .ok (.iload_n 2, 1) := dk_28 (dk_at dksX0_tried_0 10 rfl rfl)
theorem dX0_tried_11 : decode cX0_tried 11 = .ok (.iconst 3, 1) := dk_6 (dk_at dksX0_tried_0 11 rfl rfl)
theorem dX0_tried_12 : decode cX0_tried 12 = .ok (.invokestatic 16, 3) := dk_184 0 16 (dk_at dksX0_tried_0 12 rfl rfl)
theorem dX0_tried_15 : decode cX0_tried 15 = .ok (.ifCond .ne 28, 3) := dk_154 0 28 (dk_at dksX0_tried_0 15 rfl rfl)
theorem dX0_tried_18 : decode cX0_tried 18 = .ok (.aload_n 0, 1) := dk_42 (dk_at dksX0_tried_0 18 rfl rfl)
theorem dX0_tried_19 : decode cX0_tried 19 = .ok (.iload_n 2, 1) := dk_28 (dk_at dksX0_tried_0 19 rfl rfl)
theorem dX0_tried_20 : decode cX0_tried 20 = .ok (.bipush 100, 2) := dk_16 100 (dk_at dksX0_tried_0 20 rfl rfl)
theorem dX0_tried_22 : decode cX0_tried 22 = .ok (.isub, 1) := dk_100 (dk_at dksX0_tried_0 22 rfl rfl)
theorem dX0_tried_23 : decode cX0_tried 23 = .ok (.invokevirtual 202, 3) := dk_182 0 202 (dk_at dksX0_tried_1 0 rfl rfl)
theorem dX0_tried_26 : decode cX0_tried 26 = .ok (.ifCond .ne 17, 3) := dk_154 0 17 (dk_at dksX0_tried_1 3 rfl rfl)
theorem dX0_tried_29 : decode cX0_tried 29 = .ok (.aload_n 0, 1) := dk_42 (dk_at dksX0_tried_1 6 rfl rfl)
theorem dX0_tried_30 : decode cX0_tried 30 = .ok (.iload_n 2, 1) := dk_28 (dk_at dksX0_tried_1 7 rfl rfl)
theorem dX0_tried_31 : decode cX0_tried 31 = .ok (.sipush 200, 3) := dk_17 0 200 (dk_at dksX0_tried_1 8 rfl rfl)
theorem dX0_tried_34 : decode cX0_tried 34 = .ok (.isub, 1) := dk_100 (dk_at dksX0_tried_1 11 rfl rfl)
theorem dX0_tried_35 : decode cX0_tried 35 = .ok (.invokevirtual 202, 3) := dk_182 0 202 (dk_at dksX0_tried_1 12 rfl rfl)
theorem dX0_tried_38 : decode cX0_tried 38 = .ok (.ifCond .ne 5, 3) := dk_154 0 5 (dk_at dksX0_tried_1 15 rfl rfl)
theorem dX0_tried_41 : decode cX0_tried 41 = .ok (.iconst (-1), 1) := dk_2 (dk_at dksX0_tried_1 18 rfl rfl)
theorem dX0_tried_42 : decode cX0_tried 42 = .ok (.ireturn, 1) := dk_172 (dk_at dksX0_tried_1 19 rfl rfl)
theorem dX0_tried_43 : decode cX0_tried 43 = .ok (.aload_n 0, 1) := dk_42 (dk_at dksX0_tried_1 20 rfl rfl)
theorem dX0_tried_44 : decode cX0_tried 44 = .ok (.getfield 86, 3) := dk_180 0 86 (dk_at dksX0_tried_1 21 rfl rfl)
theorem dX0_tried_47 : decode cX0_tried 47 = .ok (.aload_n 0, 1) := dk_42 (dk_at dksX0_tried_2 0 rfl rfl)
theorem dX0_tried_48 : decode cX0_tried 48 = .ok (.getfield 82, 3) := dk_180 0 82 (dk_at dksX0_tried_2 1 rfl rfl)
theorem dX0_tried_51 : decode cX0_tried 51 = .ok (.invokevirtual 204, 3) := dk_182 0 204 (dk_at dksX0_tried_2 4 rfl rfl)
theorem dX0_tried_54 : decode cX0_tried 54 = .ok (.iload_n 1, 1) := dk_27 (dk_at dksX0_tried_2 7 rfl rfl)
theorem dX0_tried_55 : decode cX0_tried 55 = .ok (.invokevirtual 195, 3) := dk_182 0 195 (dk_at dksX0_tried_2 8 rfl rfl)
theorem dX0_tried_58 : decode cX0_tried 58 = .ok (.pop, 1) := dk_87 (dk_at dksX0_tried_2 11 rfl rfl)
theorem dX0_tried_59 : decode cX0_tried 59 = .ok (.iload_n 2, 1) := dk_28 (dk_at dksX0_tried_2 12 rfl rfl)
theorem dX0_tried_60 : decode cX0_tried 60 = .ok (.tableswitch 52 0 2 #[28, 36, 44], 28) := by decide +kernel
theorem dX0_tried_88 : decode cX0_tried 88 = .ok (.aload_n 0, 1) := dk_42 (dk_at dksX0_tried_4 0 rfl rfl)
theorem dX0_tried_89 : decode cX0_tried 89 = .ok (.getfield 86, 3) := dk_180 0 86 (dk_at dksX0_tried_4 1 rfl rfl)
theorem dX0_tried_92 : decode cX0_tried 92 = .ok (.getfield 199, 3) := dk_180 0 199 (dk_at dksX0_tried_4 4 rfl rfl)
theorem dX0_tried_95 : decode cX0_tried 95 = .ok (.ireturn, 1) := dk_172 (dk_at dksX0_tried_4 7 rfl rfl)
theorem dX0_tried_96 : decode cX0_tried 96 = .ok (.aload_n 0, 1) := dk_42 (dk_at dksX0_tried_4 8 rfl rfl)
theorem dX0_tried_97 : decode cX0_tried 97 = .ok (.getfield 86, 3) := dk_180 0 86 (dk_at dksX0_tried_4 9 rfl rfl)
theorem dX0_tried_100 : decode cX0_tried 100 = .ok (.getfield 208, 3) := dk_180 0 208 (dk_at dksX0_tried_4 12 rfl rfl)
theorem dX0_tried_103 : decode cX0_tried 103 = .ok (.ireturn, 1) := dk_172 (dk_at dksX0_tried_4 15 rfl rfl)
theorem dX0_tried_104 : decode cX0_tried 104 = .ok (.aload_n 0, 1) := dk_42 (dk_at dksX0_tried_4 16 rfl rfl)
theorem dX0_tried_105 : decode cX0_tried 105 = .ok (.getfield 86, 3) := dk_180 0 86 (dk_at dksX0_tried_4 17 rfl rfl)
theorem dX0_tried_108 : decode cX0_tried 108 = .ok (.getfield 211, 3) := dk_180 0 211 (dk_at dksX0_tried_4 20 rfl rfl)
theorem dX0_tried_111 : decode cX0_tried 111 = .ok (.ireturn, 1) := dk_172 (dk_at dksX0_tried_4 23 rfl rfl)
theorem dX0_tried_112 : decode cX0_tried 112 = .ok (.iload_n 2, 1) := dk_28 (dk_at dksX0_tried_5 0 rfl rfl)
theorem dX0_tried_113 : decode cX0_tried 113 = .ok (.sipush 200, 3) := dk_17 0 200 (dk_at dksX0_tried_5 1 rfl rfl)
theorem dX0_tried_116 : decode cX0_tried 116 = .ok (.if_icmp .ge 21, 3) := dk_162 0 21 (dk_at dksX0_tried_5 4 rfl rfl)
theorem dX0_tried_119 : decode cX0_tried 119 = .ok (.aload_n 0, 1) := dk_42 (dk_at dksX0_tried_5 7 rfl rfl)
theorem dX0_tried_120 : decode cX0_tried 120 = .ok (.getfield 86, 3) := dk_180 0 86 (dk_at dksX0_tried_5 8 rfl rfl)
theorem dX0_tried_123 : decode cX0_tried 123 = .ok (.getfield 128, 3) := dk_180 0 128 (dk_at dksX0_tried_5 11 rfl rfl)
theorem dX0_tried_126 : decode cX0_tried 126 = .ok (.iload_n 2, 1) := dk_28 (dk_at dksX0_tried_5 14 rfl rfl)
theorem dX0_tried_127 : decode cX0_tried 127 = .ok (.bipush 100, 2) := dk_16 100 (dk_at dksX0_tried_5 15 rfl rfl)
theorem dX0_tried_129 : decode cX0_tried 129 = .ok (.isub, 1) := dk_100 (dk_at dksX0_tried_5 17 rfl rfl)
theorem dX0_tried_130 : decode cX0_tried 130 = .ok (.aaload, 1) := dk_50 (dk_at dksX0_tried_5 18 rfl rfl)
theorem dX0_tried_131 : decode cX0_tried 131 = .ok (.getfield 153, 3) := dk_180 0 153 (dk_at dksX0_tried_5 19 rfl rfl)
theorem dX0_tried_134 : decode cX0_tried 134 = .ok (.goto 19, 3) := dk_167 0 19 (dk_at dksX0_tried_6 0 rfl rfl)
theorem dX0_tried_137 : decode cX0_tried 137 = .ok (.aload_n 0, 1) := dk_42 (dk_at dksX0_tried_6 3 rfl rfl)
theorem dX0_tried_138 : decode cX0_tried 138 = .ok (.getfield 86, 3) := dk_180 0 86 (dk_at dksX0_tried_6 4 rfl rfl)
theorem dX0_tried_141 : decode cX0_tried 141 = .ok (.getfield 128, 3) := dk_180 0 128 (dk_at dksX0_tried_6 7 rfl rfl)
theorem dX0_tried_144 : decode cX0_tried 144 = .ok (.iload_n 2, 1) := dk_28 (dk_at dksX0_tried_6 10 rfl rfl)
theorem dX0_tried_145 : decode cX0_tried 145 = .ok (.sipush 200, 3) := dk_17 0 200 (dk_at dksX0_tried_6 11 rfl rfl)
theorem dX0_tried_148 : decode cX0_tried 148 = .ok (.isub, 1) := dk_100 (dk_at dksX0_tried_6 14 rfl rfl)
theorem dX0_tried_149 : decode cX0_tried 149 = .ok (.aaload, 1) := dk_50 (dk_at dksX0_tried_6 15 rfl rfl)
theorem dX0_tried_150 : decode cX0_tried 150 = .ok (.getfield 150, 3) := dk_180 0 150 (dk_at dksX0_tried_6 16 rfl rfl)
theorem dX0_tried_153 : decode cX0_tried 153 = .ok (.ireturn, 1) := dk_172 (dk_at dksX0_tried_6 19 rfl rfl)
abbrev cX0_isTold : ByteArray := prog_1_method_12_code
def yX0_isTold : MethodName := ⟨RX0, "isTold", "(I)Z"⟩
def dkwX0_isTold_1 : List UInt8 := [4, 167, 0, 4, 3, 172]
abbrev dktX0_isTold_1 : List UInt8 := dkwX0_isTold_1 ++ []
def dkwX0_isTold_0 : List UInt8 := [27, 16, 12, 184, 0, 16, 153, 0, 22, 42, 180, 0, 82, 180, 0, 128, 27, 50, 180, 0, 132, 153, 0, 7]
abbrev dktX0_isTold_0 : List UInt8 := dkwX0_isTold_0 ++ dktX0_isTold_1
theorem dksX0_isTold_0 : cX0_isTold.data.toList.drop 0 = dktX0_isTold_0 := by decide +kernel
theorem dksX0_isTold_1 : cX0_isTold.data.toList.drop 24 = dktX0_isTold_1 := dk_seg dksX0_isTold_0 24 rfl rfl
theorem dX0_isTold_0 : decode cX0_isTold 0 = .ok (.iload_n 1, 1) := dk_27 (dk_at dksX0_isTold_0 0 rfl rfl)
theorem dX0_isTold_1 : decode cX0_isTold 1 = .ok (.bipush 12, 2) := dk_16 12 (dk_at dksX0_isTold_0 1 rfl rfl)
theorem dX0_isTold_3 : decode cX0_isTold 3 = .ok (.invokestatic 16, 3) := dk_184 0 16 (dk_at dksX0_isTold_0 3 rfl rfl)
theorem dX0_isTold_6 : decode cX0_isTold 6 = .ok (.ifCond .eq 22, 3) := dk_153 0 22 (dk_at dksX0_isTold_0 6 rfl rfl)
theorem dX0_isTold_9 : decode cX0_isTold 9 = .ok (.aload_n 0, 1) := dk_42 (dk_at dksX0_isTold_0 9 rfl rfl)
theorem dX0_isTold_10 : decode cX0_isTold 10 = .ok (.getfield 82, 3) := dk_180 0 82 (dk_at dksX0_isTold_0 10 rfl rfl)
theorem dX0_isTold_13 : decode cX0_isTold 13 = .ok (.getfield 128, 3) := dk_180 0 128 (dk_at dksX0_isTold_0 13 rfl rfl)
theorem dX0_isTold_16 : decode cX0_isTold 16 = .ok (.iload_n 1, 1) := dk_27 (dk_at dksX0_isTold_0 16 rfl rfl)
theorem dX0_isTold_17 : decode cX0_isTold 17 = .ok (.aaload, 1) := dk_50 (dk_at dksX0_isTold_0 17 rfl rfl)
theorem dX0_isTold_18 : decode cX0_isTold 18 = .ok (.getfield 132, 3) := dk_180 0 132 (dk_at dksX0_isTold_0 18 rfl rfl)
theorem dX0_isTold_21 : decode cX0_isTold 21 = .ok (.ifCond .eq 7, 3) := dk_153 0 7 (dk_at dksX0_isTold_0 21 rfl rfl)
theorem dX0_isTold_24 : decode cX0_isTold 24 = .ok (.iconst 1, 1) := dk_4 (dk_at dksX0_isTold_1 0 rfl rfl)
theorem dX0_isTold_25 : decode cX0_isTold 25 = .ok (.goto 4, 3) := dk_167 0 4 (dk_at dksX0_isTold_1 1 rfl rfl)
theorem dX0_isTold_28 : decode cX0_isTold 28 = .ok (.iconst 0, 1) := dk_3 (dk_at dksX0_isTold_1 4 rfl rfl)
theorem dX0_isTold_29 : decode cX0_isTold 29 = .ok (.ireturn, 1) := dk_172 (dk_at dksX0_isTold_1 5 rfl rfl)
abbrev cX0_personIs : ByteArray := prog_1_method_22_code
def yX0_personIs : MethodName := ⟨RX0, "personIs", "(II)I"⟩
def dkwX0_personIs_3 : List UInt8 := [172, 2, 172]
abbrev dktX0_personIs_3 : List UInt8 := dkwX0_personIs_3 ++ []
def dkwX0_personIs_2 : List UInt8 := [45, 180, 0, 141, 172, 45, 180, 0, 144, 172, 45, 180, 0, 147, 172, 45, 180, 0, 150, 172, 45, 180, 0, 153]
abbrev dktX0_personIs_2 : List UInt8 := dkwX0_personIs_2 ++ dktX0_personIs_3
def dkwX0_personIs_1 : List UInt8 := [170, 0, 0, 0, 0, 0, 60, 0, 0, 0, 0, 0, 0, 0, 4, 0, 0, 0, 35, 0, 0, 0, 40, 0, 0, 0, 45, 0, 0, 0, 50, 0, 0, 0, 55]
abbrev dktX0_personIs_1 : List UInt8 := dkwX0_personIs_1 ++ dktX0_personIs_2
def dkwX0_personIs_0 : List UInt8 := [42, 27, 182, 0, 202, 154, 0, 5, 2, 172, 42, 180, 0, 82, 180, 0, 128, 27, 50, 78, 28]
abbrev dktX0_personIs_0 : List UInt8 := dkwX0_personIs_0 ++ dktX0_personIs_1
theorem dksX0_personIs_0 : cX0_personIs.data.toList.drop 0 = dktX0_personIs_0 := by decide +kernel
theorem dksX0_personIs_1 : cX0_personIs.data.toList.drop 21 = dktX0_personIs_1 := dk_seg dksX0_personIs_0 21 rfl rfl
theorem dksX0_personIs_2 : cX0_personIs.data.toList.drop 56 = dktX0_personIs_2 := dk_seg dksX0_personIs_1 35 rfl rfl
theorem dksX0_personIs_3 : cX0_personIs.data.toList.drop 80 = dktX0_personIs_3 := dk_seg dksX0_personIs_2 24 rfl rfl
theorem dX0_personIs_0 : decode cX0_personIs 0 = .ok (.aload_n 0, 1) := dk_42 (dk_at dksX0_personIs_0 0 rfl rfl)
theorem dX0_personIs_1 : decode cX0_personIs 1 = .ok (.iload_n 1, 1) := dk_27 (dk_at dksX0_personIs_0 1 rfl rfl)
theorem dX0_personIs_2 : decode cX0_personIs 2 = .ok (.invokevirtual 202, 3) := dk_182 0 202 (dk_at dksX0_personIs_0 2 rfl rfl)
theorem dX0_personIs_5 : decode cX0_personIs 5 = .ok (.ifCond .ne 5, 3) := dk_154 0 5 (dk_at dksX0_personIs_0 5 rfl rfl)
theorem dX0_personIs_8 : decode cX0_personIs 8 = .ok (.iconst (-1), 1) := dk_2 (dk_at dksX0_personIs_0 8 rfl rfl)
theorem dX0_personIs_9 : decode cX0_personIs 9 = .ok (.ireturn, 1) := dk_172 (dk_at dksX0_personIs_0 9 rfl rfl)
theorem dX0_personIs_10 : decode cX0_personIs 10 = .ok (.aload_n 0, 1) := dk_42 (dk_at dksX0_personIs_0 10 rfl rfl)
theorem dX0_personIs_11 : decode cX0_personIs 11 = .ok (.getfield 82, 3) := dk_180 0 82 (dk_at dksX0_personIs_0 11 rfl rfl)
theorem dX0_personIs_14 : decode cX0_personIs 14 = .ok (.getfield 128, 3) := dk_180 0 128 (dk_at dksX0_personIs_0 14 rfl rfl)
theorem dX0_personIs_17 : decode cX0_personIs 17 = .ok (.iload_n 1, 1) := dk_27 (dk_at dksX0_personIs_0 17 rfl rfl)
theorem dX0_personIs_18 : decode cX0_personIs 18 = .ok (.aaload, 1) := dk_50 (dk_at dksX0_personIs_0 18 rfl rfl)
theorem dX0_personIs_19 : decode cX0_personIs 19 = .ok (.astore_n 3, 1) := dk_78 (dk_at dksX0_personIs_0 19 rfl rfl)
theorem dX0_personIs_20 : decode cX0_personIs 20 = .ok (.iload_n 2, 1) := dk_28 (dk_at dksX0_personIs_0 20 rfl rfl)
theorem dX0_personIs_21 : decode cX0_personIs 21 = .ok (.tableswitch 60 0 4 #[35, 40, 45, 50, 55], 35) := by decide +kernel
theorem dX0_personIs_56 : decode cX0_personIs 56 = .ok (.aload_n 3, 1) := dk_45 (dk_at dksX0_personIs_2 0 rfl rfl)
theorem dX0_personIs_57 : decode cX0_personIs 57 = .ok (.getfield 141, 3) := dk_180 0 141 (dk_at dksX0_personIs_2 1 rfl rfl)
theorem dX0_personIs_60 : decode cX0_personIs 60 = .ok (.ireturn, 1) := dk_172 (dk_at dksX0_personIs_2 4 rfl rfl)
theorem dX0_personIs_61 : decode cX0_personIs 61 = .ok (.aload_n 3, 1) := dk_45 (dk_at dksX0_personIs_2 5 rfl rfl)
theorem dX0_personIs_62 : decode cX0_personIs 62 = .ok (.getfield 144, 3) := dk_180 0 144 (dk_at dksX0_personIs_2 6 rfl rfl)
theorem dX0_personIs_65 : decode cX0_personIs 65 = .ok (.ireturn, 1) := dk_172 (dk_at dksX0_personIs_2 9 rfl rfl)
theorem dX0_personIs_66 : decode cX0_personIs 66 = .ok (.aload_n 3, 1) := dk_45 (dk_at dksX0_personIs_2 10 rfl rfl)
theorem dX0_personIs_67 : decode cX0_personIs 67 = .ok (.getfield 147, 3) := dk_180 0 147 (dk_at dksX0_personIs_2 11 rfl rfl)
theorem dX0_personIs_70 : decode cX0_personIs 70 = .ok (.ireturn, 1) := dk_172 (dk_at dksX0_personIs_2 14 rfl rfl)
theorem dX0_personIs_71 : decode cX0_personIs 71 = .ok (.aload_n 3, 1) := dk_45 (dk_at dksX0_personIs_2 15 rfl rfl)
theorem dX0_personIs_72 : decode cX0_personIs 72 = .ok (.getfield 150, 3) := dk_180 0 150 (dk_at dksX0_personIs_2 16 rfl rfl)
theorem dX0_personIs_75 : decode cX0_personIs 75 = .ok (.ireturn, 1) := dk_172 (dk_at dksX0_personIs_2 19 rfl rfl)
theorem dX0_personIs_76 : decode cX0_personIs 76 = .ok (.aload_n 3, 1) := dk_45 (dk_at dksX0_personIs_2 20 rfl rfl)
theorem dX0_personIs_77 : decode cX0_personIs 77 = .ok (.getfield 153, 3) := dk_180 0 153 (dk_at dksX0_personIs_2 21 rfl rfl)
theorem dX0_personIs_80 : decode cX0_personIs 80 = .ok (.ireturn, 1) := dk_172 (dk_at dksX0_personIs_3 0 rfl rfl)
theorem dX0_personIs_81 : decode cX0_personIs 81 = .ok (.iconst (-1), 1) := dk_2 (dk_at dksX0_personIs_3 1 rfl rfl)
theorem dX0_personIs_82 : decode cX0_personIs 82 = .ok (.ireturn, 1) := dk_172 (dk_at dksX0_personIs_3 2 rfl rfl)
abbrev cX0_trainIs : ByteArray := prog_1_method_23_code
def yX0_trainIs : MethodName := ⟨RX0, "trainIs", "(II)I"⟩
def dkwX0_trainIs_3 : List UInt8 := [182, 0, 223, 172, 45, 182, 0, 226, 172, 45, 180, 0, 32, 3, 46, 172, 45, 182, 0, 229, 172, 2, 172]
abbrev dktX0_trainIs_3 : List UInt8 := dkwX0_trainIs_3 ++ []
def dkwX0_trainIs_2 : List UInt8 := [45, 180, 0, 43, 172, 45, 180, 0, 217, 153, 0, 7, 4, 167, 0, 4, 3, 172, 45, 180, 0, 220, 172, 45]
abbrev dktX0_trainIs_2 : List UInt8 := dkwX0_trainIs_2 ++ dktX0_trainIs_3
def dkwX0_trainIs_1 : List UInt8 := [170, 0, 0, 0, 0, 87, 0, 0, 0, 0, 0, 0, 0, 6, 0, 0, 0, 42, 0, 0, 0, 47, 0, 0, 0, 60, 0, 0, 0, 65, 0, 0, 0, 70, 0, 0, 0, 75, 0, 0, 0, 82]
abbrev dktX0_trainIs_1 : List UInt8 := dkwX0_trainIs_1 ++ dktX0_trainIs_2
def dkwX0_trainIs_0 : List UInt8 := [42, 27, 182, 0, 214, 154, 0, 5, 2, 172, 42, 180, 0, 24, 27, 50, 78, 28]
abbrev dktX0_trainIs_0 : List UInt8 := dkwX0_trainIs_0 ++ dktX0_trainIs_1
theorem dksX0_trainIs_0 : cX0_trainIs.data.toList.drop 0 = dktX0_trainIs_0 := by decide +kernel
theorem dksX0_trainIs_1 : cX0_trainIs.data.toList.drop 18 = dktX0_trainIs_1 := dk_seg dksX0_trainIs_0 18 rfl rfl
theorem dksX0_trainIs_2 : cX0_trainIs.data.toList.drop 60 = dktX0_trainIs_2 := dk_seg dksX0_trainIs_1 42 rfl rfl
theorem dksX0_trainIs_3 : cX0_trainIs.data.toList.drop 84 = dktX0_trainIs_3 := dk_seg dksX0_trainIs_2 24 rfl rfl
theorem dX0_trainIs_0 : decode cX0_trainIs 0 = .ok (.aload_n 0, 1) := dk_42 (dk_at dksX0_trainIs_0 0 rfl rfl)
theorem dX0_trainIs_1 : decode cX0_trainIs 1 = .ok (.iload_n 1, 1) := dk_27 (dk_at dksX0_trainIs_0 1 rfl rfl)
theorem dX0_trainIs_2 : decode cX0_trainIs 2 = .ok (.invokevirtual 214, 3) := dk_182 0 214 (dk_at dksX0_trainIs_0 2 rfl rfl)
theorem dX0_trainIs_5 : decode cX0_trainIs 5 = .ok (.ifCond .ne 5, 3) := dk_154 0 5 (dk_at dksX0_trainIs_0 5 rfl rfl)
theorem dX0_trainIs_8 : decode cX0_trainIs 8 = .ok (.iconst (-1), 1) := dk_2 (dk_at dksX0_trainIs_0 8 rfl rfl)
theorem dX0_trainIs_9 : decode cX0_trainIs 9 = .ok (.ireturn, 1) := dk_172 (dk_at dksX0_trainIs_0 9 rfl rfl)
theorem dX0_trainIs_10 : decode cX0_trainIs 10 = .ok (.aload_n 0, 1) := dk_42 (dk_at dksX0_trainIs_0 10 rfl rfl)
theorem dX0_trainIs_11 : decode cX0_trainIs 11 = .ok (.getfield 24, 3) := dk_180 0 24 (dk_at dksX0_trainIs_0 11 rfl rfl)
theorem dX0_trainIs_14 : decode cX0_trainIs 14 = .ok (.iload_n 1, 1) := dk_27 (dk_at dksX0_trainIs_0 14 rfl rfl)
theorem dX0_trainIs_15 : decode cX0_trainIs 15 = .ok (.aaload, 1) := dk_50 (dk_at dksX0_trainIs_0 15 rfl rfl)
theorem dX0_trainIs_16 : decode cX0_trainIs 16 = .ok (.astore_n 3, 1) := dk_78 (dk_at dksX0_trainIs_0 16 rfl rfl)
theorem dX0_trainIs_17 : decode cX0_trainIs 17 = .ok (.iload_n 2, 1) := dk_28 (dk_at dksX0_trainIs_0 17 rfl rfl)
theorem dX0_trainIs_18 : decode cX0_trainIs 18 = .ok (.tableswitch 87 0 6 #[42, 47, 60, 65, 70, 75, 82], 42) := by decide +kernel
theorem dX0_trainIs_60 : decode cX0_trainIs 60 = .ok (.aload_n 3, 1) := dk_45 (dk_at dksX0_trainIs_2 0 rfl rfl)
theorem dX0_trainIs_61 : decode cX0_trainIs 61 = .ok (.getfield 43, 3) := dk_180 0 43 (dk_at dksX0_trainIs_2 1 rfl rfl)
theorem dX0_trainIs_64 : decode cX0_trainIs 64 = .ok (.ireturn, 1) := dk_172 (dk_at dksX0_trainIs_2 4 rfl rfl)
theorem dX0_trainIs_65 : decode cX0_trainIs 65 = .ok (.aload_n 3, 1) := dk_45 (dk_at dksX0_trainIs_2 5 rfl rfl)
theorem dX0_trainIs_66 : decode cX0_trainIs 66 = .ok (.getfield 217, 3) := dk_180 0 217 (dk_at dksX0_trainIs_2 6 rfl rfl)
theorem dX0_trainIs_69 : decode cX0_trainIs 69 = .ok (.ifCond .eq 7, 3) := dk_153 0 7 (dk_at dksX0_trainIs_2 9 rfl rfl)
theorem dX0_trainIs_72 : decode cX0_trainIs 72 = .ok (.iconst 1, 1) := dk_4 (dk_at dksX0_trainIs_2 12 rfl rfl)
theorem dX0_trainIs_73 : decode cX0_trainIs 73 = .ok (.goto 4, 3) := dk_167 0 4 (dk_at dksX0_trainIs_2 13 rfl rfl)
theorem dX0_trainIs_76 : decode cX0_trainIs 76 = .ok (.iconst 0, 1) := dk_3 (dk_at dksX0_trainIs_2 16 rfl rfl)
theorem dX0_trainIs_77 : decode cX0_trainIs 77 = .ok (.ireturn, 1) := dk_172 (dk_at dksX0_trainIs_2 17 rfl rfl)
theorem dX0_trainIs_78 : decode cX0_trainIs 78 = .ok (.aload_n 3, 1) := dk_45 (dk_at dksX0_trainIs_2 18 rfl rfl)
theorem dX0_trainIs_79 : decode cX0_trainIs 79 = .ok (.getfield 220, 3) := dk_180 0 220 (dk_at dksX0_trainIs_2 19 rfl rfl)
theorem dX0_trainIs_82 : decode cX0_trainIs 82 = .ok (.ireturn, 1) := dk_172 (dk_at dksX0_trainIs_2 22 rfl rfl)
theorem dX0_trainIs_83 : decode cX0_trainIs 83 = .ok (.aload_n 3, 1) := dk_45 (dk_at dksX0_trainIs_2 23 rfl rfl)
theorem dX0_trainIs_84 : decode cX0_trainIs 84 = .ok (.invokevirtual 223, 3) := dk_182 0 223 (dk_at dksX0_trainIs_3 0 rfl rfl)
theorem dX0_trainIs_87 : decode cX0_trainIs 87 = .ok (.ireturn, 1) := dk_172 (dk_at dksX0_trainIs_3 3 rfl rfl)
theorem dX0_trainIs_88 : decode cX0_trainIs 88 = .ok (.aload_n 3, 1) := dk_45 (dk_at dksX0_trainIs_3 4 rfl rfl)
theorem dX0_trainIs_89 : decode cX0_trainIs 89 = .ok (.invokevirtual 226, 3) := dk_182 0 226 (dk_at dksX0_trainIs_3 5 rfl rfl)
theorem dX0_trainIs_92 : decode cX0_trainIs 92 = .ok (.ireturn, 1) := dk_172 (dk_at dksX0_trainIs_3 8 rfl rfl)
theorem dX0_trainIs_93 : decode cX0_trainIs 93 = .ok (.aload_n 3, 1) := dk_45 (dk_at dksX0_trainIs_3 9 rfl rfl)
theorem dX0_trainIs_94 : decode cX0_trainIs 94 = .ok (.getfield 32, 3) := dk_180 0 32 (dk_at dksX0_trainIs_3 10 rfl rfl)
theorem dX0_trainIs_97 : decode cX0_trainIs 97 = .ok (.iconst 0, 1) := dk_3 (dk_at dksX0_trainIs_3 13 rfl rfl)
theorem dX0_trainIs_98 : decode cX0_trainIs 98 = .ok (.iaload, 1) := dk_46 (dk_at dksX0_trainIs_3 14 rfl rfl)
theorem dX0_trainIs_99 : decode cX0_trainIs 99 = .ok (.ireturn, 1) := dk_172 (dk_at dksX0_trainIs_3 15 rfl rfl)
theorem dX0_trainIs_100 : decode cX0_trainIs 100 = .ok (.aload_n 3, 1) := dk_45 (dk_at dksX0_trainIs_3 16 rfl rfl)
theorem dX0_trainIs_101 : decode cX0_trainIs 101 = .ok (.invokevirtual 229, 3) := dk_182 0 229 (dk_at dksX0_trainIs_3 17 rfl rfl)
theorem dX0_trainIs_104 : decode cX0_trainIs 104 = .ok (.ireturn, 1) := dk_172 (dk_at dksX0_trainIs_3 20 rfl rfl)
theorem dX0_trainIs_105 : decode cX0_trainIs 105 = .ok (.iconst (-1), 1) := dk_2 (dk_at dksX0_trainIs_3 21 rfl rfl)
theorem dX0_trainIs_106 : decode cX0_trainIs 106 = .ok (.ireturn, 1) := dk_172 (dk_at dksX0_trainIs_3 22 rfl rfl)
abbrev cX0_stopIs : ByteArray := prog_1_method_24_code
def yX0_stopIs : MethodName := ⟨RX0, "stopIs", "(III)I"⟩
def dkwX0_stopIs_2 : List UInt8 := [180, 0, 232, 28, 46, 167, 0, 14, 42, 180, 0, 24, 27, 50, 180, 0, 32, 28, 46, 172]
abbrev dktX0_stopIs_2 : List UInt8 := dkwX0_stopIs_2 ++ []
def dkwX0_stopIs_1 : List UInt8 := [29, 5, 184, 0, 16, 154, 0, 7, 2, 167, 0, 32, 29, 154, 0, 17, 42, 180, 0, 24, 27, 50]
abbrev dktX0_stopIs_1 : List UInt8 := dkwX0_stopIs_1 ++ dktX0_stopIs_2
def dkwX0_stopIs_0 : List UInt8 := [42, 27, 182, 0, 214, 153, 0, 27, 28, 42, 180, 0, 24, 27, 50, 180, 0, 43, 184, 0, 16, 153, 0, 11]
abbrev dktX0_stopIs_0 : List UInt8 := dkwX0_stopIs_0 ++ dktX0_stopIs_1
theorem dksX0_stopIs_0 : cX0_stopIs.data.toList.drop 0 = dktX0_stopIs_0 := by decide +kernel
theorem dksX0_stopIs_1 : cX0_stopIs.data.toList.drop 24 = dktX0_stopIs_1 := dk_seg dksX0_stopIs_0 24 rfl rfl
theorem dksX0_stopIs_2 : cX0_stopIs.data.toList.drop 46 = dktX0_stopIs_2 := dk_seg dksX0_stopIs_1 22 rfl rfl
theorem dX0_stopIs_0 : decode cX0_stopIs 0 = .ok (.aload_n 0, 1) := dk_42 (dk_at dksX0_stopIs_0 0 rfl rfl)
theorem dX0_stopIs_1 : decode cX0_stopIs 1 = .ok (.iload_n 1, 1) := dk_27 (dk_at dksX0_stopIs_0 1 rfl rfl)
theorem dX0_stopIs_2 : decode cX0_stopIs 2 = .ok (.invokevirtual 214, 3) := dk_182 0 214 (dk_at dksX0_stopIs_0 2 rfl rfl)
theorem dX0_stopIs_5 : decode cX0_stopIs 5 = .ok (.ifCond .eq 27, 3) := dk_153 0 27 (dk_at dksX0_stopIs_0 5 rfl rfl)
theorem dX0_stopIs_8 : decode cX0_stopIs 8 = .ok (.iload_n 2, 1) := dk_28 (dk_at dksX0_stopIs_0 8 rfl rfl)
theorem dX0_stopIs_9 : decode cX0_stopIs 9 = .ok (.aload_n 0, 1) := dk_42 (dk_at dksX0_stopIs_0 9 rfl rfl)
theorem dX0_stopIs_10 : decode cX0_stopIs 10 = .ok (.getfield 24, 3) := dk_180 0 24 (dk_at dksX0_stopIs_0 10 rfl rfl)
theorem dX0_stopIs_13 : decode cX0_stopIs 13 = .ok (.iload_n 1, 1) := dk_27 (dk_at dksX0_stopIs_0 13 rfl rfl)
theorem dX0_stopIs_14 : decode cX0_stopIs 14 = .ok (.aaload, 1) := dk_50 (dk_at dksX0_stopIs_0 14 rfl rfl)
theorem dX0_stopIs_15 : decode cX0_stopIs 15 = .ok (.getfield 43, 3) := dk_180 0 43 (dk_at dksX0_stopIs_0 15 rfl rfl)
theorem dX0_stopIs_18 : decode cX0_stopIs 18 = .ok (.invokestatic 16, 3) := dk_184 0 16 (dk_at dksX0_stopIs_0 18 rfl rfl)
theorem dX0_stopIs_21 : decode cX0_stopIs 21 = .ok (.ifCond .eq 11, 3) := dk_153 0 11 (dk_at dksX0_stopIs_0 21 rfl rfl)
theorem dX0_stopIs_24 : decode cX0_stopIs 24 = .ok (.iload_n 3, 1) := dk_29 (dk_at dksX0_stopIs_1 0 rfl rfl)
theorem dX0_stopIs_25 : decode cX0_stopIs 25 = .ok (.iconst 2, 1) := dk_5 (dk_at dksX0_stopIs_1 1 rfl rfl)
theorem dX0_stopIs_26 : decode cX0_stopIs 26 = .ok (.invokestatic 16, 3) := dk_184 0 16 (dk_at dksX0_stopIs_1 2 rfl rfl)
theorem dX0_stopIs_29 : decode cX0_stopIs 29 = .ok (.ifCond .ne 7, 3) := dk_154 0 7 (dk_at dksX0_stopIs_1 5 rfl rfl)
theorem dX0_stopIs_32 : decode cX0_stopIs 32 = .ok (.iconst (-1), 1) := dk_2 (dk_at dksX0_stopIs_1 8 rfl rfl)
theorem dX0_stopIs_33 : decode cX0_stopIs 33 = .ok (.goto 32, 3) := dk_167 0 32 (dk_at dksX0_stopIs_1 9 rfl rfl)
theorem dX0_stopIs_36 : decode cX0_stopIs 36 = .ok (.iload_n 3, 1) := dk_29 (dk_at dksX0_stopIs_1 12 rfl rfl)
theorem dX0_stopIs_37 : decode cX0_stopIs 37 = .ok (.ifCond .ne 17, 3) := dk_154 0 17 (dk_at dksX0_stopIs_1 13 rfl rfl)
theorem dX0_stopIs_40 : decode cX0_stopIs 40 = .ok (.aload_n 0, 1) := dk_42 (dk_at dksX0_stopIs_1 16 rfl rfl)
theorem dX0_stopIs_41 : decode cX0_stopIs 41 = .ok (.getfield 24, 3) := dk_180 0 24 (dk_at dksX0_stopIs_1 17 rfl rfl)
theorem dX0_stopIs_44 : decode cX0_stopIs 44 = .ok (.iload_n 1, 1) := dk_27 (dk_at dksX0_stopIs_1 20 rfl rfl)
theorem dX0_stopIs_45 : decode cX0_stopIs 45 = .ok (.aaload, 1) := dk_50 (dk_at dksX0_stopIs_1 21 rfl rfl)
theorem dX0_stopIs_46 : decode cX0_stopIs 46 = .ok (.getfield 232, 3) := dk_180 0 232 (dk_at dksX0_stopIs_2 0 rfl rfl)
theorem dX0_stopIs_49 : decode cX0_stopIs 49 = .ok (.iload_n 2, 1) := dk_28 (dk_at dksX0_stopIs_2 3 rfl rfl)
theorem dX0_stopIs_50 : decode cX0_stopIs 50 = .ok (.iaload, 1) := dk_46 (dk_at dksX0_stopIs_2 4 rfl rfl)
theorem dX0_stopIs_51 : decode cX0_stopIs 51 = .ok (.goto 14, 3) := dk_167 0 14 (dk_at dksX0_stopIs_2 5 rfl rfl)
theorem dX0_stopIs_54 : decode cX0_stopIs 54 = .ok (.aload_n 0, 1) := dk_42 (dk_at dksX0_stopIs_2 8 rfl rfl)
theorem dX0_stopIs_55 : decode cX0_stopIs 55 = .ok (.getfield 24, 3) := dk_180 0 24 (dk_at dksX0_stopIs_2 9 rfl rfl)
theorem dX0_stopIs_58 : decode cX0_stopIs 58 = .ok (.iload_n 1, 1) := dk_27 (dk_at dksX0_stopIs_2 12 rfl rfl)
theorem dX0_stopIs_59 : decode cX0_stopIs 59 = .ok (.aaload, 1) := dk_50 (dk_at dksX0_stopIs_2 13 rfl rfl)
theorem dX0_stopIs_60 : decode cX0_stopIs 60 = .ok (.getfield 32, 3) := dk_180 0 32 (dk_at dksX0_stopIs_2 14 rfl rfl)
theorem dX0_stopIs_63 : decode cX0_stopIs 63 = .ok (.iload_n 2, 1) := dk_28 (dk_at dksX0_stopIs_2 17 rfl rfl)
theorem dX0_stopIs_64 : decode cX0_stopIs 64 = .ok (.iaload, 1) := dk_46 (dk_at dksX0_stopIs_2 18 rfl rfl)
theorem dX0_stopIs_65 : decode cX0_stopIs 65 = .ok (.ireturn, 1) := dk_172 (dk_at dksX0_stopIs_2 19 rfl rfl)
abbrev cX0_earliest : ByteArray := prog_1_method_27_code
def yX0_earliest : MethodName := ⟨RX0, "earliest", "(IIII)I"⟩
def dkwX0_earliest_3 : List UInt8 := [172]
abbrev dktX0_earliest_3 : List UInt8 := dkwX0_earliest_3 ++ []
def dkwX0_earliest_2 : List UInt8 := [160, 0, 8, 16, 254, 167, 0, 19, 21, 4, 154, 0, 12, 42, 180, 0, 97, 28, 46, 167, 0, 5, 21, 5]
abbrev dktX0_earliest_2 : List UInt8 := dkwX0_earliest_2 ++ dktX0_earliest_3
def dkwX0_earliest_1 : List UInt8 := [154, 0, 5, 2, 172, 42, 27, 29, 28, 182, 0, 240, 54, 5, 42, 180, 0, 97, 28, 46, 18, 235]
abbrev dktX0_earliest_1 : List UInt8 := dkwX0_earliest_1 ++ dktX0_earliest_2
def dkwX0_earliest_0 : List UInt8 := [27, 28, 184, 0, 138, 153, 0, 22, 29, 17, 5, 160, 184, 0, 16, 153, 0, 12, 21, 4, 5, 184, 0, 16]
abbrev dktX0_earliest_0 : List UInt8 := dkwX0_earliest_0 ++ dktX0_earliest_1
theorem dksX0_earliest_0 : cX0_earliest.data.toList.drop 0 = dktX0_earliest_0 := by decide +kernel
theorem dksX0_earliest_1 : cX0_earliest.data.toList.drop 24 = dktX0_earliest_1 := dk_seg dksX0_earliest_0 24 rfl rfl
theorem dksX0_earliest_2 : cX0_earliest.data.toList.drop 46 = dktX0_earliest_2 := dk_seg dksX0_earliest_1 22 rfl rfl
theorem dksX0_earliest_3 : cX0_earliest.data.toList.drop 70 = dktX0_earliest_3 := dk_seg dksX0_earliest_2 24 rfl rfl
theorem dX0_earliest_0 : decode cX0_earliest 0 = .ok (.iload_n 1, 1) := dk_27 (dk_at dksX0_earliest_0 0 rfl rfl)
theorem dX0_earliest_1 : decode cX0_earliest 1 = .ok (.iload_n 2, 1) := dk_28 (dk_at dksX0_earliest_0 1 rfl rfl)
theorem dX0_earliest_2 : decode cX0_earliest 2 = .ok (.invokestatic 138, 3) := dk_184 0 138 (dk_at dksX0_earliest_0 2 rfl rfl)
theorem dX0_earliest_5 : decode cX0_earliest 5 = .ok (.ifCond .eq 22, 3) := dk_153 0 22 (dk_at dksX0_earliest_0 5 rfl rfl)
theorem dX0_earliest_8 : decode cX0_earliest 8 = .ok (.iload_n 3, 1) := dk_29 (dk_at dksX0_earliest_0 8 rfl rfl)
theorem dX0_earliest_9 : decode cX0_earliest 9 = .ok (.sipush 1440, 3) := dk_17 5 160 (dk_at dksX0_earliest_0 9 rfl rfl)
theorem dX0_earliest_12 : decode cX0_earliest 12 = .ok (.invokestatic 16, 3) := dk_184 0 16 (dk_at dksX0_earliest_0 12 rfl rfl)
theorem dX0_earliest_15 : decode cX0_earliest 15 = .ok (.ifCond .eq 12, 3) := dk_153 0 12 (dk_at dksX0_earliest_0 15 rfl rfl)
theorem dX0_earliest_18 : decode cX0_earliest 18 = .ok (.iload 4, 2) := dk_21 4 (dk_at dksX0_earliest_0 18 rfl rfl)
theorem dX0_earliest_20 : decode cX0_earliest 20 = .ok (.iconst 2, 1) := dk_5 (dk_at dksX0_earliest_0 20 rfl rfl)
theorem dX0_earliest_21 : decode cX0_earliest 21 = .ok (.invokestatic 16, 3) := dk_184 0 16 (dk_at dksX0_earliest_0 21 rfl rfl)
theorem dX0_earliest_24 : decode cX0_earliest 24 = .ok (.ifCond .ne 5, 3) := dk_154 0 5 (dk_at dksX0_earliest_1 0 rfl rfl)
theorem dX0_earliest_27 : decode cX0_earliest 27 = .ok (.iconst (-1), 1) := dk_2 (dk_at dksX0_earliest_1 3 rfl rfl)
theorem dX0_earliest_28 : decode cX0_earliest 28 = .ok (.ireturn, 1) := dk_172 (dk_at dksX0_earliest_1 4 rfl rfl)
theorem dX0_earliest_29 : decode cX0_earliest 29 = .ok (.aload_n 0, 1) := dk_42 (dk_at dksX0_earliest_1 5 rfl rfl)
theorem dX0_earliest_30 : decode cX0_earliest 30 = .ok (.iload_n 1, 1) := dk_27 (dk_at dksX0_earliest_1 6 rfl rfl)
theorem dX0_earliest_31 : decode cX0_earliest 31 = .ok (.iload_n 3, 1) := dk_29 (dk_at dksX0_earliest_1 7 rfl rfl)
theorem dX0_earliest_32 : decode cX0_earliest 32 = .ok (.iload_n 2, 1) := dk_28 (dk_at dksX0_earliest_1 8 rfl rfl)
theorem dX0_earliest_33 : decode cX0_earliest 33 = .ok (.invokevirtual 240, 3) := dk_182 0 240 (dk_at dksX0_earliest_1 9 rfl rfl)
theorem dX0_earliest_36 : decode cX0_earliest 36 = .ok (.istore 5, 2) := dk_54 5 (dk_at dksX0_earliest_1 12 rfl rfl)
theorem dX0_earliest_38 : decode cX0_earliest 38 = .ok (.aload_n 0, 1) := dk_42 (dk_at dksX0_earliest_1 14 rfl rfl)
theorem dX0_earliest_39 : decode cX0_earliest 39 = .ok (.getfield 97, 3) := dk_180 0 97 (dk_at dksX0_earliest_1 15 rfl rfl)
theorem dX0_earliest_42 : decode cX0_earliest 42 = .ok (.iload_n 2, 1) := dk_28 (dk_at dksX0_earliest_1 18 rfl rfl)
theorem dX0_earliest_43 : decode cX0_earliest 43 = .ok (.iaload, 1) := dk_46 (dk_at dksX0_earliest_1 19 rfl rfl)
theorem dX0_earliest_44 : decode cX0_earliest 44 = .ok (.ldc 235, 2) := dk_18 235 (dk_at dksX0_earliest_1 20 rfl rfl)
theorem dX0_earliest_46 : decode cX0_earliest 46 = .ok (.if_icmp .ne 8, 3) := dk_160 0 8 (dk_at dksX0_earliest_2 0 rfl rfl)
theorem dX0_earliest_49 : decode cX0_earliest 49 = .ok (.bipush (-2), 2) := dk_16 254 (dk_at dksX0_earliest_2 3 rfl rfl)
theorem dX0_earliest_51 : decode cX0_earliest 51 = .ok (.goto 19, 3) := dk_167 0 19 (dk_at dksX0_earliest_2 5 rfl rfl)
theorem dX0_earliest_54 : decode cX0_earliest 54 = .ok (.iload 4, 2) := dk_21 4 (dk_at dksX0_earliest_2 8 rfl rfl)
theorem dX0_earliest_56 : decode cX0_earliest 56 = .ok (.ifCond .ne 12, 3) := dk_154 0 12 (dk_at dksX0_earliest_2 10 rfl rfl)
theorem dX0_earliest_59 : decode cX0_earliest 59 = .ok (.aload_n 0, 1) := dk_42 (dk_at dksX0_earliest_2 13 rfl rfl)
theorem dX0_earliest_60 : decode cX0_earliest 60 = .ok (.getfield 97, 3) := dk_180 0 97 (dk_at dksX0_earliest_2 14 rfl rfl)
theorem dX0_earliest_63 : decode cX0_earliest 63 = .ok (.iload_n 2, 1) := dk_28 (dk_at dksX0_earliest_2 17 rfl rfl)
theorem dX0_earliest_64 : decode cX0_earliest 64 = .ok (.iaload, 1) := dk_46 (dk_at dksX0_earliest_2 18 rfl rfl)
theorem dX0_earliest_65 : decode cX0_earliest 65 = .ok (.goto 5, 3) := dk_167 0 5 (dk_at dksX0_earliest_2 19 rfl rfl)
theorem dX0_earliest_68 : decode cX0_earliest 68 = .ok (.iload 5, 2) := dk_21 5 (dk_at dksX0_earliest_2 22 rfl rfl)
theorem dX0_earliest_70 : decode cX0_earliest 70 = .ok (.ireturn, 1) := dk_172 (dk_at dksX0_earliest_3 0 rfl rfl)
abbrev cX0_laysThere : ByteArray := prog_1_method_26_code
def yX0_laysThere : MethodName := ⟨RX0, "laysThere", "(III)I"⟩
def dkwX0_laysThere_6 : List UInt8 := [167, 0, 5, 21, 4, 54, 4, 132, 5, 1, 167, 255, 149, 21, 4, 172]
abbrev dktX0_laysThere_6 : List UInt8 := dkwX0_laysThere_6 ++ []
def dkwX0_laysThere_5 : List UInt8 := [132, 6, 1, 167, 255, 219, 42, 180, 0, 97, 29, 46, 42, 180, 0, 100, 29, 46, 162, 0, 8, 21, 5]
abbrev dktX0_laysThere_5 : List UInt8 := dkwX0_laysThere_5 ++ dktX0_laysThere_6
def dkwX0_laysThere_4 : List UInt8 := [180, 0, 24, 21, 6, 50, 21, 5, 4, 160, 0, 7, 3, 167, 0, 7, 42, 180, 0, 71, 182, 0, 236]
abbrev dktX0_laysThere_4 : List UInt8 := dkwX0_laysThere_4 ++ dktX0_laysThere_5
def dkwX0_laysThere_3 : List UInt8 := [21, 6, 46, 79, 132, 6, 1, 167, 255, 232, 3, 54, 6, 21, 6, 42, 180, 0, 10, 162, 0, 34, 42, 42]
abbrev dktX0_laysThere_3 : List UInt8 := dkwX0_laysThere_3 ++ dktX0_laysThere_4
def dkwX0_laysThere_2 : List UInt8 := [163, 0, 106, 3, 54, 6, 21, 6, 16, 10, 162, 0, 23, 42, 180, 0, 100, 21, 6, 42, 180, 0, 97]
abbrev dktX0_laysThere_2 : List UInt8 := dkwX0_laysThere_2 ++ dktX0_laysThere_3
def dkwX0_laysThere_1 : List UInt8 := [167, 0, 5, 18, 235, 79, 132, 4, 1, 167, 255, 227, 3, 54, 4, 4, 54, 5, 21, 5, 16, 10]
abbrev dktX0_laysThere_1 : List UInt8 := dkwX0_laysThere_1 ++ dktX0_laysThere_2
def dkwX0_laysThere_0 : List UInt8 := [3, 54, 4, 21, 4, 16, 10, 162, 0, 28, 42, 180, 0, 97, 21, 4, 21, 4, 27, 160, 0, 7, 28]
abbrev dktX0_laysThere_0 : List UInt8 := dkwX0_laysThere_0 ++ dktX0_laysThere_1
theorem dksX0_laysThere_0 : cX0_laysThere.data.toList.drop 0 = dktX0_laysThere_0 := by decide +kernel
theorem dksX0_laysThere_1 : cX0_laysThere.data.toList.drop 23 = dktX0_laysThere_1 := dk_seg dksX0_laysThere_0 23 rfl rfl
theorem dksX0_laysThere_2 : cX0_laysThere.data.toList.drop 45 = dktX0_laysThere_2 := dk_seg dksX0_laysThere_1 22 rfl rfl
theorem dksX0_laysThere_3 : cX0_laysThere.data.toList.drop 68 = dktX0_laysThere_3 := dk_seg dksX0_laysThere_2 23 rfl rfl
theorem dksX0_laysThere_4 : cX0_laysThere.data.toList.drop 92 = dktX0_laysThere_4 := dk_seg dksX0_laysThere_3 24 rfl rfl
theorem dksX0_laysThere_5 : cX0_laysThere.data.toList.drop 115 = dktX0_laysThere_5 := dk_seg dksX0_laysThere_4 23 rfl rfl
theorem dksX0_laysThere_6 : cX0_laysThere.data.toList.drop 138 = dktX0_laysThere_6 := dk_seg dksX0_laysThere_5 23 rfl rfl
theorem dX0_laysThere_0 : decode cX0_laysThere 0 = .ok (.iconst 0, 1) := dk_3 (dk_at dksX0_laysThere_0 0 rfl rfl)
theorem dX0_laysThere_1 : decode cX0_laysThere 1 = .ok (.istore 4, 2) := dk_54 4 (dk_at dksX0_laysThere_0 1 rfl rfl)
theorem dX0_laysThere_3 : decode cX0_laysThere 3 = .ok (.iload 4, 2) := dk_21 4 (dk_at dksX0_laysThere_0 3 rfl rfl)
theorem dX0_laysThere_5 : decode cX0_laysThere 5 = .ok (.bipush 10, 2) := dk_16 10 (dk_at dksX0_laysThere_0 5 rfl rfl)
theorem dX0_laysThere_7 : decode cX0_laysThere 7 = .ok (.if_icmp .ge 28, 3) := dk_162 0 28 (dk_at dksX0_laysThere_0 7 rfl rfl)
theorem dX0_laysThere_10 : decode cX0_laysThere 10 = .ok (.aload_n 0, 1) := dk_42 (dk_at dksX0_laysThere_0 10 rfl rfl)
theorem dX0_laysThere_11 : decode cX0_laysThere 11 = .ok (.getfield 97, 3) := dk_180 0 97 (dk_at dksX0_laysThere_0 11 rfl rfl)
theorem dX0_laysThere_14 : decode cX0_laysThere 14 = .ok (.iload 4, 2) := dk_21 4 (dk_at dksX0_laysThere_0 14 rfl rfl)
theorem dX0_laysThere_16 : decode cX0_laysThere 16 = .ok (.iload 4, 2) := dk_21 4 (dk_at dksX0_laysThere_0 16 rfl rfl)
theorem dX0_laysThere_18 : decode cX0_laysThere 18 = .ok (.iload_n 1, 1) := dk_27 (dk_at dksX0_laysThere_0 18 rfl rfl)
theorem dX0_laysThere_19 : decode cX0_laysThere 19 = .ok (.if_icmp .ne 7, 3) := dk_160 0 7 (dk_at dksX0_laysThere_0 19 rfl rfl)
theorem dX0_laysThere_22 : decode cX0_laysThere 22 = .ok (.iload_n 2, 1) := dk_28 (dk_at dksX0_laysThere_0 22 rfl rfl)
theorem dX0_laysThere_23 : decode cX0_laysThere 23 = .ok (.goto 5, 3) := dk_167 0 5 (dk_at dksX0_laysThere_1 0 rfl rfl)
theorem dX0_laysThere_26 : decode cX0_laysThere 26 = .ok (.ldc 235, 2) := dk_18 235 (dk_at dksX0_laysThere_1 3 rfl rfl)
theorem dX0_laysThere_28 : decode cX0_laysThere 28 = .ok (.iastore, 1) := dk_79 (dk_at dksX0_laysThere_1 5 rfl rfl)
theorem dX0_laysThere_29 : decode cX0_laysThere 29 = .ok (.iinc 4 1, 3) := dk_132 4 1 (dk_at dksX0_laysThere_1 6 rfl rfl)
theorem dX0_laysThere_32 : decode cX0_laysThere 32 = .ok (.goto (-29), 3) := dk_167 255 227 (dk_at dksX0_laysThere_1 9 rfl rfl)
theorem dX0_laysThere_35 : decode cX0_laysThere 35 = .ok (.iconst 0, 1) := dk_3 (dk_at dksX0_laysThere_1 12 rfl rfl)
theorem dX0_laysThere_36 : decode cX0_laysThere 36 = .ok (.istore 4, 2) := dk_54 4 (dk_at dksX0_laysThere_1 13 rfl rfl)
theorem dX0_laysThere_38 : decode cX0_laysThere 38 = .ok (.iconst 1, 1) := dk_4 (dk_at dksX0_laysThere_1 15 rfl rfl)
theorem dX0_laysThere_39 : decode cX0_laysThere 39 = .ok (.istore 5, 2) := dk_54 5 (dk_at dksX0_laysThere_1 16 rfl rfl)
theorem dX0_laysThere_41 : decode cX0_laysThere 41 = .ok (.iload 5, 2) := dk_21 5 (dk_at dksX0_laysThere_1 18 rfl rfl)
theorem dX0_laysThere_43 : decode cX0_laysThere 43 = .ok (.bipush 10, 2) := dk_16 10 (dk_at dksX0_laysThere_1 20 rfl rfl)
theorem dX0_laysThere_45 : decode cX0_laysThere 45 = .ok (.if_icmp .gt 106, 3) := dk_163 0 106 (dk_at dksX0_laysThere_2 0 rfl rfl)
theorem dX0_laysThere_48 : decode cX0_laysThere 48 = .ok (.iconst 0, 1) := dk_3 (dk_at dksX0_laysThere_2 3 rfl rfl)
theorem dX0_laysThere_49 : decode cX0_laysThere 49 = .ok (.istore 6, 2) := dk_54 6 (dk_at dksX0_laysThere_2 4 rfl rfl)
theorem dX0_laysThere_51 : decode cX0_laysThere 51 = .ok (.iload 6, 2) := dk_21 6 (dk_at dksX0_laysThere_2 6 rfl rfl)
theorem dX0_laysThere_53 : decode cX0_laysThere 53 = .ok (.bipush 10, 2) := dk_16 10 (dk_at dksX0_laysThere_2 8 rfl rfl)
theorem dX0_laysThere_55 : decode cX0_laysThere 55 = .ok (.if_icmp .ge 23, 3) := dk_162 0 23 (dk_at dksX0_laysThere_2 10 rfl rfl)
theorem dX0_laysThere_58 : decode cX0_laysThere 58 = .ok (.aload_n 0, 1) := dk_42 (dk_at dksX0_laysThere_2 13 rfl rfl)
theorem dX0_laysThere_59 : decode cX0_laysThere 59 = .ok (.getfield 100, 3) := dk_180 0 100 (dk_at dksX0_laysThere_2 14 rfl rfl)
theorem dX0_laysThere_62 : decode cX0_laysThere 62 = .ok (.iload 6, 2) := dk_21 6 (dk_at dksX0_laysThere_2 17 rfl rfl)
theorem dX0_laysThere_64 : decode cX0_laysThere 64 = .ok (.aload_n 0, 1) := dk_42 (dk_at dksX0_laysThere_2 19 rfl rfl)
theorem dX0_laysThere_65 : decode cX0_laysThere 65 = .ok (.getfield 97, 3) := dk_180 0 97 (dk_at dksX0_laysThere_2 20 rfl rfl)
theorem dX0_laysThere_68 : decode cX0_laysThere 68 = .ok (.iload 6, 2) := dk_21 6 (dk_at dksX0_laysThere_3 0 rfl rfl)
theorem dX0_laysThere_70 : decode cX0_laysThere 70 = .ok (.iaload, 1) := dk_46 (dk_at dksX0_laysThere_3 2 rfl rfl)
theorem dX0_laysThere_71 : decode cX0_laysThere 71 = .ok (.iastore, 1) := dk_79 (dk_at dksX0_laysThere_3 3 rfl rfl)
theorem dX0_laysThere_72 : decode cX0_laysThere 72 = .ok (.iinc 6 1, 3) := dk_132 6 1 (dk_at dksX0_laysThere_3 4 rfl rfl)
theorem dX0_laysThere_75 : decode cX0_laysThere 75 = .ok (.goto (-24), 3) := dk_167 255 232 (dk_at dksX0_laysThere_3 7 rfl rfl)
theorem dX0_laysThere_78 : decode cX0_laysThere 78 = .ok (.iconst 0, 1) := dk_3 (dk_at dksX0_laysThere_3 10 rfl rfl)
theorem dX0_laysThere_79 : decode cX0_laysThere 79 = .ok (.istore 6, 2) := dk_54 6 (dk_at dksX0_laysThere_3 11 rfl rfl)
theorem dX0_laysThere_81 : decode cX0_laysThere 81 = .ok (.iload 6, 2) := dk_21 6 (dk_at dksX0_laysThere_3 13 rfl rfl)
theorem dX0_laysThere_83 : decode cX0_laysThere 83 = .ok (.aload_n 0, 1) := dk_42 (dk_at dksX0_laysThere_3 15 rfl rfl)
theorem dX0_laysThere_84 : decode cX0_laysThere 84 = .ok (.getfield 10, 3) := dk_180 0 10 (dk_at dksX0_laysThere_3 16 rfl rfl)
theorem dX0_laysThere_87 : decode cX0_laysThere 87 = .ok (.if_icmp .ge 34, 3) := dk_162 0 34 (dk_at dksX0_laysThere_3 19 rfl rfl)
theorem dX0_laysThere_90 : decode cX0_laysThere 90 = .ok (.aload_n 0, 1) := dk_42 (dk_at dksX0_laysThere_3 22 rfl rfl)
theorem dX0_laysThere_91 : decode cX0_laysThere 91 = .ok (.aload_n 0, 1) := dk_42 (dk_at dksX0_laysThere_3 23 rfl rfl)
theorem dX0_laysThere_92 : decode cX0_laysThere 92 = .ok (.getfield 24, 3) := dk_180 0 24 (dk_at dksX0_laysThere_4 0 rfl rfl)
theorem dX0_laysThere_95 : decode cX0_laysThere 95 = .ok (.iload 6, 2) := dk_21 6 (dk_at dksX0_laysThere_4 3 rfl rfl)
theorem dX0_laysThere_97 : decode cX0_laysThere 97 = .ok (.aaload, 1) := dk_50 (dk_at dksX0_laysThere_4 5 rfl rfl)
theorem dX0_laysThere_98 : decode cX0_laysThere 98 = .ok (.iload 5, 2) := dk_21 5 (dk_at dksX0_laysThere_4 6 rfl rfl)
theorem dX0_laysThere_100 : decode cX0_laysThere 100 = .ok (.iconst 1, 1) := dk_4 (dk_at dksX0_laysThere_4 8 rfl rfl)
theorem dX0_laysThere_101 : decode cX0_laysThere 101 = .ok (.if_icmp .ne 7, 3) := dk_160 0 7 (dk_at dksX0_laysThere_4 9 rfl rfl)
theorem dX0_laysThere_104 : decode cX0_laysThere 104 = .ok (.iconst 0, 1) := dk_3 (dk_at dksX0_laysThere_4 12 rfl rfl)
theorem dX0_laysThere_105 : decode cX0_laysThere 105 = .ok (.goto 7, 3) := dk_167 0 7 (dk_at dksX0_laysThere_4 13 rfl rfl)
theorem dX0_laysThere_108 : decode cX0_laysThere 108 = .ok (.aload_n 0, 1) := dk_42 (dk_at dksX0_laysThere_4 16 rfl rfl)
theorem dX0_laysThere_109 : decode cX0_laysThere 109 = .ok (.getfield 71, 3) := dk_180 0 71 (dk_at dksX0_laysThere_4 17 rfl rfl)
theorem dX0_laysThere_112 : decode cX0_laysThere 112 = .ok (.invokevirtual 236, 3) := dk_182 0 236 (dk_at dksX0_laysThere_4 20 rfl rfl)
theorem dX0_laysThere_115 : decode cX0_laysThere 115 = .ok (.iinc 6 1, 3) := dk_132 6 1 (dk_at dksX0_laysThere_5 0 rfl rfl)
theorem dX0_laysThere_118 : decode cX0_laysThere 118 = .ok (.goto (-37), 3) := dk_167 255 219 (dk_at dksX0_laysThere_5 3 rfl rfl)
theorem dX0_laysThere_121 : decode cX0_laysThere 121 = .ok (.aload_n 0, 1) := dk_42 (dk_at dksX0_laysThere_5 6 rfl rfl)
theorem dX0_laysThere_122 : decode cX0_laysThere 122 = .ok (.getfield 97, 3) := dk_180 0 97 (dk_at dksX0_laysThere_5 7 rfl rfl)
theorem dX0_laysThere_125 : decode cX0_laysThere 125 = .ok (.iload_n 3, 1) := dk_29 (dk_at dksX0_laysThere_5 10 rfl rfl)
theorem dX0_laysThere_126 : decode cX0_laysThere 126 = .ok (.iaload, 1) := dk_46 (dk_at dksX0_laysThere_5 11 rfl rfl)
theorem dX0_laysThere_127 : decode cX0_laysThere 127 = .ok (.aload_n 0, 1) := dk_42 (dk_at dksX0_laysThere_5 12 rfl rfl)
theorem dX0_laysThere_128 : decode cX0_laysThere 128 = .ok (.getfield 100, 3) := dk_180 0 100 (dk_at dksX0_laysThere_5 13 rfl rfl)
theorem dX0_laysThere_131 : decode cX0_laysThere 131 = .ok (.iload_n 3, 1) := dk_29 (dk_at dksX0_laysThere_5 16 rfl rfl)
theorem dX0_laysThere_132 : decode cX0_laysThere 132 = .ok (.iaload, 1) := dk_46 (dk_at dksX0_laysThere_5 17 rfl rfl)
theorem dX0_laysThere_133 : decode cX0_laysThere 133 = .ok (.if_icmp .ge 8, 3) := dk_162 0 8 (dk_at dksX0_laysThere_5 18 rfl rfl)
theorem dX0_laysThere_136 : decode cX0_laysThere 136 = .ok (.iload 5, 2) := dk_21 5 (dk_at dksX0_laysThere_5 21 rfl rfl)
theorem dX0_laysThere_138 : decode cX0_laysThere 138 = .ok (.goto 5, 3) := dk_167 0 5 (dk_at dksX0_laysThere_6 0 rfl rfl)
theorem dX0_laysThere_141 : decode cX0_laysThere 141 = .ok (.iload 4, 2) := dk_21 4 (dk_at dksX0_laysThere_6 3 rfl rfl)
theorem dX0_laysThere_143 : decode cX0_laysThere 143 = .ok (.istore 4, 2) := dk_54 4 (dk_at dksX0_laysThere_6 5 rfl rfl)
theorem dX0_laysThere_145 : decode cX0_laysThere 145 = .ok (.iinc 5 1, 3) := dk_132 5 1 (dk_at dksX0_laysThere_6 7 rfl rfl)
theorem dX0_laysThere_148 : decode cX0_laysThere 148 = .ok (.goto (-107), 3) := dk_167 255 149 (dk_at dksX0_laysThere_6 10 rfl rfl)
theorem dX0_laysThere_151 : decode cX0_laysThere 151 = .ok (.iload 4, 2) := dk_21 4 (dk_at dksX0_laysThere_6 13 rfl rfl)
theorem dX0_laysThere_153 : decode cX0_laysThere 153 = .ok (.ireturn, 1) := dk_172 (dk_at dksX0_laysThere_6 15 rfl rfl)
abbrev cX0_ridesIn : ByteArray := prog_1_method_25_code
def yX0_ridesIn : MethodName := ⟨RX0, "ridesIn", "(LMissedTrains$Train;I)V"⟩
def dkwX0_ridesIn_3 : List UInt8 := [96, 43, 180, 0, 32, 21, 4, 46, 163, 0, 7, 4, 167, 0, 4, 3, 62, 132, 4, 1, 167, 255, 171, 177]
abbrev dktX0_ridesIn_3 : List UInt8 := dkwX0_ridesIn_3 ++ []
def dkwX0_ridesIn_2 : List UInt8 := [46, 43, 180, 0, 32, 21, 4, 46, 184, 0, 1, 79, 29, 154, 0, 22, 42, 180, 0, 100, 21, 5, 46, 28]
abbrev dktX0_ridesIn_2 : List UInt8 := dkwX0_ridesIn_2 ++ dktX0_ridesIn_3
def dkwX0_ridesIn_1 : List UInt8 := [180, 0, 232, 21, 4, 46, 54, 5, 29, 153, 0, 27, 42, 180, 0, 97, 21, 5, 42, 180, 0, 97, 21, 5]
abbrev dktX0_ridesIn_1 : List UInt8 := dkwX0_ridesIn_1 ++ dktX0_ridesIn_2
def dkwX0_ridesIn_0 : List UInt8 := [3, 62, 3, 54, 4, 21, 4, 43, 180, 0, 43, 162, 0, 82, 43, 180, 0, 217, 153, 0, 75, 43]
abbrev dktX0_ridesIn_0 : List UInt8 := dkwX0_ridesIn_0 ++ dktX0_ridesIn_1
theorem dksX0_ridesIn_0 : cX0_ridesIn.data.toList.drop 0 = dktX0_ridesIn_0 := by decide +kernel
theorem dksX0_ridesIn_1 : cX0_ridesIn.data.toList.drop 22 = dktX0_ridesIn_1 := dk_seg dksX0_ridesIn_0 22 rfl rfl
theorem dksX0_ridesIn_2 : cX0_ridesIn.data.toList.drop 46 = dktX0_ridesIn_2 := dk_seg dksX0_ridesIn_1 24 rfl rfl
theorem dksX0_ridesIn_3 : cX0_ridesIn.data.toList.drop 70 = dktX0_ridesIn_3 := dk_seg dksX0_ridesIn_2 24 rfl rfl
theorem dX0_ridesIn_0 : decode cX0_ridesIn 0 = .ok (.iconst 0, 1) := dk_3 (dk_at dksX0_ridesIn_0 0 rfl rfl)
theorem dX0_ridesIn_1 : decode cX0_ridesIn 1 = .ok (.istore_n 3, 1) := dk_62 (dk_at dksX0_ridesIn_0 1 rfl rfl)
theorem dX0_ridesIn_2 : decode cX0_ridesIn 2 = .ok (.iconst 0, 1) := dk_3 (dk_at dksX0_ridesIn_0 2 rfl rfl)
theorem dX0_ridesIn_3 : decode cX0_ridesIn 3 = .ok (.istore 4, 2) := dk_54 4 (dk_at dksX0_ridesIn_0 3 rfl rfl)
theorem dX0_ridesIn_5 : decode cX0_ridesIn 5 = .ok (.iload 4, 2) := dk_21 4 (dk_at dksX0_ridesIn_0 5 rfl rfl)
theorem dX0_ridesIn_7 : decode cX0_ridesIn 7 = .ok (.aload_n 1, 1) := dk_43 (dk_at dksX0_ridesIn_0 7 rfl rfl)
theorem dX0_ridesIn_8 : decode cX0_ridesIn 8 = .ok (.getfield 43, 3) := dk_180 0 43 (dk_at dksX0_ridesIn_0 8 rfl rfl)
theorem dX0_ridesIn_11 : decode cX0_ridesIn 11 = .ok (.if_icmp .ge 82, 3) := dk_162 0 82 (dk_at dksX0_ridesIn_0 11 rfl rfl)
theorem dX0_ridesIn_14 : decode cX0_ridesIn 14 = .ok (.aload_n 1, 1) := dk_43 (dk_at dksX0_ridesIn_0 14 rfl rfl)
theorem dX0_ridesIn_15 : decode cX0_ridesIn 15 = .ok (.getfield 217, 3) := dk_180 0 217 (dk_at dksX0_ridesIn_0 15 rfl rfl)
theorem dX0_ridesIn_18 : decode cX0_ridesIn 18 = .ok (.ifCond .eq 75, 3) := dk_153 0 75 (dk_at dksX0_ridesIn_0 18 rfl rfl)
theorem dX0_ridesIn_21 : decode cX0_ridesIn 21 = .ok (.aload_n 1, 1) := dk_43 (dk_at dksX0_ridesIn_0 21 rfl rfl)
theorem dX0_ridesIn_22 : decode cX0_ridesIn 22 = .ok (.getfield 232, 3) := dk_180 0 232 (dk_at dksX0_ridesIn_1 0 rfl rfl)
theorem dX0_ridesIn_25 : decode cX0_ridesIn 25 = .ok (.iload 4, 2) := dk_21 4 (dk_at dksX0_ridesIn_1 3 rfl rfl)
theorem dX0_ridesIn_27 : decode cX0_ridesIn 27 = .ok (.iaload, 1) := dk_46 (dk_at dksX0_ridesIn_1 5 rfl rfl)
theorem dX0_ridesIn_28 : decode cX0_ridesIn 28 = .ok (.istore 5, 2) := dk_54 5 (dk_at dksX0_ridesIn_1 6 rfl rfl)
theorem dX0_ridesIn_30 : decode cX0_ridesIn 30 = .ok (.iload_n 3, 1) := dk_29 (dk_at dksX0_ridesIn_1 8 rfl rfl)
theorem dX0_ridesIn_31 : decode cX0_ridesIn 31 = .ok (.ifCond .eq 27, 3) := dk_153 0 27 (dk_at dksX0_ridesIn_1 9 rfl rfl)
theorem dX0_ridesIn_34 : decode cX0_ridesIn 34 = .ok (.aload_n 0, 1) := dk_42 (dk_at dksX0_ridesIn_1 12 rfl rfl)
theorem dX0_ridesIn_35 : decode cX0_ridesIn 35 = .ok (.getfield 97, 3) := dk_180 0 97 (dk_at dksX0_ridesIn_1 13 rfl rfl)
theorem dX0_ridesIn_38 : decode cX0_ridesIn 38 = .ok (.iload 5, 2) := dk_21 5 (dk_at dksX0_ridesIn_1 16 rfl rfl)
theorem dX0_ridesIn_40 : decode cX0_ridesIn 40 = .ok (.aload_n 0, 1) := dk_42 (dk_at dksX0_ridesIn_1 18 rfl rfl)
theorem dX0_ridesIn_41 : decode cX0_ridesIn 41 = .ok (.getfield 97, 3) := dk_180 0 97 (dk_at dksX0_ridesIn_1 19 rfl rfl)
theorem dX0_ridesIn_44 : decode cX0_ridesIn 44 = .ok (.iload 5, 2) := dk_21 5 (dk_at dksX0_ridesIn_1 22 rfl rfl)
theorem dX0_ridesIn_46 : decode cX0_ridesIn 46 = .ok (.iaload, 1) := dk_46 (dk_at dksX0_ridesIn_2 0 rfl rfl)
theorem dX0_ridesIn_47 : decode cX0_ridesIn 47 = .ok (.aload_n 1, 1) := dk_43 (dk_at dksX0_ridesIn_2 1 rfl rfl)
theorem dX0_ridesIn_48 : decode cX0_ridesIn 48 = .ok (.getfield 32, 3) := dk_180 0 32 (dk_at dksX0_ridesIn_2 2 rfl rfl)
theorem dX0_ridesIn_51 : decode cX0_ridesIn 51 = .ok (.iload 4, 2) := dk_21 4 (dk_at dksX0_ridesIn_2 5 rfl rfl)
theorem dX0_ridesIn_53 : decode cX0_ridesIn 53 = .ok (.iaload, 1) := dk_46 (dk_at dksX0_ridesIn_2 7 rfl rfl)
theorem dX0_ridesIn_54 : decode cX0_ridesIn 54 = .ok (.invokestatic 1, 3) := dk_184 0 1 (dk_at dksX0_ridesIn_2 8 rfl rfl)
theorem dX0_ridesIn_57 : decode cX0_ridesIn 57 = .ok (.iastore, 1) := dk_79 (dk_at dksX0_ridesIn_2 11 rfl rfl)
theorem dX0_ridesIn_58 : decode cX0_ridesIn 58 = .ok (.iload_n 3, 1) := dk_29 (dk_at dksX0_ridesIn_2 12 rfl rfl)
theorem dX0_ridesIn_59 : decode cX0_ridesIn 59 = .ok (.ifCond .ne 22, 3) := dk_154 0 22 (dk_at dksX0_ridesIn_2 13 rfl rfl)
theorem dX0_ridesIn_62 : decode cX0_ridesIn 62 = .ok (.aload_n 0, 1) := dk_42 (dk_at dksX0_ridesIn_2 16 rfl rfl)
theorem dX0_ridesIn_63 : decode cX0_ridesIn 63 = .ok (.getfield 100, 3) := dk_180 0 100 (dk_at dksX0_ridesIn_2 17 rfl rfl)
theorem dX0_ridesIn_66 : decode cX0_ridesIn 66 = .ok (.iload 5, 2) := dk_21 5 (dk_at dksX0_ridesIn_2 20 rfl rfl)
theorem dX0_ridesIn_68 : decode cX0_ridesIn 68 = .ok (.iaload, 1) := dk_46 (dk_at dksX0_ridesIn_2 22 rfl rfl)
theorem dX0_ridesIn_69 : decode cX0_ridesIn 69 = .ok (.iload_n 2, 1) := dk_28 (dk_at dksX0_ridesIn_2 23 rfl rfl)
theorem dX0_ridesIn_70 : decode cX0_ridesIn 70 = .ok (.iadd, 1) := dk_96 (dk_at dksX0_ridesIn_3 0 rfl rfl)
theorem dX0_ridesIn_71 : decode cX0_ridesIn 71 = .ok (.aload_n 1, 1) := dk_43 (dk_at dksX0_ridesIn_3 1 rfl rfl)
theorem dX0_ridesIn_72 : decode cX0_ridesIn 72 = .ok (.getfield 32, 3) := dk_180 0 32 (dk_at dksX0_ridesIn_3 2 rfl rfl)
theorem dX0_ridesIn_75 : decode cX0_ridesIn 75 = .ok (.iload 4, 2) := dk_21 4 (dk_at dksX0_ridesIn_3 5 rfl rfl)
theorem dX0_ridesIn_77 : decode cX0_ridesIn 77 = .ok (.iaload, 1) := dk_46 (dk_at dksX0_ridesIn_3 7 rfl rfl)
theorem dX0_ridesIn_78 : decode cX0_ridesIn 78 = .ok (.if_icmp .gt 7, 3) := dk_163 0 7 (dk_at dksX0_ridesIn_3 8 rfl rfl)
theorem dX0_ridesIn_81 : decode cX0_ridesIn 81 = .ok (.iconst 1, 1) := dk_4 (dk_at dksX0_ridesIn_3 11 rfl rfl)
theorem dX0_ridesIn_82 : decode cX0_ridesIn 82 = .ok (.goto 4, 3) := dk_167 0 4 (dk_at dksX0_ridesIn_3 12 rfl rfl)
theorem dX0_ridesIn_85 : decode cX0_ridesIn 85 = .ok (.iconst 0, 1) := dk_3 (dk_at dksX0_ridesIn_3 15 rfl rfl)
theorem dX0_ridesIn_86 : decode cX0_ridesIn 86 = .ok (.istore_n 3, 1) := dk_62 (dk_at dksX0_ridesIn_3 16 rfl rfl)
theorem dX0_ridesIn_87 : decode cX0_ridesIn 87 = .ok (.iinc 4 1, 3) := dk_132 4 1 (dk_at dksX0_ridesIn_3 17 rfl rfl)
theorem dX0_ridesIn_90 : decode cX0_ridesIn 90 = .ok (.goto (-85), 3) := dk_167 255 171 (dk_at dksX0_ridesIn_3 20 rfl rfl)
theorem dX0_ridesIn_93 : decode cX0_ridesIn 93 = .ok (.return_, 1) := dk_177 (dk_at dksX0_ridesIn_3 23 rfl rfl)
abbrev cX0_latest : ByteArray := prog_1_method_29_code
def yX0_latest : MethodName := ⟨RX0, "latest", "(III)I"⟩
def dkwX0_latest_4 : List UInt8 := [167, 255, 190, 21, 4, 172]
abbrev dktX0_latest_4 : List UInt8 := dkwX0_latest_4 ++ []
def dkwX0_latest_3 : List UInt8 := [164, 0, 19, 42, 27, 28, 21, 6, 182, 0, 250, 29, 163, 0, 7, 21, 6, 54, 4, 132, 5, 1]
abbrev dktX0_latest_3 : List UInt8 := dkwX0_latest_3 ++ dktX0_latest_4
def dkwX0_latest_2 : List UInt8 := [153, 0, 17, 42, 180, 0, 24, 21, 5, 50, 27, 182, 0, 247, 167, 0, 4, 2, 54, 6, 21, 6, 21, 4]
abbrev dktX0_latest_2 : List UInt8 := dkwX0_latest_2 ++ dktX0_latest_3
def dkwX0_latest_1 : List UInt8 := [3, 54, 5, 21, 5, 42, 180, 0, 10, 162, 0, 63, 42, 180, 0, 24, 21, 5, 50, 27, 182, 0, 244]
abbrev dktX0_latest_1 : List UInt8 := dkwX0_latest_1 ++ dktX0_latest_2
def dkwX0_latest_0 : List UInt8 := [27, 28, 184, 0, 138, 153, 0, 13, 29, 17, 5, 160, 184, 0, 16, 154, 0, 5, 2, 172, 16, 254, 54, 4]
abbrev dktX0_latest_0 : List UInt8 := dkwX0_latest_0 ++ dktX0_latest_1
theorem dksX0_latest_0 : cX0_latest.data.toList.drop 0 = dktX0_latest_0 := by decide +kernel
theorem dksX0_latest_1 : cX0_latest.data.toList.drop 24 = dktX0_latest_1 := dk_seg dksX0_latest_0 24 rfl rfl
theorem dksX0_latest_2 : cX0_latest.data.toList.drop 47 = dktX0_latest_2 := dk_seg dksX0_latest_1 23 rfl rfl
theorem dksX0_latest_3 : cX0_latest.data.toList.drop 71 = dktX0_latest_3 := dk_seg dksX0_latest_2 24 rfl rfl
theorem dksX0_latest_4 : cX0_latest.data.toList.drop 93 = dktX0_latest_4 := dk_seg dksX0_latest_3 22 rfl rfl
theorem dX0_latest_0 : decode cX0_latest 0 = .ok (.iload_n 1, 1) := dk_27 (dk_at dksX0_latest_0 0 rfl rfl)
theorem dX0_latest_1 : decode cX0_latest 1 = .ok (.iload_n 2, 1) := dk_28 (dk_at dksX0_latest_0 1 rfl rfl)
theorem dX0_latest_2 : decode cX0_latest 2 = .ok (.invokestatic 138, 3) := dk_184 0 138 (dk_at dksX0_latest_0 2 rfl rfl)
theorem dX0_latest_5 : decode cX0_latest 5 = .ok (.ifCond .eq 13, 3) := dk_153 0 13 (dk_at dksX0_latest_0 5 rfl rfl)
theorem dX0_latest_8 : decode cX0_latest 8 = .ok (.iload_n 3, 1) := dk_29 (dk_at dksX0_latest_0 8 rfl rfl)
theorem dX0_latest_9 : decode cX0_latest 9 = .ok (.sipush 1440, 3) := dk_17 5 160 (dk_at dksX0_latest_0 9 rfl rfl)
theorem dX0_latest_12 : decode cX0_latest 12 = .ok (.invokestatic 16, 3) := dk_184 0 16 (dk_at dksX0_latest_0 12 rfl rfl)
theorem dX0_latest_15 : decode cX0_latest 15 = .ok (.ifCond .ne 5, 3) := dk_154 0 5 (dk_at dksX0_latest_0 15 rfl rfl)
theorem dX0_latest_18 : decode cX0_latest 18 = .ok (.iconst (-1), 1) := dk_2 (dk_at dksX0_latest_0 18 rfl rfl)
theorem dX0_latest_19 : decode cX0_latest 19 = .ok (.ireturn, 1) := dk_172 (dk_at dksX0_latest_0 19 rfl rfl)
theorem dX0_latest_20 : decode cX0_latest 20 = .ok (.bipush (-2), 2) := dk_16 254 (dk_at dksX0_latest_0 20 rfl rfl)
theorem dX0_latest_22 : decode cX0_latest 22 = .ok (.istore 4, 2) := dk_54 4 (dk_at dksX0_latest_0 22 rfl rfl)
theorem dX0_latest_24 : decode cX0_latest 24 = .ok (.iconst 0, 1) := dk_3 (dk_at dksX0_latest_1 0 rfl rfl)
theorem dX0_latest_25 : decode cX0_latest 25 = .ok (.istore 5, 2) := dk_54 5 (dk_at dksX0_latest_1 1 rfl rfl)
theorem dX0_latest_27 : decode cX0_latest 27 = .ok (.iload 5, 2) := dk_21 5 (dk_at dksX0_latest_1 3 rfl rfl)
theorem dX0_latest_29 : decode cX0_latest 29 = .ok (.aload_n 0, 1) := dk_42 (dk_at dksX0_latest_1 5 rfl rfl)
theorem dX0_latest_30 : decode cX0_latest 30 = .ok (.getfield 10, 3) := dk_180 0 10 (dk_at dksX0_latest_1 6 rfl rfl)
theorem dX0_latest_33 : decode cX0_latest 33 = .ok (.if_icmp .ge 63, 3) := dk_162 0 63 (dk_at dksX0_latest_1 9 rfl rfl)
theorem dX0_latest_36 : decode cX0_latest 36 = .ok (.aload_n 0, 1) := dk_42 (dk_at dksX0_latest_1 12 rfl rfl)
theorem dX0_latest_37 : decode cX0_latest 37 = .ok (.getfield 24, 3) := dk_180 0 24 (dk_at dksX0_latest_1 13 rfl rfl)
theorem dX0_latest_40 : decode cX0_latest 40 = .ok (.iload 5, 2) := dk_21 5 (dk_at dksX0_latest_1 16 rfl rfl)
theorem dX0_latest_42 : decode cX0_latest 42 = .ok (.aaload, 1) := dk_50 (dk_at dksX0_latest_1 18 rfl rfl)
theorem dX0_latest_43 : decode cX0_latest 43 = .ok (.iload_n 1, 1) := dk_27 (dk_at dksX0_latest_1 19 rfl rfl)
theorem dX0_latest_44 : decode cX0_latest 44 = .ok (.invokevirtual 244, 3) := dk_182 0 244 (dk_at dksX0_latest_1 20 rfl rfl)
theorem dX0_latest_47 : decode cX0_latest 47 = .ok (.ifCond .eq 17, 3) := dk_153 0 17 (dk_at dksX0_latest_2 0 rfl rfl)
theorem dX0_latest_50 : decode cX0_latest 50 = .ok (.aload_n 0, 1) := dk_42 (dk_at dksX0_latest_2 3 rfl rfl)
theorem dX0_latest_51 : decode cX0_latest 51 = .ok (.getfield 24, 3) := dk_180 0 24 (dk_at dksX0_latest_2 4 rfl rfl)
theorem dX0_latest_54 : decode cX0_latest 54 = .ok (.iload 5, 2) := dk_21 5 (dk_at dksX0_latest_2 7 rfl rfl)
theorem dX0_latest_56 : decode cX0_latest 56 = .ok (.aaload, 1) := dk_50 (dk_at dksX0_latest_2 9 rfl rfl)
theorem dX0_latest_57 : decode cX0_latest 57 = .ok (.iload_n 1, 1) := dk_27 (dk_at dksX0_latest_2 10 rfl rfl)
theorem dX0_latest_58 : decode cX0_latest 58 = .ok (.invokevirtual 247, 3) := dk_182 0 247 (dk_at dksX0_latest_2 11 rfl rfl)
theorem dX0_latest_61 : decode cX0_latest 61 = .ok (.goto 4, 3) := dk_167 0 4 (dk_at dksX0_latest_2 14 rfl rfl)
theorem dX0_latest_64 : decode cX0_latest 64 = .ok (.iconst (-1), 1) := dk_2 (dk_at dksX0_latest_2 17 rfl rfl)
theorem dX0_latest_65 : decode cX0_latest 65 = .ok (.istore 6, 2) := dk_54 6 (dk_at dksX0_latest_2 18 rfl rfl)
theorem dX0_latest_67 : decode cX0_latest 67 = .ok (.iload 6, 2) := dk_21 6 (dk_at dksX0_latest_2 20 rfl rfl)
theorem dX0_latest_69 : decode cX0_latest 69 = .ok (.iload 4, 2) := dk_21 4 (dk_at dksX0_latest_2 22 rfl rfl)
theorem dX0_latest_71 : decode cX0_latest 71 = .ok (.if_icmp .le 19, 3) := dk_164 0 19 (dk_at dksX0_latest_3 0 rfl rfl)
theorem dX0_latest_74 : decode cX0_latest 74 = .ok (.aload_n 0, 1) := dk_42 (dk_at dksX0_latest_3 3 rfl rfl)
theorem dX0_latest_75 : decode cX0_latest 75 = .ok (.iload_n 1, 1) := dk_27 (dk_at dksX0_latest_3 4 rfl rfl)
theorem dX0_latest_76 : decode cX0_latest 76 = .ok (.iload_n 2, 1) := dk_28 (dk_at dksX0_latest_3 5 rfl rfl)
theorem dX0_latest_77 : decode cX0_latest 77 = .ok (.iload 6, 2) := dk_21 6 (dk_at dksX0_latest_3 6 rfl rfl)
theorem dX0_latest_79 : decode cX0_latest 79 = .ok (.invokevirtual 250, 3) := dk_182 0 250 (dk_at dksX0_latest_3 8 rfl rfl)
theorem dX0_latest_82 : decode cX0_latest 82 = .ok (.iload_n 3, 1) := dk_29 (dk_at dksX0_latest_3 11 rfl rfl)
theorem dX0_latest_83 : decode cX0_latest 83 = .ok (.if_icmp .gt 7, 3) := dk_163 0 7 (dk_at dksX0_latest_3 12 rfl rfl)
theorem dX0_latest_86 : decode cX0_latest 86 = .ok (.iload 6, 2) := dk_21 6 (dk_at dksX0_latest_3 15 rfl rfl)
theorem dX0_latest_88 : decode cX0_latest 88 = .ok (.istore 4, 2) := dk_54 4 (dk_at dksX0_latest_3 17 rfl rfl)
theorem dX0_latest_90 : decode cX0_latest 90 = .ok (.iinc 5 1, 3) := dk_132 5 1 (dk_at dksX0_latest_3 19 rfl rfl)
theorem dX0_latest_93 : decode cX0_latest 93 = .ok (.goto (-66), 3) := dk_167 255 190 (dk_at dksX0_latest_4 0 rfl rfl)
theorem dX0_latest_96 : decode cX0_latest 96 = .ok (.iload 4, 2) := dk_21 4 (dk_at dksX0_latest_4 3 rfl rfl)
theorem dX0_latest_98 : decode cX0_latest 98 = .ok (.ireturn, 1) := dk_172 (dk_at dksX0_latest_4 5 rfl rfl)
abbrev cX0_arrivalFrom : ByteArray := prog_1_method_28_code
def yX0_arrivalFrom : MethodName := ⟨RX0, "arrivalFrom", "(III)I"⟩
def dkwX0_arrivalFrom_0 : List UInt8 := [42, 27, 29, 28, 182, 0, 240, 54, 4, 42, 180, 0, 97, 28, 46, 172]
abbrev dktX0_arrivalFrom_0 : List UInt8 := dkwX0_arrivalFrom_0 ++ []
theorem dksX0_arrivalFrom_0 : cX0_arrivalFrom.data.toList.drop 0 = dktX0_arrivalFrom_0 := by decide +kernel
theorem dX0_arrivalFrom_0 : decode cX0_arrivalFrom 0 = .ok (.aload_n 0, 1) := dk_42 (dk_at dksX0_arrivalFrom_0 0 rfl rfl)
theorem dX0_arrivalFrom_1 : decode cX0_arrivalFrom 1 = .ok (.iload_n 1, 1) := dk_27 (dk_at dksX0_arrivalFrom_0 1 rfl rfl)
theorem dX0_arrivalFrom_2 : decode cX0_arrivalFrom 2 = .ok (.iload_n 3, 1) := dk_29 (dk_at dksX0_arrivalFrom_0 2 rfl rfl)
theorem dX0_arrivalFrom_3 : decode cX0_arrivalFrom 3 = .ok (.iload_n 2, 1) := dk_28 (dk_at dksX0_arrivalFrom_0 3 rfl rfl)
theorem dX0_arrivalFrom_4 : decode cX0_arrivalFrom 4 = .ok (.invokevirtual 240, 3) := dk_182 0 240 (dk_at dksX0_arrivalFrom_0 4 rfl rfl)
theorem dX0_arrivalFrom_7 : decode cX0_arrivalFrom 7 = .ok (.istore 4, 2) := dk_54 4 (dk_at dksX0_arrivalFrom_0 7 rfl rfl)
theorem dX0_arrivalFrom_9 : decode cX0_arrivalFrom 9 = .ok (.aload_n 0, 1) := dk_42 (dk_at dksX0_arrivalFrom_0 9 rfl rfl)
theorem dX0_arrivalFrom_10 : decode cX0_arrivalFrom 10 = .ok (.getfield 97, 3) := dk_180 0 97 (dk_at dksX0_arrivalFrom_0 10 rfl rfl)
theorem dX0_arrivalFrom_13 : decode cX0_arrivalFrom 13 = .ok (.iload_n 2, 1) := dk_28 (dk_at dksX0_arrivalFrom_0 13 rfl rfl)
theorem dX0_arrivalFrom_14 : decode cX0_arrivalFrom 14 = .ok (.iaload, 1) := dk_46 (dk_at dksX0_arrivalFrom_0 14 rfl rfl)
theorem dX0_arrivalFrom_15 : decode cX0_arrivalFrom 15 = .ok (.ireturn, 1) := dk_172 (dk_at dksX0_arrivalFrom_0 15 rfl rfl)
abbrev cX0_fastest : ByteArray := prog_1_method_30_code
def yX0_fastest : MethodName := ⟨RX0, "fastest", "(II)I"⟩
def dkwX0_fastest_4 : List UInt8 := [172]
abbrev dktX0_fastest_4 : List UInt8 := dkwX0_fastest_4 ++ []
def dkwX0_fastest_3 : List UInt8 := [100, 184, 0, 1, 62, 132, 4, 1, 167, 255, 196, 29, 17, 5, 160, 161, 0, 8, 16, 254, 167, 0, 4, 29]
abbrev dktX0_fastest_3 : List UInt8 := dkwX0_fastest_3 ++ dktX0_fastest_4
def dkwX0_fastest_2 : List UInt8 := [180, 0, 24, 21, 4, 50, 27, 182, 0, 247, 182, 0, 250, 42, 180, 0, 24, 21, 4, 50, 27, 182, 0, 247]
abbrev dktX0_fastest_2 : List UInt8 := dkwX0_fastest_2 ++ dktX0_fastest_3
def dkwX0_fastest_1 : List UInt8 := [162, 0, 57, 42, 180, 0, 24, 21, 4, 50, 27, 182, 0, 244, 153, 0, 37, 29, 42, 27, 28, 42]
abbrev dktX0_fastest_1 : List UInt8 := dkwX0_fastest_1 ++ dktX0_fastest_2
def dkwX0_fastest_0 : List UInt8 := [27, 28, 184, 0, 138, 154, 0, 5, 2, 172, 18, 235, 62, 3, 54, 4, 21, 4, 42, 180, 0, 10]
abbrev dktX0_fastest_0 : List UInt8 := dkwX0_fastest_0 ++ dktX0_fastest_1
theorem dksX0_fastest_0 : cX0_fastest.data.toList.drop 0 = dktX0_fastest_0 := by decide +kernel
theorem dksX0_fastest_1 : cX0_fastest.data.toList.drop 22 = dktX0_fastest_1 := dk_seg dksX0_fastest_0 22 rfl rfl
theorem dksX0_fastest_2 : cX0_fastest.data.toList.drop 44 = dktX0_fastest_2 := dk_seg dksX0_fastest_1 22 rfl rfl
theorem dksX0_fastest_3 : cX0_fastest.data.toList.drop 68 = dktX0_fastest_3 := dk_seg dksX0_fastest_2 24 rfl rfl
theorem dksX0_fastest_4 : cX0_fastest.data.toList.drop 92 = dktX0_fastest_4 := dk_seg dksX0_fastest_3 24 rfl rfl
theorem dX0_fastest_0 : decode cX0_fastest 0 = .ok (.iload_n 1, 1) := dk_27 (dk_at dksX0_fastest_0 0 rfl rfl)
theorem dX0_fastest_1 : decode cX0_fastest 1 = .ok (.iload_n 2, 1) := dk_28 (dk_at dksX0_fastest_0 1 rfl rfl)
theorem dX0_fastest_2 : decode cX0_fastest 2 = .ok (.invokestatic 138, 3) := dk_184 0 138 (dk_at dksX0_fastest_0 2 rfl rfl)
theorem dX0_fastest_5 : decode cX0_fastest 5 = .ok (.ifCond .ne 5, 3) := dk_154 0 5 (dk_at dksX0_fastest_0 5 rfl rfl)
theorem dX0_fastest_8 : decode cX0_fastest 8 = .ok (.iconst (-1), 1) := dk_2 (dk_at dksX0_fastest_0 8 rfl rfl)
theorem dX0_fastest_9 : decode cX0_fastest 9 = .ok (.ireturn, 1) := dk_172 (dk_at dksX0_fastest_0 9 rfl rfl)
theorem dX0_fastest_10 : decode cX0_fastest 10 = .ok (.ldc 235, 2) := dk_18 235 (dk_at dksX0_fastest_0 10 rfl rfl)
theorem dX0_fastest_12 : decode cX0_fastest 12 = .ok (.istore_n 3, 1) := dk_62 (dk_at dksX0_fastest_0 12 rfl rfl)
theorem dX0_fastest_13 : decode cX0_fastest 13 = .ok (.iconst 0, 1) := dk_3 (dk_at dksX0_fastest_0 13 rfl rfl)
theorem dX0_fastest_14 : decode cX0_fastest 14 = .ok (.istore 4, 2) := dk_54 4 (dk_at dksX0_fastest_0 14 rfl rfl)
theorem dX0_fastest_16 : decode cX0_fastest 16 = .ok (.iload 4, 2) := dk_21 4 (dk_at dksX0_fastest_0 16 rfl rfl)
theorem dX0_fastest_18 : decode cX0_fastest 18 = .ok (.aload_n 0, 1) := dk_42 (dk_at dksX0_fastest_0 18 rfl rfl)
theorem dX0_fastest_19 : decode cX0_fastest 19 = .ok (.getfield 10, 3) := dk_180 0 10 (dk_at dksX0_fastest_0 19 rfl rfl)
theorem dX0_fastest_22 : decode cX0_fastest 22 = .ok (.if_icmp .ge 57, 3) := dk_162 0 57 (dk_at dksX0_fastest_1 0 rfl rfl)
theorem dX0_fastest_25 : decode cX0_fastest 25 = .ok (.aload_n 0, 1) := dk_42 (dk_at dksX0_fastest_1 3 rfl rfl)
theorem dX0_fastest_26 : decode cX0_fastest 26 = .ok (.getfield 24, 3) := dk_180 0 24 (dk_at dksX0_fastest_1 4 rfl rfl)
theorem dX0_fastest_29 : decode cX0_fastest 29 = .ok (.iload 4, 2) := dk_21 4 (dk_at dksX0_fastest_1 7 rfl rfl)
theorem dX0_fastest_31 : decode cX0_fastest 31 = .ok (.aaload, 1) := dk_50 (dk_at dksX0_fastest_1 9 rfl rfl)
theorem dX0_fastest_32 : decode cX0_fastest 32 = .ok (.iload_n 1, 1) := dk_27 (dk_at dksX0_fastest_1 10 rfl rfl)
theorem dX0_fastest_33 : decode cX0_fastest 33 = .ok (.invokevirtual 244, 3) := dk_182 0 244 (dk_at dksX0_fastest_1 11 rfl rfl)
theorem dX0_fastest_36 : decode cX0_fastest 36 = .ok (.ifCond .eq 37, 3) := dk_153 0 37 (dk_at dksX0_fastest_1 14 rfl rfl)
theorem dX0_fastest_39 : decode cX0_fastest 39 = .ok (.iload_n 3, 1) := dk_29 (dk_at dksX0_fastest_1 17 rfl rfl)
theorem dX0_fastest_40 : decode cX0_fastest 40 = .ok (.aload_n 0, 1) := dk_42 (dk_at dksX0_fastest_1 18 rfl rfl)
theorem dX0_fastest_41 : decode cX0_fastest 41 = .ok (.iload_n 1, 1) := dk_27 (dk_at dksX0_fastest_1 19 rfl rfl)
theorem dX0_fastest_42 : decode cX0_fastest 42 = .ok (.iload_n 2, 1) := dk_28 (dk_at dksX0_fastest_1 20 rfl rfl)
theorem dX0_fastest_43 : decode cX0_fastest 43 = .ok (.aload_n 0, 1) := dk_42 (dk_at dksX0_fastest_1 21 rfl rfl)
theorem dX0_fastest_44 : decode cX0_fastest 44 = .ok (.getfield 24, 3) := dk_180 0 24 (dk_at dksX0_fastest_2 0 rfl rfl)
theorem dX0_fastest_47 : decode cX0_fastest 47 = .ok (.iload 4, 2) := dk_21 4 (dk_at dksX0_fastest_2 3 rfl rfl)
theorem dX0_fastest_49 : decode cX0_fastest 49 = .ok (.aaload, 1) := dk_50 (dk_at dksX0_fastest_2 5 rfl rfl)
theorem dX0_fastest_50 : decode cX0_fastest 50 = .ok (.iload_n 1, 1) := dk_27 (dk_at dksX0_fastest_2 6 rfl rfl)
theorem dX0_fastest_51 : decode cX0_fastest 51 = .ok (.invokevirtual 247, 3) := dk_182 0 247 (dk_at dksX0_fastest_2 7 rfl rfl)
theorem dX0_fastest_54 : decode cX0_fastest 54 = .ok (.invokevirtual 250, 3) := dk_182 0 250 (dk_at dksX0_fastest_2 10 rfl rfl)
theorem dX0_fastest_57 : decode cX0_fastest 57 = .ok (.aload_n 0, 1) := dk_42 (dk_at dksX0_fastest_2 13 rfl rfl)
theorem dX0_fastest_58 : decode cX0_fastest 58 = .ok (.getfield 24, 3) := dk_180 0 24 (dk_at dksX0_fastest_2 14 rfl rfl)
theorem dX0_fastest_61 : decode cX0_fastest 61 = .ok (.iload 4, 2) := dk_21 4 (dk_at dksX0_fastest_2 17 rfl rfl)
theorem dX0_fastest_63 : decode cX0_fastest 63 = .ok (.aaload, 1) := dk_50 (dk_at dksX0_fastest_2 19 rfl rfl)
theorem dX0_fastest_64 : decode cX0_fastest 64 = .ok (.iload_n 1, 1) := dk_27 (dk_at dksX0_fastest_2 20 rfl rfl)
theorem dX0_fastest_65 : decode cX0_fastest 65 = .ok (.invokevirtual 247, 3) := dk_182 0 247 (dk_at dksX0_fastest_2 21 rfl rfl)
theorem dX0_fastest_68 : decode cX0_fastest 68 = .ok (.isub, 1) := dk_100 (dk_at dksX0_fastest_3 0 rfl rfl)
theorem dX0_fastest_69 : decode cX0_fastest 69 = .ok (.invokestatic 1, 3) := dk_184 0 1 (dk_at dksX0_fastest_3 1 rfl rfl)
theorem dX0_fastest_72 : decode cX0_fastest 72 = .ok (.istore_n 3, 1) := dk_62 (dk_at dksX0_fastest_3 4 rfl rfl)
theorem dX0_fastest_73 : decode cX0_fastest 73 = .ok (.iinc 4 1, 3) := dk_132 4 1 (dk_at dksX0_fastest_3 5 rfl rfl)
theorem dX0_fastest_76 : decode cX0_fastest 76 = .ok (.goto (-60), 3) := dk_167 255 196 (dk_at dksX0_fastest_3 8 rfl rfl)
theorem dX0_fastest_79 : decode cX0_fastest 79 = .ok (.iload_n 3, 1) := dk_29 (dk_at dksX0_fastest_3 11 rfl rfl)
theorem dX0_fastest_80 : decode cX0_fastest 80 = .ok (.sipush 1440, 3) := dk_17 5 160 (dk_at dksX0_fastest_3 12 rfl rfl)
theorem dX0_fastest_83 : decode cX0_fastest 83 = .ok (.if_icmp .lt 8, 3) := dk_161 0 8 (dk_at dksX0_fastest_3 15 rfl rfl)
theorem dX0_fastest_86 : decode cX0_fastest 86 = .ok (.bipush (-2), 2) := dk_16 254 (dk_at dksX0_fastest_3 18 rfl rfl)
theorem dX0_fastest_88 : decode cX0_fastest 88 = .ok (.goto 4, 3) := dk_167 0 4 (dk_at dksX0_fastest_3 20 rfl rfl)
theorem dX0_fastest_91 : decode cX0_fastest 91 = .ok (.iload_n 3, 1) := dk_29 (dk_at dksX0_fastest_3 23 rfl rfl)
theorem dX0_fastest_92 : decode cX0_fastest 92 = .ok (.ireturn, 1) := dk_172 (dk_at dksX0_fastest_4 0 rfl rfl)
abbrev cX0_best : ByteArray := prog_1_method_32_code
def yX0_best : MethodName := ⟨RX0, "best", "(III)I"⟩
def dkwX0_best_4 : List UInt8 := [167, 0, 10, 42, 180, 0, 106, 21, 5, 46, 172]
abbrev dktX0_best_4 : List UInt8 := dkwX0_best_4 ++ []
def dkwX0_best_3 : List UInt8 := [21, 5, 156, 0, 8, 16, 252, 167, 0, 27, 29, 17, 7, 208, 162, 0, 13, 42, 180, 0, 103, 21, 5, 46]
abbrev dktX0_best_3 : List UInt8 := dkwX0_best_3 ++ dktX0_best_4
def dkwX0_best_2 : List UInt8 := [54, 4, 29, 16, 100, 160, 0, 6, 21, 4, 172, 21, 4, 4, 100, 29, 17, 3, 232, 112, 100, 54, 5]
abbrev dktX0_best_2 : List UInt8 := dkwX0_best_2 ++ dktX0_best_3
def dkwX0_best_1 : List UInt8 := [154, 0, 18, 29, 17, 7, 208, 100, 16, 48, 184, 0, 16, 154, 0, 5, 2, 172, 42, 27, 28, 182, 0, 253]
abbrev dktX0_best_1 : List UInt8 := dkwX0_best_1 ++ dktX0_best_2
def dkwX0_best_0 : List UInt8 := [27, 28, 184, 0, 138, 153, 0, 35, 29, 16, 100, 159, 0, 31, 29, 17, 3, 232, 100, 16, 48, 184, 0, 16]
abbrev dktX0_best_0 : List UInt8 := dkwX0_best_0 ++ dktX0_best_1
theorem dksX0_best_0 : cX0_best.data.toList.drop 0 = dktX0_best_0 := by decide +kernel
theorem dksX0_best_1 : cX0_best.data.toList.drop 24 = dktX0_best_1 := dk_seg dksX0_best_0 24 rfl rfl
theorem dksX0_best_2 : cX0_best.data.toList.drop 48 = dktX0_best_2 := dk_seg dksX0_best_1 24 rfl rfl
theorem dksX0_best_3 : cX0_best.data.toList.drop 71 = dktX0_best_3 := dk_seg dksX0_best_2 23 rfl rfl
theorem dksX0_best_4 : cX0_best.data.toList.drop 95 = dktX0_best_4 := dk_seg dksX0_best_3 24 rfl rfl
theorem dX0_best_0 : decode cX0_best 0 = .ok (.iload_n 1, 1) := dk_27 (dk_at dksX0_best_0 0 rfl rfl)
theorem dX0_best_1 : decode cX0_best 1 = .ok (.iload_n 2, 1) := dk_28 (dk_at dksX0_best_0 1 rfl rfl)
theorem dX0_best_2 : decode cX0_best 2 = .ok (.invokestatic 138, 3) := dk_184 0 138 (dk_at dksX0_best_0 2 rfl rfl)
theorem dX0_best_5 : decode cX0_best 5 = .ok (.ifCond .eq 35, 3) := dk_153 0 35 (dk_at dksX0_best_0 5 rfl rfl)
theorem dX0_best_8 : decode cX0_best 8 = .ok (.iload_n 3, 1) := dk_29 (dk_at dksX0_best_0 8 rfl rfl)
theorem dX0_best_9 : decode cX0_best 9 = .ok (.bipush 100, 2) := dk_16 100 (dk_at dksX0_best_0 9 rfl rfl)
theorem dX0_best_11 : decode cX0_best 11 = .ok (.if_icmp .eq 31, 3) := dk_159 0 31 (dk_at dksX0_best_0 11 rfl rfl)
theorem dX0_best_14 : decode cX0_best 14 = .ok (.iload_n 3, 1) := dk_29 (dk_at dksX0_best_0 14 rfl rfl)
theorem dX0_best_15 : decode cX0_best 15 = .ok (.sipush 1000, 3) := dk_17 3 232 (dk_at dksX0_best_0 15 rfl rfl)
theorem dX0_best_18 : decode cX0_best 18 = .ok (.isub, 1) := dk_100 (dk_at dksX0_best_0 18 rfl rfl)
theorem dX0_best_19 : decode cX0_best 19 = .ok (.bipush 48, 2) := dk_16 48 (dk_at dksX0_best_0 19 rfl rfl)
theorem dX0_best_21 : decode cX0_best 21 = .ok (.invokestatic 16, 3) := dk_184 0 16 (dk_at dksX0_best_0 21 rfl rfl)
theorem dX0_best_24 : decode cX0_best 24 = .ok (.ifCond .ne 18, 3) := dk_154 0 18 (dk_at dksX0_best_1 0 rfl rfl)
theorem dX0_best_27 : decode cX0_best 27 = .ok (.iload_n 3, 1) := dk_29 (dk_at dksX0_best_1 3 rfl rfl)
theorem dX0_best_28 : decode cX0_best 28 = .ok (.sipush 2000, 3) := dk_17 7 208 (dk_at dksX0_best_1 4 rfl rfl)
theorem dX0_best_31 : decode cX0_best 31 = .ok (.isub, 1) := dk_100 (dk_at dksX0_best_1 7 rfl rfl)
theorem dX0_best_32 : decode cX0_best 32 = .ok (.bipush 48, 2) := dk_16 48 (dk_at dksX0_best_1 8 rfl rfl)
theorem dX0_best_34 : decode cX0_best 34 = .ok (.invokestatic 16, 3) := dk_184 0 16 (dk_at dksX0_best_1 10 rfl rfl)
theorem dX0_best_37 : decode cX0_best 37 = .ok (.ifCond .ne 5, 3) := dk_154 0 5 (dk_at dksX0_best_1 13 rfl rfl)
theorem dX0_best_40 : decode cX0_best 40 = .ok (.iconst (-1), 1) := dk_2 (dk_at dksX0_best_1 16 rfl rfl)
theorem dX0_best_41 : decode cX0_best 41 = .ok (.ireturn, 1) := dk_172 (dk_at dksX0_best_1 17 rfl rfl)
theorem dX0_best_42 : decode cX0_best 42 = .ok (.aload_n 0, 1) := dk_42 (dk_at dksX0_best_1 18 rfl rfl)
theorem dX0_best_43 : decode cX0_best 43 = .ok (.iload_n 1, 1) := dk_27 (dk_at dksX0_best_1 19 rfl rfl)
theorem dX0_best_44 : decode cX0_best 44 = .ok (.iload_n 2, 1) := dk_28 (dk_at dksX0_best_1 20 rfl rfl)
theorem dX0_best_45 : decode cX0_best 45 = .ok (.invokevirtual 253, 3) := dk_182 0 253 (dk_at dksX0_best_1 21 rfl rfl)
theorem dX0_best_48 : decode cX0_best 48 = .ok (.istore 4, 2) := dk_54 4 (dk_at dksX0_best_2 0 rfl rfl)
theorem dX0_best_50 : decode cX0_best 50 = .ok (.iload_n 3, 1) := dk_29 (dk_at dksX0_best_2 2 rfl rfl)
theorem dX0_best_51 : decode cX0_best 51 = .ok (.bipush 100, 2) := dk_16 100 (dk_at dksX0_best_2 3 rfl rfl)
theorem dX0_best_53 : decode cX0_best 53 = .ok (.if_icmp .ne 6, 3) := dk_160 0 6 (dk_at dksX0_best_2 5 rfl rfl)
theorem dX0_best_56 : decode cX0_best 56 = .ok (.iload 4, 2) := dk_21 4 (dk_at dksX0_best_2 8 rfl rfl)
theorem dX0_best_58 : decode cX0_best 58 = .ok (.ireturn, 1) := dk_172 (dk_at dksX0_best_2 10 rfl rfl)
theorem dX0_best_59 : decode cX0_best 59 = .ok (.iload 4, 2) := dk_21 4 (dk_at dksX0_best_2 11 rfl rfl)
theorem dX0_best_61 : decode cX0_best 61 = .ok (.iconst 1, 1) := dk_4 (dk_at dksX0_best_2 13 rfl rfl)
theorem dX0_best_62 : decode cX0_best 62 = .ok (.isub, 1) := dk_100 (dk_at dksX0_best_2 14 rfl rfl)
theorem dX0_best_63 : decode cX0_best 63 = .ok (.iload_n 3, 1) := dk_29 (dk_at dksX0_best_2 15 rfl rfl)
theorem dX0_best_64 : decode cX0_best 64 = .ok (.sipush 1000, 3) := dk_17 3 232 (dk_at dksX0_best_2 16 rfl rfl)
theorem dX0_best_67 : decode cX0_best 67 = .ok (.irem, 1) := dk_112 (dk_at dksX0_best_2 19 rfl rfl)
theorem dX0_best_68 : decode cX0_best 68 = .ok (.isub, 1) := dk_100 (dk_at dksX0_best_2 20 rfl rfl)
theorem dX0_best_69 : decode cX0_best 69 = .ok (.istore 5, 2) := dk_54 5 (dk_at dksX0_best_2 21 rfl rfl)
theorem dX0_best_71 : decode cX0_best 71 = .ok (.iload 5, 2) := dk_21 5 (dk_at dksX0_best_3 0 rfl rfl)
theorem dX0_best_73 : decode cX0_best 73 = .ok (.ifCond .ge 8, 3) := dk_156 0 8 (dk_at dksX0_best_3 2 rfl rfl)
theorem dX0_best_76 : decode cX0_best 76 = .ok (.bipush (-4), 2) := dk_16 252 (dk_at dksX0_best_3 5 rfl rfl)
theorem dX0_best_78 : decode cX0_best 78 = .ok (.goto 27, 3) := dk_167 0 27 (dk_at dksX0_best_3 7 rfl rfl)
theorem dX0_best_81 : decode cX0_best 81 = .ok (.iload_n 3, 1) := dk_29 (dk_at dksX0_best_3 10 rfl rfl)
theorem dX0_best_82 : decode cX0_best 82 = .ok (.sipush 2000, 3) := dk_17 7 208 (dk_at dksX0_best_3 11 rfl rfl)
theorem dX0_best_85 : decode cX0_best 85 = .ok (.if_icmp .ge 13, 3) := dk_162 0 13 (dk_at dksX0_best_3 14 rfl rfl)
theorem dX0_best_88 : decode cX0_best 88 = .ok (.aload_n 0, 1) := dk_42 (dk_at dksX0_best_3 17 rfl rfl)
theorem dX0_best_89 : decode cX0_best 89 = .ok (.getfield 103, 3) := dk_180 0 103 (dk_at dksX0_best_3 18 rfl rfl)
theorem dX0_best_92 : decode cX0_best 92 = .ok (.iload 5, 2) := dk_21 5 (dk_at dksX0_best_3 21 rfl rfl)
theorem dX0_best_94 : decode cX0_best 94 = .ok (.iaload, 1) := dk_46 (dk_at dksX0_best_3 23 rfl rfl)
theorem dX0_best_95 : decode cX0_best 95 = .ok (.goto 10, 3) := dk_167 0 10 (dk_at dksX0_best_4 0 rfl rfl)
theorem dX0_best_98 : decode cX0_best 98 = .ok (.aload_n 0, 1) := dk_42 (dk_at dksX0_best_4 3 rfl rfl)
theorem dX0_best_99 : decode cX0_best 99 = .ok (.getfield 106, 3) := dk_180 0 106 (dk_at dksX0_best_4 4 rfl rfl)
theorem dX0_best_102 : decode cX0_best 102 = .ok (.iload 5, 2) := dk_21 5 (dk_at dksX0_best_4 7 rfl rfl)
theorem dX0_best_104 : decode cX0_best 104 = .ok (.iaload, 1) := dk_46 (dk_at dksX0_best_4 9 rfl rfl)
theorem dX0_best_105 : decode cX0_best 105 = .ok (.ireturn, 1) := dk_172 (dk_at dksX0_best_4 10 rfl rfl)
abbrev cX0_laysBest : ByteArray := prog_1_method_31_code
def yX0_laysBest : MethodName := ⟨RX0, "laysBest", "(II)I"⟩
def dkwX0_laysBest_5 : List UInt8 := [180, 0, 106, 29, 21, 4, 79, 132, 3, 1, 132, 5, 255, 167, 255, 137, 29, 172]
abbrev dktX0_laysBest_5 : List UInt8 := dkwX0_laysBest_5 ++ []
def dkwX0_laysBest_4 : List UInt8 := [161, 0, 6, 167, 0, 30, 42, 180, 0, 97, 28, 46, 54, 4, 42, 180, 0, 103, 29, 21, 5, 79, 42]
abbrev dktX0_laysBest_4 : List UInt8 := dkwX0_laysBest_4 ++ dktX0_laysBest_5
def dkwX0_laysBest_3 : List UInt8 := [54, 6, 132, 7, 1, 167, 255, 202, 21, 6, 153, 0, 46, 42, 27, 28, 21, 5, 182, 0, 250, 21, 4]
abbrev dktX0_laysBest_3 : List UInt8 := dkwX0_laysBest_3 ++ dktX0_laysBest_4
def dkwX0_laysBest_2 : List UInt8 := [153, 0, 23, 42, 180, 0, 24, 21, 7, 50, 27, 182, 0, 247, 21, 5, 160, 0, 7, 4, 167, 0, 4, 3]
abbrev dktX0_laysBest_2 : List UInt8 := dkwX0_laysBest_2 ++ dktX0_laysBest_3
def dkwX0_laysBest_1 : List UInt8 := [42, 180, 0, 10, 162, 0, 51, 21, 6, 154, 0, 33, 42, 180, 0, 24, 21, 7, 50, 27, 182, 0, 244]
abbrev dktX0_laysBest_1 : List UInt8 := dkwX0_laysBest_1 ++ dktX0_laysBest_2
def dkwX0_laysBest_0 : List UInt8 := [3, 62, 18, 235, 54, 4, 17, 5, 159, 54, 5, 21, 5, 155, 0, 120, 3, 54, 6, 3, 54, 7, 21, 7]
abbrev dktX0_laysBest_0 : List UInt8 := dkwX0_laysBest_0 ++ dktX0_laysBest_1
theorem dksX0_laysBest_0 : cX0_laysBest.data.toList.drop 0 = dktX0_laysBest_0 := by decide +kernel
theorem dksX0_laysBest_1 : cX0_laysBest.data.toList.drop 24 = dktX0_laysBest_1 := dk_seg dksX0_laysBest_0 24 rfl rfl
theorem dksX0_laysBest_2 : cX0_laysBest.data.toList.drop 47 = dktX0_laysBest_2 := dk_seg dksX0_laysBest_1 23 rfl rfl
theorem dksX0_laysBest_3 : cX0_laysBest.data.toList.drop 71 = dktX0_laysBest_3 := dk_seg dksX0_laysBest_2 24 rfl rfl
theorem dksX0_laysBest_4 : cX0_laysBest.data.toList.drop 94 = dktX0_laysBest_4 := dk_seg dksX0_laysBest_3 23 rfl rfl
theorem dksX0_laysBest_5 : cX0_laysBest.data.toList.drop 117 = dktX0_laysBest_5 := dk_seg dksX0_laysBest_4 23 rfl rfl
theorem dX0_laysBest_0 : decode cX0_laysBest 0 = .ok (.iconst 0, 1) := dk_3 (dk_at dksX0_laysBest_0 0 rfl rfl)
theorem dX0_laysBest_1 : decode cX0_laysBest 1 = .ok (.istore_n 3, 1) := dk_62 (dk_at dksX0_laysBest_0 1 rfl rfl)
theorem dX0_laysBest_2 : decode cX0_laysBest 2 = .ok (.ldc 235, 2) := dk_18 235 (dk_at dksX0_laysBest_0 2 rfl rfl)
theorem dX0_laysBest_4 : decode cX0_laysBest 4 = .ok (.istore 4, 2) := dk_54 4 (dk_at dksX0_laysBest_0 4 rfl rfl)
theorem dX0_laysBest_6 : decode cX0_laysBest 6 = .ok (.sipush 1439, 3) := dk_17 5 159 (dk_at dksX0_laysBest_0 6 rfl rfl)
theorem dX0_laysBest_9 : decode cX0_laysBest 9 = .ok (.istore 5, 2) := dk_54 5 (dk_at dksX0_laysBest_0 9 rfl rfl)
theorem dX0_laysBest_11 : decode cX0_laysBest 11 = .ok (.iload 5, 2) := dk_21 5 (dk_at dksX0_laysBest_0 11 rfl rfl)
theorem dX0_laysBest_13 : decode cX0_laysBest 13 = .ok (.ifCond .lt 120, 3) := dk_155 0 120 (dk_at dksX0_laysBest_0 13 rfl rfl)
theorem dX0_laysBest_16 : decode cX0_laysBest 16 = .ok (.iconst 0, 1) := dk_3 (dk_at dksX0_laysBest_0 16 rfl rfl)
theorem dX0_laysBest_17 : decode cX0_laysBest 17 = .ok (.istore 6, 2) := dk_54 6 (dk_at dksX0_laysBest_0 17 rfl rfl)
theorem dX0_laysBest_19 : decode cX0_laysBest 19 = .ok (.iconst 0, 1) := dk_3 (dk_at dksX0_laysBest_0 19 rfl rfl)
theorem dX0_laysBest_20 : decode cX0_laysBest 20 = .ok (.istore 7, 2) := dk_54 7 (dk_at dksX0_laysBest_0 20 rfl rfl)
theorem dX0_laysBest_22 : decode cX0_laysBest 22 = .ok (.iload 7, 2) := dk_21 7 (dk_at dksX0_laysBest_0 22 rfl rfl)
theorem dX0_laysBest_24 : decode cX0_laysBest 24 = .ok (.aload_n 0, 1) := dk_42 (dk_at dksX0_laysBest_1 0 rfl rfl)
theorem dX0_laysBest_25 : decode cX0_laysBest 25 = .ok (.getfield 10, 3) := dk_180 0 10 (dk_at dksX0_laysBest_1 1 rfl rfl)
theorem dX0_laysBest_28 : decode cX0_laysBest 28 = .ok (.if_icmp .ge 51, 3) := dk_162 0 51 (dk_at dksX0_laysBest_1 4 rfl rfl)
theorem dX0_laysBest_31 : decode cX0_laysBest 31 = .ok (.iload 6, 2) := dk_21 6 (dk_at dksX0_laysBest_1 7 rfl rfl)
theorem dX0_laysBest_33 : decode cX0_laysBest 33 = .ok (.ifCond .ne 33, 3) := dk_154 0 33 (dk_at dksX0_laysBest_1 9 rfl rfl)
theorem dX0_laysBest_36 : decode cX0_laysBest 36 = .ok (.aload_n 0, 1) := dk_42 (dk_at dksX0_laysBest_1 12 rfl rfl)
theorem dX0_laysBest_37 : decode cX0_laysBest 37 = .ok (.getfield 24, 3) := dk_180 0 24 (dk_at dksX0_laysBest_1 13 rfl rfl)
theorem dX0_laysBest_40 : decode cX0_laysBest 40 = .ok (.iload 7, 2) := dk_21 7 (dk_at dksX0_laysBest_1 16 rfl rfl)
theorem dX0_laysBest_42 : decode cX0_laysBest 42 = .ok (.aaload, 1) := dk_50 (dk_at dksX0_laysBest_1 18 rfl rfl)
theorem dX0_laysBest_43 : decode cX0_laysBest 43 = .ok (.iload_n 1, 1) := dk_27 (dk_at dksX0_laysBest_1 19 rfl rfl)
theorem dX0_laysBest_44 : decode cX0_laysBest 44 = .ok (.invokevirtual 244, 3) := dk_182 0 244 (dk_at dksX0_laysBest_1 20 rfl rfl)
theorem dX0_laysBest_47 : decode cX0_laysBest 47 = .ok (.ifCond .eq 23, 3) := dk_153 0 23 (dk_at dksX0_laysBest_2 0 rfl rfl)
theorem dX0_laysBest_50 : decode cX0_laysBest 50 = .ok (.aload_n 0, 1) := dk_42 (dk_at dksX0_laysBest_2 3 rfl rfl)
theorem dX0_laysBest_51 : decode cX0_laysBest 51 = .ok (.getfield 24, 3) := dk_180 0 24 (dk_at dksX0_laysBest_2 4 rfl rfl)
theorem dX0_laysBest_54 : decode cX0_laysBest 54 = .ok (.iload 7, 2) := dk_21 7 (dk_at dksX0_laysBest_2 7 rfl rfl)
theorem dX0_laysBest_56 : decode cX0_laysBest 56 = .ok (.aaload, 1) := dk_50 (dk_at dksX0_laysBest_2 9 rfl rfl)
theorem dX0_laysBest_57 : decode cX0_laysBest 57 = .ok (.iload_n 1, 1) := dk_27 (dk_at dksX0_laysBest_2 10 rfl rfl)
theorem dX0_laysBest_58 : decode cX0_laysBest 58 = .ok (.invokevirtual 247, 3) := dk_182 0 247 (dk_at dksX0_laysBest_2 11 rfl rfl)
theorem dX0_laysBest_61 : decode cX0_laysBest 61 = .ok (.iload 5, 2) := dk_21 5 (dk_at dksX0_laysBest_2 14 rfl rfl)
theorem dX0_laysBest_63 : decode cX0_laysBest 63 = .ok (.if_icmp .ne 7, 3) := dk_160 0 7 (dk_at dksX0_laysBest_2 16 rfl rfl)
theorem dX0_laysBest_66 : decode cX0_laysBest 66 = .ok (.iconst 1, 1) := dk_4 (dk_at dksX0_laysBest_2 19 rfl rfl)
theorem dX0_laysBest_67 : decode cX0_laysBest 67 = .ok (.goto 4, 3) := dk_167 0 4 (dk_at dksX0_laysBest_2 20 rfl rfl)
theorem dX0_laysBest_70 : decode cX0_laysBest 70 = .ok (.iconst 0, 1) := dk_3 (dk_at dksX0_laysBest_2 23 rfl rfl)
theorem dX0_laysBest_71 : decode cX0_laysBest 71 = .ok (.istore 6, 2) := dk_54 6 (dk_at dksX0_laysBest_3 0 rfl rfl)
theorem dX0_laysBest_73 : decode cX0_laysBest 73 = .ok (.iinc 7 1, 3) := dk_132 7 1 (dk_at dksX0_laysBest_3 2 rfl rfl)
theorem dX0_laysBest_76 : decode cX0_laysBest 76 = .ok (.goto (-54), 3) := dk_167 255 202 (dk_at dksX0_laysBest_3 5 rfl rfl)
theorem dX0_laysBest_79 : decode cX0_laysBest 79 = .ok (.iload 6, 2) := dk_21 6 (dk_at dksX0_laysBest_3 8 rfl rfl)
theorem dX0_laysBest_81 : decode cX0_laysBest 81 = .ok (.ifCond .eq 46, 3) := dk_153 0 46 (dk_at dksX0_laysBest_3 10 rfl rfl)
theorem dX0_laysBest_84 : decode cX0_laysBest 84 = .ok (.aload_n 0, 1) := dk_42 (dk_at dksX0_laysBest_3 13 rfl rfl)
theorem dX0_laysBest_85 : decode cX0_laysBest 85 = .ok (.iload_n 1, 1) := dk_27 (dk_at dksX0_laysBest_3 14 rfl rfl)
theorem dX0_laysBest_86 : decode cX0_laysBest 86 = .ok (.iload_n 2, 1) := dk_28 (dk_at dksX0_laysBest_3 15 rfl rfl)
theorem dX0_laysBest_87 : decode cX0_laysBest 87 = .ok (.iload 5, 2) := dk_21 5 (dk_at dksX0_laysBest_3 16 rfl rfl)
theorem dX0_laysBest_89 : decode cX0_laysBest 89 = .ok (.invokevirtual 250, 3) := dk_182 0 250 (dk_at dksX0_laysBest_3 18 rfl rfl)
theorem dX0_laysBest_92 : decode cX0_laysBest 92 = .ok (.iload 4, 2) := dk_21 4 (dk_at dksX0_laysBest_3 21 rfl rfl)
theorem dX0_laysBest_94 : decode cX0_laysBest 94 = .ok (.if_icmp .lt 6, 3) := dk_161 0 6 (dk_at dksX0_laysBest_4 0 rfl rfl)
theorem dX0_laysBest_97 : decode cX0_laysBest 97 = .ok (.goto 30, 3) := dk_167 0 30 (dk_at dksX0_laysBest_4 3 rfl rfl)
theorem dX0_laysBest_100 : decode cX0_laysBest 100 = .ok (.aload_n 0, 1) := dk_42 (dk_at dksX0_laysBest_4 6 rfl rfl)
theorem dX0_laysBest_101 : decode cX0_laysBest 101 = .ok (.getfield 97, 3) := dk_180 0 97 (dk_at dksX0_laysBest_4 7 rfl rfl)
theorem dX0_laysBest_104 : decode cX0_laysBest 104 = .ok (.iload_n 2, 1) := dk_28 (dk_at dksX0_laysBest_4 10 rfl rfl)
theorem dX0_laysBest_105 : decode cX0_laysBest 105 = .ok (.iaload, 1) := dk_46 (dk_at dksX0_laysBest_4 11 rfl rfl)
theorem dX0_laysBest_106 : decode cX0_laysBest 106 = .ok (.istore 4, 2) := dk_54 4 (dk_at dksX0_laysBest_4 12 rfl rfl)
theorem dX0_laysBest_108 : decode cX0_laysBest 108 = .ok (.aload_n 0, 1) := dk_42 (dk_at dksX0_laysBest_4 14 rfl rfl)
theorem dX0_laysBest_109 : decode cX0_laysBest 109 = .ok (.getfield 103, 3) := dk_180 0 103 (dk_at dksX0_laysBest_4 15 rfl rfl)
theorem dX0_laysBest_112 : decode cX0_laysBest 112 = .ok (.iload_n 3, 1) := dk_29 (dk_at dksX0_laysBest_4 18 rfl rfl)
theorem dX0_laysBest_113 : decode cX0_laysBest 113 = .ok (.iload 5, 2) := dk_21 5 (dk_at dksX0_laysBest_4 19 rfl rfl)
theorem dX0_laysBest_115 : decode cX0_laysBest 115 = .ok (.iastore, 1) := dk_79 (dk_at dksX0_laysBest_4 21 rfl rfl)
theorem dX0_laysBest_116 : decode cX0_laysBest 116 = .ok (.aload_n 0, 1) := dk_42 (dk_at dksX0_laysBest_4 22 rfl rfl)
theorem dX0_laysBest_117 : decode cX0_laysBest 117 = .ok (.getfield 106, 3) := dk_180 0 106 (dk_at dksX0_laysBest_5 0 rfl rfl)
theorem dX0_laysBest_120 : decode cX0_laysBest 120 = .ok (.iload_n 3, 1) := dk_29 (dk_at dksX0_laysBest_5 3 rfl rfl)
theorem dX0_laysBest_121 : decode cX0_laysBest 121 = .ok (.iload 4, 2) := dk_21 4 (dk_at dksX0_laysBest_5 4 rfl rfl)
theorem dX0_laysBest_123 : decode cX0_laysBest 123 = .ok (.iastore, 1) := dk_79 (dk_at dksX0_laysBest_5 6 rfl rfl)
theorem dX0_laysBest_124 : decode cX0_laysBest 124 = .ok (.iinc 3 1, 3) := dk_132 3 1 (dk_at dksX0_laysBest_5 7 rfl rfl)
theorem dX0_laysBest_127 : decode cX0_laysBest 127 = .ok (.iinc 5 (-1), 3) := dk_132 5 255 (dk_at dksX0_laysBest_5 10 rfl rfl)
theorem dX0_laysBest_130 : decode cX0_laysBest 130 = .ok (.goto (-119), 3) := dk_167 255 137 (dk_at dksX0_laysBest_5 13 rfl rfl)
theorem dX0_laysBest_133 : decode cX0_laysBest 133 = .ok (.iload_n 3, 1) := dk_29 (dk_at dksX0_laysBest_5 16 rfl rfl)
theorem dX0_laysBest_134 : decode cX0_laysBest 134 = .ok (.ireturn, 1) := dk_172 (dk_at dksX0_laysBest_5 17 rfl rfl)
abbrev cX0_comeTo : ByteArray := prog_1_method_33_code
def yX0_comeTo : MethodName := ⟨RX0, "comeTo", "(II)I"⟩
def dkwX0_comeTo_3 : List UInt8 := [167, 255, 221, 21, 4, 172]
abbrev dktX0_comeTo_3 : List UInt8 := dkwX0_comeTo_3 ++ []
def dkwX0_comeTo_2 : List UInt8 := [21, 5, 46, 18, 235, 162, 0, 10, 4, 21, 5, 120, 167, 0, 4, 3, 128, 54, 4, 132, 5, 1]
abbrev dktX0_comeTo_2 : List UInt8 := dkwX0_comeTo_2 ++ dktX0_comeTo_3
def dkwX0_comeTo_1 : List UInt8 := [182, 0, 240, 62, 3, 54, 4, 3, 54, 5, 21, 5, 16, 10, 162, 0, 34, 21, 4, 42, 180, 0, 97]
abbrev dktX0_comeTo_1 : List UInt8 := dkwX0_comeTo_1 ++ dktX0_comeTo_2
def dkwX0_comeTo_0 : List UInt8 := [27, 184, 0, 20, 153, 0, 13, 28, 17, 5, 160, 184, 0, 16, 154, 0, 5, 2, 172, 42, 27, 28, 27]
abbrev dktX0_comeTo_0 : List UInt8 := dkwX0_comeTo_0 ++ dktX0_comeTo_1
theorem dksX0_comeTo_0 : cX0_comeTo.data.toList.drop 0 = dktX0_comeTo_0 := by decide +kernel
theorem dksX0_comeTo_1 : cX0_comeTo.data.toList.drop 23 = dktX0_comeTo_1 := dk_seg dksX0_comeTo_0 23 rfl rfl
theorem dksX0_comeTo_2 : cX0_comeTo.data.toList.drop 46 = dktX0_comeTo_2 := dk_seg dksX0_comeTo_1 23 rfl rfl
theorem dksX0_comeTo_3 : cX0_comeTo.data.toList.drop 68 = dktX0_comeTo_3 := dk_seg dksX0_comeTo_2 22 rfl rfl
theorem dX0_comeTo_0 : decode cX0_comeTo 0 = .ok (.iload_n 1, 1) := dk_27 (dk_at dksX0_comeTo_0 0 rfl rfl)
theorem dX0_comeTo_1 : decode cX0_comeTo 1 = .ok (.invokestatic 20, 3) := dk_184 0 20 (dk_at dksX0_comeTo_0 1 rfl rfl)
theorem dX0_comeTo_4 : decode cX0_comeTo 4 = .ok (.ifCond .eq 13, 3) := dk_153 0 13 (dk_at dksX0_comeTo_0 4 rfl rfl)
theorem dX0_comeTo_7 : decode cX0_comeTo 7 = .ok (.iload_n 2, 1) := dk_28 (dk_at dksX0_comeTo_0 7 rfl rfl)
theorem dX0_comeTo_8 : decode cX0_comeTo 8 = .ok (.sipush 1440, 3) := dk_17 5 160 (dk_at dksX0_comeTo_0 8 rfl rfl)
theorem dX0_comeTo_11 : decode cX0_comeTo 11 = .ok (.invokestatic 16, 3) := dk_184 0 16 (dk_at dksX0_comeTo_0 11 rfl rfl)
theorem dX0_comeTo_14 : decode cX0_comeTo 14 = .ok (.ifCond .ne 5, 3) := dk_154 0 5 (dk_at dksX0_comeTo_0 14 rfl rfl)
theorem dX0_comeTo_17 : decode cX0_comeTo 17 = .ok (.iconst (-1), 1) := dk_2 (dk_at dksX0_comeTo_0 17 rfl rfl)
theorem dX0_comeTo_18 : decode cX0_comeTo 18 = .ok (.ireturn, 1) := dk_172 (dk_at dksX0_comeTo_0 18 rfl rfl)
theorem dX0_comeTo_19 : decode cX0_comeTo 19 = .ok (.aload_n 0, 1) := dk_42 (dk_at dksX0_comeTo_0 19 rfl rfl)
theorem dX0_comeTo_20 : decode cX0_comeTo 20 = .ok (.iload_n 1, 1) := dk_27 (dk_at dksX0_comeTo_0 20 rfl rfl)
theorem dX0_comeTo_21 : decode cX0_comeTo 21 = .ok (.iload_n 2, 1) := dk_28 (dk_at dksX0_comeTo_0 21 rfl rfl)
theorem dX0_comeTo_22 : decode cX0_comeTo 22 = .ok (.iload_n 1, 1) := dk_27 (dk_at dksX0_comeTo_0 22 rfl rfl)
theorem dX0_comeTo_23 : decode cX0_comeTo 23 = .ok (.invokevirtual 240, 3) := dk_182 0 240 (dk_at dksX0_comeTo_1 0 rfl rfl)
theorem dX0_comeTo_26 : decode cX0_comeTo 26 = .ok (.istore_n 3, 1) := dk_62 (dk_at dksX0_comeTo_1 3 rfl rfl)
theorem dX0_comeTo_27 : decode cX0_comeTo 27 = .ok (.iconst 0, 1) := dk_3 (dk_at dksX0_comeTo_1 4 rfl rfl)
theorem dX0_comeTo_28 : decode cX0_comeTo 28 = .ok (.istore 4, 2) := dk_54 4 (dk_at dksX0_comeTo_1 5 rfl rfl)
theorem dX0_comeTo_30 : decode cX0_comeTo 30 = .ok (.iconst 0, 1) := dk_3 (dk_at dksX0_comeTo_1 7 rfl rfl)
theorem dX0_comeTo_31 : decode cX0_comeTo 31 = .ok (.istore 5, 2) := dk_54 5 (dk_at dksX0_comeTo_1 8 rfl rfl)
theorem dX0_comeTo_33 : decode cX0_comeTo 33 = .ok (.iload 5, 2) := dk_21 5 (dk_at dksX0_comeTo_1 10 rfl rfl)
theorem dX0_comeTo_35 : decode cX0_comeTo 35 = .ok (.bipush 10, 2) := dk_16 10 (dk_at dksX0_comeTo_1 12 rfl rfl)
theorem dX0_comeTo_37 : decode cX0_comeTo 37 = .ok (.if_icmp .ge 34, 3) := dk_162 0 34 (dk_at dksX0_comeTo_1 14 rfl rfl)
theorem dX0_comeTo_40 : decode cX0_comeTo 40 = .ok (.iload 4, 2) := dk_21 4 (dk_at dksX0_comeTo_1 17 rfl rfl)
theorem dX0_comeTo_42 : decode cX0_comeTo 42 = .ok (.aload_n 0, 1) := dk_42 (dk_at dksX0_comeTo_1 19 rfl rfl)
theorem dX0_comeTo_43 : decode cX0_comeTo 43 = .ok (.getfield 97, 3) := dk_180 0 97 (dk_at dksX0_comeTo_1 20 rfl rfl)
theorem dX0_comeTo_46 : decode cX0_comeTo 46 = .ok (.iload 5, 2) := dk_21 5 (dk_at dksX0_comeTo_2 0 rfl rfl)
theorem dX0_comeTo_48 : decode cX0_comeTo 48 = .ok (.iaload, 1) := dk_46 (dk_at dksX0_comeTo_2 2 rfl rfl)
theorem dX0_comeTo_49 : decode cX0_comeTo 49 = .ok (.ldc 235, 2) := dk_18 235 (dk_at dksX0_comeTo_2 3 rfl rfl)
theorem dX0_comeTo_51 : decode cX0_comeTo 51 = .ok (.if_icmp .ge 10, 3) := dk_162 0 10 (dk_at dksX0_comeTo_2 5 rfl rfl)
theorem dX0_comeTo_54 : decode cX0_comeTo 54 = .ok (.iconst 1, 1) := dk_4 (dk_at dksX0_comeTo_2 8 rfl rfl)
theorem dX0_comeTo_55 : decode cX0_comeTo 55 = .ok (.iload 5, 2) := dk_21 5 (dk_at dksX0_comeTo_2 9 rfl rfl)
theorem dX0_comeTo_57 : decode cX0_comeTo 57 = .ok (.ishl, 1) := dk_120 (dk_at dksX0_comeTo_2 11 rfl rfl)
theorem dX0_comeTo_58 : decode cX0_comeTo 58 = .ok (.goto 4, 3) := dk_167 0 4 (dk_at dksX0_comeTo_2 12 rfl rfl)
theorem dX0_comeTo_61 : decode cX0_comeTo 61 = .ok (.iconst 0, 1) := dk_3 (dk_at dksX0_comeTo_2 15 rfl rfl)
theorem dX0_comeTo_62 : decode cX0_comeTo 62 = .ok (.ior, 1) := dk_128 (dk_at dksX0_comeTo_2 16 rfl rfl)
theorem dX0_comeTo_63 : decode cX0_comeTo 63 = .ok (.istore 4, 2) := dk_54 4 (dk_at dksX0_comeTo_2 17 rfl rfl)
theorem dX0_comeTo_65 : decode cX0_comeTo 65 = .ok (.iinc 5 1, 3) := dk_132 5 1 (dk_at dksX0_comeTo_2 19 rfl rfl)
theorem dX0_comeTo_68 : decode cX0_comeTo 68 = .ok (.goto (-35), 3) := dk_167 255 221 (dk_at dksX0_comeTo_3 0 rfl rfl)
theorem dX0_comeTo_71 : decode cX0_comeTo 71 = .ok (.iload 4, 2) := dk_21 4 (dk_at dksX0_comeTo_3 3 rfl rfl)
theorem dX0_comeTo_73 : decode cX0_comeTo 73 = .ok (.ireturn, 1) := dk_172 (dk_at dksX0_comeTo_3 5 rfl rfl)
abbrev cX0_direct : ByteArray := prog_1_method_34_code
def yX0_direct : MethodName := ⟨RX0, "direct", "(III)I"⟩
def dkwX0_direct_5 : List UInt8 := [132, 4, 1, 132, 7, 1, 167, 255, 163, 29, 154, 0, 8, 21, 4, 167, 0, 5, 21, 5, 172]
abbrev dktX0_direct_5 : List UInt8 := dkwX0_direct_5 ++ []
def dkwX0_direct_4 : List UInt8 := [21, 5, 42, 21, 7, 182, 0, 44, 21, 6, 100, 184, 0, 7, 54, 5, 42, 21, 7, 182, 0, 44, 54, 6]
abbrev dktX0_direct_4 : List UInt8 := dkwX0_direct_4 ++ dktX0_direct_5
def dkwX0_direct_3 : List UInt8 := [180, 0, 37, 21, 7, 46, 46, 27, 159, 0, 6, 167, 0, 40, 21, 6, 2, 160, 0, 7, 3, 167, 0, 17]
abbrev dktX0_direct_3 : List UInt8 := dkwX0_direct_3 ++ dktX0_direct_4
def dkwX0_direct_2 : List UInt8 := [21, 7, 46, 50, 58, 8, 25, 8, 27, 28, 182, 1, 0, 153, 0, 60, 25, 8, 180, 0, 232, 42]
abbrev dktX0_direct_2 : List UInt8 := dkwX0_direct_2 ++ dktX0_direct_3
def dkwX0_direct_1 : List UInt8 := [2, 54, 6, 3, 54, 7, 21, 7, 42, 180, 0, 40, 162, 0, 90, 42, 180, 0, 24, 42, 180, 0, 28]
abbrev dktX0_direct_1 : List UInt8 := dkwX0_direct_1 ++ dktX0_direct_2
def dkwX0_direct_0 : List UInt8 := [27, 28, 184, 0, 138, 153, 0, 11, 29, 5, 184, 0, 16, 154, 0, 5, 2, 172, 3, 54, 4, 3, 54, 5]
abbrev dktX0_direct_0 : List UInt8 := dkwX0_direct_0 ++ dktX0_direct_1
theorem dksX0_direct_0 : cX0_direct.data.toList.drop 0 = dktX0_direct_0 := by decide +kernel
theorem dksX0_direct_1 : cX0_direct.data.toList.drop 24 = dktX0_direct_1 := dk_seg dksX0_direct_0 24 rfl rfl
theorem dksX0_direct_2 : cX0_direct.data.toList.drop 47 = dktX0_direct_2 := dk_seg dksX0_direct_1 23 rfl rfl
theorem dksX0_direct_3 : cX0_direct.data.toList.drop 69 = dktX0_direct_3 := dk_seg dksX0_direct_2 22 rfl rfl
theorem dksX0_direct_4 : cX0_direct.data.toList.drop 93 = dktX0_direct_4 := dk_seg dksX0_direct_3 24 rfl rfl
theorem dksX0_direct_5 : cX0_direct.data.toList.drop 117 = dktX0_direct_5 := dk_seg dksX0_direct_4 24 rfl rfl
theorem dX0_direct_0 : decode cX0_direct 0 = .ok (.iload_n 1, 1) := dk_27 (dk_at dksX0_direct_0 0 rfl rfl)
theorem dX0_direct_1 : decode cX0_direct 1 = .ok (.iload_n 2, 1) := dk_28 (dk_at dksX0_direct_0 1 rfl rfl)
theorem dX0_direct_2 : decode cX0_direct 2 = .ok (.invokestatic 138, 3) := dk_184 0 138 (dk_at dksX0_direct_0 2 rfl rfl)
theorem dX0_direct_5 : decode cX0_direct 5 = .ok (.ifCond .eq 11, 3) := dk_153 0 11 (dk_at dksX0_direct_0 5 rfl rfl)
theorem dX0_direct_8 : decode cX0_direct 8 = .ok (.iload_n 3, 1) := dk_29 (dk_at dksX0_direct_0 8 rfl rfl)
theorem dX0_direct_9 : decode cX0_direct 9 = .ok (.iconst 2, 1) := dk_5 (dk_at dksX0_direct_0 9 rfl rfl)
theorem dX0_direct_10 : decode cX0_direct 10 = .ok (.invokestatic 16, 3) := dk_184 0 16 (dk_at dksX0_direct_0 10 rfl rfl)
theorem dX0_direct_13 : decode cX0_direct 13 = .ok (.ifCond .ne 5, 3) := dk_154 0 5 (dk_at dksX0_direct_0 13 rfl rfl)
theorem dX0_direct_16 : decode cX0_direct 16 = .ok (.iconst (-1), 1) := dk_2 (dk_at dksX0_direct_0 16 rfl rfl)
theorem dX0_direct_17 : decode cX0_direct 17 = .ok (.ireturn, 1) := dk_172 (dk_at dksX0_direct_0 17 rfl rfl)
theorem dX0_direct_18 : decode cX0_direct 18 = .ok (.iconst 0, 1) := dk_3 (dk_at dksX0_direct_0 18 rfl rfl)
theorem dX0_direct_19 : decode cX0_direct 19 = .ok (.istore 4, 2) := dk_54 4 (dk_at dksX0_direct_0 19 rfl rfl)
theorem dX0_direct_21 : decode cX0_direct 21 = .ok (.iconst 0, 1) := dk_3 (dk_at dksX0_direct_0 21 rfl rfl)
theorem dX0_direct_22 : decode cX0_direct 22 = .ok (.istore 5, 2) := dk_54 5 (dk_at dksX0_direct_0 22 rfl rfl)
theorem dX0_direct_24 : decode cX0_direct 24 = .ok (.iconst (-1), 1) := dk_2 (dk_at dksX0_direct_1 0 rfl rfl)
theorem dX0_direct_25 : decode cX0_direct 25 = .ok (.istore 6, 2) := dk_54 6 (dk_at dksX0_direct_1 1 rfl rfl)
theorem dX0_direct_27 : decode cX0_direct 27 = .ok (.iconst 0, 1) := dk_3 (dk_at dksX0_direct_1 3 rfl rfl)
theorem dX0_direct_28 : decode cX0_direct 28 = .ok (.istore 7, 2) := dk_54 7 (dk_at dksX0_direct_1 4 rfl rfl)
theorem dX0_direct_30 : decode cX0_direct 30 = .ok (.iload 7, 2) := dk_21 7 (dk_at dksX0_direct_1 6 rfl rfl)
theorem dX0_direct_32 : decode cX0_direct 32 = .ok (.aload_n 0, 1) := dk_42 (dk_at dksX0_direct_1 8 rfl rfl)
theorem dX0_direct_33 : decode cX0_direct 33 = .ok (.getfield 40, 3) := dk_180 0 40 (dk_at dksX0_direct_1 9 rfl rfl)
theorem dX0_direct_36 : decode cX0_direct 36 = .ok (.if_icmp .ge 90, 3) := dk_162 0 90 (dk_at dksX0_direct_1 12 rfl rfl)
theorem dX0_direct_39 : decode cX0_direct 39 = .ok (.aload_n 0, 1) := dk_42 (dk_at dksX0_direct_1 15 rfl rfl)
theorem dX0_direct_40 : decode cX0_direct 40 = .ok (.getfield 24, 3) := dk_180 0 24 (dk_at dksX0_direct_1 16 rfl rfl)
theorem dX0_direct_43 : decode cX0_direct 43 = .ok (.aload_n 0, 1) := dk_42 (dk_at dksX0_direct_1 19 rfl rfl)
theorem dX0_direct_44 : decode cX0_direct 44 = .ok (.getfield 28, 3) := dk_180 0 28 (dk_at dksX0_direct_1 20 rfl rfl)
theorem dX0_direct_47 : decode cX0_direct 47 = .ok (.iload 7, 2) := dk_21 7 (dk_at dksX0_direct_2 0 rfl rfl)
theorem dX0_direct_49 : decode cX0_direct 49 = .ok (.iaload, 1) := dk_46 (dk_at dksX0_direct_2 2 rfl rfl)
theorem dX0_direct_50 : decode cX0_direct 50 = .ok (.aaload, 1) := dk_50 (dk_at dksX0_direct_2 3 rfl rfl)
theorem dX0_direct_51 : decode cX0_direct 51 = .ok (.astore 8, 2) := dk_58 8 (dk_at dksX0_direct_2 4 rfl rfl)
theorem dX0_direct_53 : decode cX0_direct 53 = .ok (.aload 8, 2) := dk_25 8 (dk_at dksX0_direct_2 6 rfl rfl)
theorem dX0_direct_55 : decode cX0_direct 55 = .ok (.iload_n 1, 1) := dk_27 (dk_at dksX0_direct_2 8 rfl rfl)
theorem dX0_direct_56 : decode cX0_direct 56 = .ok (.iload_n 2, 1) := dk_28 (dk_at dksX0_direct_2 9 rfl rfl)
theorem dX0_direct_57 : decode cX0_direct 57 = .ok (.invokevirtual 256, 3) := dk_182 1 0 (dk_at dksX0_direct_2 10 rfl rfl)
theorem dX0_direct_60 : decode cX0_direct 60 = .ok (.ifCond .eq 60, 3) := dk_153 0 60 (dk_at dksX0_direct_2 13 rfl rfl)
theorem dX0_direct_63 : decode cX0_direct 63 = .ok (.aload 8, 2) := dk_25 8 (dk_at dksX0_direct_2 16 rfl rfl)
theorem dX0_direct_65 : decode cX0_direct 65 = .ok (.getfield 232, 3) := dk_180 0 232 (dk_at dksX0_direct_2 18 rfl rfl)
theorem dX0_direct_68 : decode cX0_direct 68 = .ok (.aload_n 0, 1) := dk_42 (dk_at dksX0_direct_2 21 rfl rfl)
theorem dX0_direct_69 : decode cX0_direct 69 = .ok (.getfield 37, 3) := dk_180 0 37 (dk_at dksX0_direct_3 0 rfl rfl)
theorem dX0_direct_72 : decode cX0_direct 72 = .ok (.iload 7, 2) := dk_21 7 (dk_at dksX0_direct_3 3 rfl rfl)
theorem dX0_direct_74 : decode cX0_direct 74 = .ok (.iaload, 1) := dk_46 (dk_at dksX0_direct_3 5 rfl rfl)
theorem dX0_direct_75 : decode cX0_direct 75 = .ok (.iaload, 1) := dk_46 (dk_at dksX0_direct_3 6 rfl rfl)
theorem dX0_direct_76 : decode cX0_direct 76 = .ok (.iload_n 1, 1) := dk_27 (dk_at dksX0_direct_3 7 rfl rfl)
theorem dX0_direct_77 : decode cX0_direct 77 = .ok (.if_icmp .eq 6, 3) := dk_159 0 6 (dk_at dksX0_direct_3 8 rfl rfl)
theorem dX0_direct_80 : decode cX0_direct 80 = .ok (.goto 40, 3) := dk_167 0 40 (dk_at dksX0_direct_3 11 rfl rfl)
theorem dX0_direct_83 : decode cX0_direct 83 = .ok (.iload 6, 2) := dk_21 6 (dk_at dksX0_direct_3 14 rfl rfl)
theorem dX0_direct_85 : decode cX0_direct 85 = .ok (.iconst (-1), 1) := dk_2 (dk_at dksX0_direct_3 16 rfl rfl)
theorem dX0_direct_86 : decode cX0_direct 86 = .ok (.if_icmp .ne 7, 3) := dk_160 0 7 (dk_at dksX0_direct_3 17 rfl rfl)
theorem dX0_direct_89 : decode cX0_direct 89 = .ok (.iconst 0, 1) := dk_3 (dk_at dksX0_direct_3 20 rfl rfl)
theorem dX0_direct_90 : decode cX0_direct 90 = .ok (.goto 17, 3) := dk_167 0 17 (dk_at dksX0_direct_3 21 rfl rfl)
theorem dX0_direct_93 : decode cX0_direct 93 = .ok (.iload 5, 2) := dk_21 5 (dk_at dksX0_direct_4 0 rfl rfl)
theorem dX0_direct_95 : decode cX0_direct 95 = .ok (.aload_n 0, 1) := dk_42 (dk_at dksX0_direct_4 2 rfl rfl)
theorem dX0_direct_96 : decode cX0_direct 96 = .ok (.iload 7, 2) := dk_21 7 (dk_at dksX0_direct_4 3 rfl rfl)
theorem dX0_direct_98 : decode cX0_direct 98 = .ok (.invokevirtual 44, 3) := dk_182 0 44 (dk_at dksX0_direct_4 5 rfl rfl)
theorem dX0_direct_101 : decode cX0_direct 101 = .ok (.iload 6, 2) := dk_21 6 (dk_at dksX0_direct_4 8 rfl rfl)
theorem dX0_direct_103 : decode cX0_direct 103 = .ok (.isub, 1) := dk_100 (dk_at dksX0_direct_4 10 rfl rfl)
theorem dX0_direct_104 : decode cX0_direct 104 = .ok (.invokestatic 7, 3) := dk_184 0 7 (dk_at dksX0_direct_4 11 rfl rfl)
theorem dX0_direct_107 : decode cX0_direct 107 = .ok (.istore 5, 2) := dk_54 5 (dk_at dksX0_direct_4 14 rfl rfl)
theorem dX0_direct_109 : decode cX0_direct 109 = .ok (.aload_n 0, 1) := dk_42 (dk_at dksX0_direct_4 16 rfl rfl)
theorem dX0_direct_110 : decode cX0_direct 110 = .ok (.iload 7, 2) := dk_21 7 (dk_at dksX0_direct_4 17 rfl rfl)
theorem dX0_direct_112 : decode cX0_direct 112 = .ok (.invokevirtual 44, 3) := dk_182 0 44 (dk_at dksX0_direct_4 19 rfl rfl)
theorem dX0_direct_115 : decode cX0_direct 115 = .ok (.istore 6, 2) := dk_54 6 (dk_at dksX0_direct_4 22 rfl rfl)
theorem dX0_direct_117 : decode cX0_direct 117 = .ok (.iinc 4 1, 3) := dk_132 4 1 (dk_at dksX0_direct_5 0 rfl rfl)
theorem dX0_direct_120 : decode cX0_direct 120 = .ok (.iinc 7 1, 3) := dk_132 7 1 (dk_at dksX0_direct_5 3 rfl rfl)
theorem dX0_direct_123 : decode cX0_direct 123 = .ok (.goto (-93), 3) := dk_167 255 163 (dk_at dksX0_direct_5 6 rfl rfl)
theorem dX0_direct_126 : decode cX0_direct 126 = .ok (.iload_n 3, 1) := dk_29 (dk_at dksX0_direct_5 9 rfl rfl)
theorem dX0_direct_127 : decode cX0_direct 127 = .ok (.ifCond .ne 8, 3) := dk_154 0 8 (dk_at dksX0_direct_5 10 rfl rfl)
theorem dX0_direct_130 : decode cX0_direct 130 = .ok (.iload 4, 2) := dk_21 4 (dk_at dksX0_direct_5 13 rfl rfl)
theorem dX0_direct_132 : decode cX0_direct 132 = .ok (.goto 5, 3) := dk_167 0 5 (dk_at dksX0_direct_5 15 rfl rfl)
theorem dX0_direct_135 : decode cX0_direct 135 = .ok (.iload 5, 2) := dk_21 5 (dk_at dksX0_direct_5 18 rfl rfl)
theorem dX0_direct_137 : decode cX0_direct 137 = .ok (.ireturn, 1) := dk_172 (dk_at dksX0_direct_5 20 rfl rfl)
abbrev cX0_justMissed : ByteArray := prog_1_method_35_code
def yX0_justMissed : MethodName := ⟨RX0, "justMissed", "(II)I"⟩
def dkwX0_justMissed_6 : List UInt8 := [167, 255, 139, 29, 172]
abbrev dktX0_justMissed_6 : List UInt8 := dkwX0_justMissed_6 ++ []
def dkwX0_justMissed_5 : List UInt8 := [42, 180, 0, 71, 162, 0, 7, 4, 167, 0, 4, 3, 96, 62, 132, 5, 1, 167, 255, 157, 132, 4, 1]
abbrev dktX0_justMissed_5 : List UInt8 := dkwX0_justMissed_5 ++ dktX0_justMissed_6
def dkwX0_justMissed_4 : List UInt8 := [42, 180, 0, 24, 21, 4, 50, 27, 182, 0, 247, 100, 54, 6, 29, 21, 6, 28, 116, 161, 0, 16, 21, 6]
abbrev dktX0_justMissed_4 : List UInt8 := dkwX0_justMissed_4 ++ dktX0_justMissed_5
def dkwX0_justMissed_3 : List UInt8 := [21, 5, 50, 27, 182, 0, 244, 154, 0, 6, 167, 0, 52, 42, 180, 0, 24, 21, 5, 50, 27, 182, 0, 247]
abbrev dktX0_justMissed_3 : List UInt8 := dkwX0_justMissed_3 ++ dktX0_justMissed_4
def dkwX0_justMissed_2 : List UInt8 := [21, 5, 159, 0, 83, 42, 180, 0, 24, 21, 4, 50, 27, 182, 1, 2, 153, 0, 69, 42, 180, 0, 24]
abbrev dktX0_justMissed_2 : List UInt8 := dkwX0_justMissed_2 ++ dktX0_justMissed_3
def dkwX0_justMissed_1 : List UInt8 := [21, 4, 42, 180, 0, 10, 162, 0, 114, 3, 54, 5, 21, 5, 42, 180, 0, 10, 162, 0, 96, 21, 4]
abbrev dktX0_justMissed_1 : List UInt8 := dkwX0_justMissed_1 ++ dktX0_justMissed_2
def dkwX0_justMissed_0 : List UInt8 := [27, 184, 0, 20, 153, 0, 13, 28, 3, 16, 60, 184, 0, 156, 154, 0, 5, 2, 172, 3, 62, 3, 54, 4]
abbrev dktX0_justMissed_0 : List UInt8 := dkwX0_justMissed_0 ++ dktX0_justMissed_1
theorem dksX0_justMissed_0 : cX0_justMissed.data.toList.drop 0 = dktX0_justMissed_0 := by decide +kernel
theorem dksX0_justMissed_1 : cX0_justMissed.data.toList.drop 24 = dktX0_justMissed_1 := dk_seg dksX0_justMissed_0 24 rfl rfl
theorem dksX0_justMissed_2 : cX0_justMissed.data.toList.drop 47 = dktX0_justMissed_2 := dk_seg dksX0_justMissed_1 23 rfl rfl
theorem dksX0_justMissed_3 : cX0_justMissed.data.toList.drop 70 = dktX0_justMissed_3 := dk_seg dksX0_justMissed_2 23 rfl rfl
theorem dksX0_justMissed_4 : cX0_justMissed.data.toList.drop 94 = dktX0_justMissed_4 := dk_seg dksX0_justMissed_3 24 rfl rfl
theorem dksX0_justMissed_5 : cX0_justMissed.data.toList.drop 118 = dktX0_justMissed_5 := dk_seg dksX0_justMissed_4 24 rfl rfl
theorem dksX0_justMissed_6 : cX0_justMissed.data.toList.drop 141 = dktX0_justMissed_6 := dk_seg dksX0_justMissed_5 23 rfl rfl
theorem dX0_justMissed_0 : decode cX0_justMissed 0 = .ok (.iload_n 1, 1) := dk_27 (dk_at dksX0_justMissed_0 0 rfl rfl)
theorem dX0_justMissed_1 : decode cX0_justMissed 1 = .ok (.invokestatic 20, 3) := dk_184 0 20 (dk_at dksX0_justMissed_0 1 rfl rfl)
theorem dX0_justMissed_4 : decode cX0_justMissed 4 = .ok (.ifCond .eq 13, 3) := dk_153 0 13 (dk_at dksX0_justMissed_0 4 rfl rfl)
theorem dX0_justMissed_7 : decode cX0_justMissed 7 = .ok (.iload_n 2, 1) := dk_28 (dk_at dksX0_justMissed_0 7 rfl rfl)
theorem dX0_justMissed_8 : decode cX0_justMissed 8 = .ok (.iconst 0, 1) := dk_3 (dk_at dksX0_justMissed_0 8 rfl rfl)
theorem dX0_justMissed_9 : decode cX0_justMissed 9 = .ok (.bipush 60, 2) := dk_16 60 (dk_at dksX0_justMissed_0 9 rfl rfl)
theorem dX0_justMissed_11 : decode cX0_justMissed 11 = .ok (.invokestatic 156, 3) := dk_184 0 156 (dk_at dksX0_justMissed_0 11 rfl rfl)
theorem dX0_justMissed_14 : decode cX0_justMissed 14 = .ok (.ifCond .ne 5, 3) := dk_154 0 5 (dk_at dksX0_justMissed_0 14 rfl rfl)
theorem dX0_justMissed_17 : decode cX0_justMissed 17 = .ok (.iconst (-1), 1) := dk_2 (dk_at dksX0_justMissed_0 17 rfl rfl)
theorem dX0_justMissed_18 : decode cX0_justMissed 18 = .ok (.ireturn, 1) := dk_172 (dk_at dksX0_justMissed_0 18 rfl rfl)
theorem dX0_justMissed_19 : decode cX0_justMissed 19 = .ok (.iconst 0, 1) := dk_3 (dk_at dksX0_justMissed_0 19 rfl rfl)
theorem dX0_justMissed_20 : decode cX0_justMissed 20 = .ok (.istore_n 3, 1) := dk_62 (dk_at dksX0_justMissed_0 20 rfl rfl)
theorem dX0_justMissed_21 : decode cX0_justMissed 21 = .ok (.iconst 0, 1) := dk_3 (dk_at dksX0_justMissed_0 21 rfl rfl)
theorem dX0_justMissed_22 : decode cX0_justMissed 22 = .ok (.istore 4, 2) := dk_54 4 (dk_at dksX0_justMissed_0 22 rfl rfl)
theorem dX0_justMissed_24 : decode cX0_justMissed 24 = .ok (.iload 4, 2) := dk_21 4 (dk_at dksX0_justMissed_1 0 rfl rfl)
theorem dX0_justMissed_26 : decode cX0_justMissed 26 = .ok (.aload_n 0, 1) := dk_42 (dk_at dksX0_justMissed_1 2 rfl rfl)
theorem dX0_justMissed_27 : decode cX0_justMissed 27 = .ok (.getfield 10, 3) := dk_180 0 10 (dk_at dksX0_justMissed_1 3 rfl rfl)
theorem dX0_justMissed_30 : decode cX0_justMissed 30 = .ok (.if_icmp .ge 114, 3) := dk_162 0 114 (dk_at dksX0_justMissed_1 6 rfl rfl)
theorem dX0_justMissed_33 : decode cX0_justMissed 33 = .ok (.iconst 0, 1) := dk_3 (dk_at dksX0_justMissed_1 9 rfl rfl)
theorem dX0_justMissed_34 : decode cX0_justMissed 34 = .ok (.istore 5, 2) := dk_54 5 (dk_at dksX0_justMissed_1 10 rfl rfl)
theorem dX0_justMissed_36 : decode cX0_justMissed 36 = .ok (.iload 5, 2) := dk_21 5 (dk_at dksX0_justMissed_1 12 rfl rfl)
theorem dX0_justMissed_38 : decode cX0_justMissed 38 = .ok (.aload_n 0, 1) := dk_42 (dk_at dksX0_justMissed_1 14 rfl rfl)
theorem dX0_justMissed_39 : decode cX0_justMissed 39 = .ok (.getfield 10, 3) := dk_180 0 10 (dk_at dksX0_justMissed_1 15 rfl rfl)
theorem dX0_justMissed_42 : decode cX0_justMissed 42 = .ok (.if_icmp .ge 96, 3) := dk_162 0 96 (dk_at dksX0_justMissed_1 18 rfl rfl)
theorem dX0_justMissed_45 : decode cX0_justMissed 45 = .ok (.iload 4, 2) := dk_21 4 (dk_at dksX0_justMissed_1 21 rfl rfl)
theorem dX0_justMissed_47 : decode cX0_justMissed 47 = .ok (.iload 5, 2) := dk_21 5 (dk_at dksX0_justMissed_2 0 rfl rfl)
theorem dX0_justMissed_49 : decode cX0_justMissed 49 = .ok (.if_icmp .eq 83, 3) := dk_159 0 83 (dk_at dksX0_justMissed_2 2 rfl rfl)
theorem dX0_justMissed_52 : decode cX0_justMissed 52 = .ok (.aload_n 0, 1) := dk_42 (dk_at dksX0_justMissed_2 5 rfl rfl)
theorem dX0_justMissed_53 : decode cX0_justMissed 53 = .ok (.getfield 24, 3) := dk_180 0 24 (dk_at dksX0_justMissed_2 6 rfl rfl)
theorem dX0_justMissed_56 : decode cX0_justMissed 56 = .ok (.iload 4, 2) := dk_21 4 (dk_at dksX0_justMissed_2 9 rfl rfl)
theorem dX0_justMissed_58 : decode cX0_justMissed 58 = .ok (.aaload, 1) := dk_50 (dk_at dksX0_justMissed_2 11 rfl rfl)
theorem dX0_justMissed_59 : decode cX0_justMissed 59 = .ok (.iload_n 1, 1) := dk_27 (dk_at dksX0_justMissed_2 12 rfl rfl)
theorem dX0_justMissed_60 : decode cX0_justMissed 60 = .ok (.invokevirtual 258, 3) := dk_182 1 2 (dk_at dksX0_justMissed_2 13 rfl rfl)
theorem dX0_justMissed_63 : decode cX0_justMissed 63 = .ok (.ifCond .eq 69, 3) := dk_153 0 69 (dk_at dksX0_justMissed_2 16 rfl rfl)
theorem dX0_justMissed_66 : decode cX0_justMissed 66 = .ok (.aload_n 0, 1) := dk_42 (dk_at dksX0_justMissed_2 19 rfl rfl)
theorem dX0_justMissed_67 : decode cX0_justMissed 67 = .ok (.getfield 24, 3) := dk_180 0 24 (dk_at dksX0_justMissed_2 20 rfl rfl)
theorem dX0_justMissed_70 : decode cX0_justMissed 70 = .ok (.iload 5, 2) := dk_21 5 (dk_at dksX0_justMissed_3 0 rfl rfl)
theorem dX0_justMissed_72 : decode cX0_justMissed 72 = .ok (.aaload, 1) := dk_50 (dk_at dksX0_justMissed_3 2 rfl rfl)
theorem dX0_justMissed_73 : decode cX0_justMissed 73 = .ok (.iload_n 1, 1) := dk_27 (dk_at dksX0_justMissed_3 3 rfl rfl)
theorem dX0_justMissed_74 : decode cX0_justMissed 74 = .ok (.invokevirtual 244, 3) := dk_182 0 244 (dk_at dksX0_justMissed_3 4 rfl rfl)
theorem dX0_justMissed_77 : decode cX0_justMissed 77 = .ok (.ifCond .ne 6, 3) := dk_154 0 6 (dk_at dksX0_justMissed_3 7 rfl rfl)
theorem dX0_justMissed_80 : decode cX0_justMissed 80 = .ok (.goto 52, 3) := dk_167 0 52 (dk_at dksX0_justMissed_3 10 rfl rfl)
theorem dX0_justMissed_83 : decode cX0_justMissed 83 = .ok (.aload_n 0, 1) := dk_42 (dk_at dksX0_justMissed_3 13 rfl rfl)
theorem dX0_justMissed_84 : decode cX0_justMissed 84 = .ok (.getfield 24, 3) := dk_180 0 24 (dk_at dksX0_justMissed_3 14 rfl rfl)
theorem dX0_justMissed_87 : decode cX0_justMissed 87 = .ok (.iload 5, 2) := dk_21 5 (dk_at dksX0_justMissed_3 17 rfl rfl)
theorem dX0_justMissed_89 : decode cX0_justMissed 89 = .ok (.aaload, 1) := dk_50 (dk_at dksX0_justMissed_3 19 rfl rfl)
theorem dX0_justMissed_90 : decode cX0_justMissed 90 = .ok (.iload_n 1, 1) := dk_27 (dk_at dksX0_justMissed_3 20 rfl rfl)
theorem dX0_justMissed_91 : decode cX0_justMissed 91 = .ok (.invokevirtual 247, 3) := dk_182 0 247 (dk_at dksX0_justMissed_3 21 rfl rfl)
theorem dX0_justMissed_94 : decode cX0_justMissed 94 = .ok (.aload_n 0, 1) := dk_42 (dk_at dksX0_justMissed_4 0 rfl rfl)
theorem dX0_justMissed_95 : decode cX0_justMissed 95 = .ok (.getfield 24, 3) := dk_180 0 24 (dk_at dksX0_justMissed_4 1 rfl rfl)
theorem dX0_justMissed_98 : decode cX0_justMissed 98 = .ok (.iload 4, 2) := dk_21 4 (dk_at dksX0_justMissed_4 4 rfl rfl)
theorem dX0_justMissed_100 : decode cX0_justMissed 100 = .ok (.aaload, 1) := dk_50 (dk_at dksX0_justMissed_4 6 rfl rfl)
theorem dX0_justMissed_101 : decode cX0_justMissed 101 = .ok (.iload_n 1, 1) := dk_27 (dk_at dksX0_justMissed_4 7 rfl rfl)
theorem dX0_justMissed_102 : decode cX0_justMissed 102 = .ok (.invokevirtual 247, 3) := dk_182 0 247 (dk_at dksX0_justMissed_4 8 rfl rfl)
theorem dX0_justMissed_105 : decode cX0_justMissed 105 = .ok (.isub, 1) := dk_100 (dk_at dksX0_justMissed_4 11 rfl rfl)
theorem dX0_justMissed_106 : decode cX0_justMissed 106 = .ok (.istore 6, 2) := dk_54 6 (dk_at dksX0_justMissed_4 12 rfl rfl)
theorem dX0_justMissed_108 : decode cX0_justMissed 108 = .ok (.iload_n 3, 1) := dk_29 (dk_at dksX0_justMissed_4 14 rfl rfl)
theorem dX0_justMissed_109 : decode cX0_justMissed 109 = .ok (.iload 6, 2) := dk_21 6 (dk_at dksX0_justMissed_4 15 rfl rfl)
theorem dX0_justMissed_111 : decode cX0_justMissed 111 = .ok (.iload_n 2, 1) := dk_28 (dk_at dksX0_justMissed_4 17 rfl rfl)
theorem dX0_justMissed_112 : decode cX0_justMissed 112 = .ok (.ineg, 1) := dk_116 (dk_at dksX0_justMissed_4 18 rfl rfl)
theorem dX0_justMissed_113 : decode cX0_justMissed 113 = .ok (.if_icmp .lt 16, 3) := dk_161 0 16 (dk_at dksX0_justMissed_4 19 rfl rfl)
theorem dX0_justMissed_116 : decode cX0_justMissed 116 = .ok (.iload 6, 2) := dk_21 6 (dk_at dksX0_justMissed_4 22 rfl rfl)
theorem dX0_justMissed_118 : decode cX0_justMissed 118 = .ok (.aload_n 0, 1) := dk_42 (dk_at dksX0_justMissed_5 0 rfl rfl)
theorem dX0_justMissed_119 : decode cX0_justMissed 119 = .ok (.getfield 71, 3) := dk_180 0 71 (dk_at dksX0_justMissed_5 1 rfl rfl)
theorem dX0_justMissed_122 : decode cX0_justMissed 122 = .ok (.if_icmp .ge 7, 3) := dk_162 0 7 (dk_at dksX0_justMissed_5 4 rfl rfl)
theorem dX0_justMissed_125 : decode cX0_justMissed 125 = .ok (.iconst 1, 1) := dk_4 (dk_at dksX0_justMissed_5 7 rfl rfl)
theorem dX0_justMissed_126 : decode cX0_justMissed 126 = .ok (.goto 4, 3) := dk_167 0 4 (dk_at dksX0_justMissed_5 8 rfl rfl)
theorem dX0_justMissed_129 : decode cX0_justMissed 129 = .ok (.iconst 0, 1) := dk_3 (dk_at dksX0_justMissed_5 11 rfl rfl)
theorem dX0_justMissed_130 : decode cX0_justMissed 130 = .ok (.iadd, 1) := dk_96 (dk_at dksX0_justMissed_5 12 rfl rfl)
theorem dX0_justMissed_131 : decode cX0_justMissed 131 = .ok (.istore_n 3, 1) := dk_62 (dk_at dksX0_justMissed_5 13 rfl rfl)
theorem dX0_justMissed_132 : decode cX0_justMissed 132 = .ok (.iinc 5 1, 3) := dk_132 5 1 (dk_at dksX0_justMissed_5 14 rfl rfl)
theorem dX0_justMissed_135 : decode cX0_justMissed 135 = .ok (.goto (-99), 3) := dk_167 255 157 (dk_at dksX0_justMissed_5 17 rfl rfl)
theorem dX0_justMissed_138 : decode cX0_justMissed 138 = .ok (.iinc 4 1, 3) := dk_132 4 1 (dk_at dksX0_justMissed_5 20 rfl rfl)
theorem dX0_justMissed_141 : decode cX0_justMissed 141 = .ok (.goto (-117), 3) := dk_167 255 139 (dk_at dksX0_justMissed_6 0 rfl rfl)
theorem dX0_justMissed_144 : decode cX0_justMissed 144 = .ok (.iload_n 3, 1) := dk_29 (dk_at dksX0_justMissed_6 3 rfl rfl)
theorem dX0_justMissed_145 : decode cX0_justMissed 145 = .ok (.ireturn, 1) := dk_172 (dk_at dksX0_justMissed_6 4 rfl rfl)
abbrev cX0_platforms : ByteArray := prog_1_method_37_code
def yX0_platforms : MethodName := ⟨RX0, "platforms", "(II)I"⟩
def dkwX0_platforms_5 : List UInt8 := [167, 255, 193, 29, 21, 5, 184, 0, 7, 62, 132, 4, 1, 167, 255, 152, 29, 172]
abbrev dktX0_platforms_5 : List UInt8 := dkwX0_platforms_5 ++ []
def dkwX0_platforms_4 : List UInt8 := [182, 0, 247, 100, 3, 28, 184, 0, 156, 153, 0, 7, 4, 167, 0, 4, 3, 96, 54, 5, 132, 6, 1]
abbrev dktX0_platforms_4 : List UInt8 := dkwX0_platforms_4 ++ dktX0_platforms_5
def dkwX0_platforms_3 : List UInt8 := [153, 0, 38, 42, 180, 0, 24, 21, 4, 50, 27, 182, 0, 247, 42, 180, 0, 24, 21, 6, 50, 27]
abbrev dktX0_platforms_3 : List UInt8 := dkwX0_platforms_3 ++ dktX0_platforms_4
def dkwX0_platforms_2 : List UInt8 := [54, 5, 3, 54, 6, 21, 6, 42, 180, 0, 10, 162, 0, 60, 21, 5, 42, 21, 6, 27, 182, 1, 8]
abbrev dktX0_platforms_2 : List UInt8 := dkwX0_platforms_2 ++ dktX0_platforms_3
def dkwX0_platforms_1 : List UInt8 := [21, 4, 42, 180, 0, 10, 162, 0, 101, 42, 21, 4, 27, 182, 1, 8, 154, 0, 6, 167, 0, 82, 3]
abbrev dktX0_platforms_1 : List UInt8 := dkwX0_platforms_1 ++ dktX0_platforms_2
def dkwX0_platforms_0 : List UInt8 := [27, 184, 0, 20, 153, 0, 13, 28, 3, 16, 60, 184, 0, 156, 154, 0, 5, 2, 172, 3, 62, 3, 54, 4]
abbrev dktX0_platforms_0 : List UInt8 := dkwX0_platforms_0 ++ dktX0_platforms_1
theorem dksX0_platforms_0 : cX0_platforms.data.toList.drop 0 = dktX0_platforms_0 := by decide +kernel
theorem dksX0_platforms_1 : cX0_platforms.data.toList.drop 24 = dktX0_platforms_1 := dk_seg dksX0_platforms_0 24 rfl rfl
theorem dksX0_platforms_2 : cX0_platforms.data.toList.drop 47 = dktX0_platforms_2 := dk_seg dksX0_platforms_1 23 rfl rfl
theorem dksX0_platforms_3 : cX0_platforms.data.toList.drop 70 = dktX0_platforms_3 := dk_seg dksX0_platforms_2 23 rfl rfl
theorem dksX0_platforms_4 : cX0_platforms.data.toList.drop 92 = dktX0_platforms_4 := dk_seg dksX0_platforms_3 22 rfl rfl
theorem dksX0_platforms_5 : cX0_platforms.data.toList.drop 115 = dktX0_platforms_5 := dk_seg dksX0_platforms_4 23 rfl rfl
theorem dX0_platforms_0 : decode cX0_platforms 0 = .ok (.iload_n 1, 1) := dk_27 (dk_at dksX0_platforms_0 0 rfl rfl)
theorem dX0_platforms_1 : decode cX0_platforms 1 = .ok (.invokestatic 20, 3) := dk_184 0 20 (dk_at dksX0_platforms_0 1 rfl rfl)
theorem dX0_platforms_4 : decode cX0_platforms 4 = .ok (.ifCond .eq 13, 3) := dk_153 0 13 (dk_at dksX0_platforms_0 4 rfl rfl)
theorem dX0_platforms_7 : decode cX0_platforms 7 = .ok (.iload_n 2, 1) := dk_28 (dk_at dksX0_platforms_0 7 rfl rfl)
theorem dX0_platforms_8 : decode cX0_platforms 8 = .ok (.iconst 0, 1) := dk_3 (dk_at dksX0_platforms_0 8 rfl rfl)
theorem dX0_platforms_9 : decode cX0_platforms 9 = .ok (.bipush 60, 2) := dk_16 60 (dk_at dksX0_platforms_0 9 rfl rfl)
theorem dX0_platforms_11 : decode cX0_platforms 11 = .ok (.invokestatic 156, 3) := dk_184 0 156 (dk_at dksX0_platforms_0 11 rfl rfl)
theorem dX0_platforms_14 : decode cX0_platforms 14 = .ok (.ifCond .ne 5, 3) := dk_154 0 5 (dk_at dksX0_platforms_0 14 rfl rfl)
theorem dX0_platforms_17 : decode cX0_platforms 17 = .ok (.iconst (-1), 1) := dk_2 (dk_at dksX0_platforms_0 17 rfl rfl)
theorem dX0_platforms_18 : decode cX0_platforms 18 = .ok (.ireturn, 1) := dk_172 (dk_at dksX0_platforms_0 18 rfl rfl)
theorem dX0_platforms_19 : decode cX0_platforms 19 = .ok (.iconst 0, 1) := dk_3 (dk_at dksX0_platforms_0 19 rfl rfl)
theorem dX0_platforms_20 : decode cX0_platforms 20 = .ok (.istore_n 3, 1) := dk_62 (dk_at dksX0_platforms_0 20 rfl rfl)
theorem dX0_platforms_21 : decode cX0_platforms 21 = .ok (.iconst 0, 1) := dk_3 (dk_at dksX0_platforms_0 21 rfl rfl)
theorem dX0_platforms_22 : decode cX0_platforms 22 = .ok (.istore 4, 2) := dk_54 4 (dk_at dksX0_platforms_0 22 rfl rfl)
theorem dX0_platforms_24 : decode cX0_platforms 24 = .ok (.iload 4, 2) := dk_21 4 (dk_at dksX0_platforms_1 0 rfl rfl)
theorem dX0_platforms_26 : decode cX0_platforms 26 = .ok (.aload_n 0, 1) := dk_42 (dk_at dksX0_platforms_1 2 rfl rfl)
theorem dX0_platforms_27 : decode cX0_platforms 27 = .ok (.getfield 10, 3) := dk_180 0 10 (dk_at dksX0_platforms_1 3 rfl rfl)
theorem dX0_platforms_30 : decode cX0_platforms 30 = .ok (.if_icmp .ge 101, 3) := dk_162 0 101 (dk_at dksX0_platforms_1 6 rfl rfl)
theorem dX0_platforms_33 : decode cX0_platforms 33 = .ok (.aload_n 0, 1) := dk_42 (dk_at dksX0_platforms_1 9 rfl rfl)
theorem dX0_platforms_34 : decode cX0_platforms 34 = .ok (.iload 4, 2) := dk_21 4 (dk_at dksX0_platforms_1 10 rfl rfl)
theorem dX0_platforms_36 : decode cX0_platforms 36 = .ok (.iload_n 1, 1) := dk_27 (dk_at dksX0_platforms_1 12 rfl rfl)
theorem dX0_platforms_37 : decode cX0_platforms 37 = .ok (.invokevirtual 264, 3) := dk_182 1 8 (dk_at dksX0_platforms_1 13 rfl rfl)
theorem dX0_platforms_40 : decode cX0_platforms 40 = .ok (.ifCond .ne 6, 3) := dk_154 0 6 (dk_at dksX0_platforms_1 16 rfl rfl)
theorem dX0_platforms_43 : decode cX0_platforms 43 = .ok (.goto 82, 3) := dk_167 0 82 (dk_at dksX0_platforms_1 19 rfl rfl)
theorem dX0_platforms_46 : decode cX0_platforms 46 = .ok (.iconst 0, 1) := dk_3 (dk_at dksX0_platforms_1 22 rfl rfl)
theorem dX0_platforms_47 : decode cX0_platforms 47 = .ok (.istore 5, 2) := dk_54 5 (dk_at dksX0_platforms_2 0 rfl rfl)
theorem dX0_platforms_49 : decode cX0_platforms 49 = .ok (.iconst 0, 1) := dk_3 (dk_at dksX0_platforms_2 2 rfl rfl)
theorem dX0_platforms_50 : decode cX0_platforms 50 = .ok (.istore 6, 2) := dk_54 6 (dk_at dksX0_platforms_2 3 rfl rfl)
theorem dX0_platforms_52 : decode cX0_platforms 52 = .ok (.iload 6, 2) := dk_21 6 (dk_at dksX0_platforms_2 5 rfl rfl)
theorem dX0_platforms_54 : decode cX0_platforms 54 = .ok (.aload_n 0, 1) := dk_42 (dk_at dksX0_platforms_2 7 rfl rfl)
theorem dX0_platforms_55 : decode cX0_platforms 55 = .ok (.getfield 10, 3) := dk_180 0 10 (dk_at dksX0_platforms_2 8 rfl rfl)
theorem dX0_platforms_58 : decode cX0_platforms 58 = .ok (.if_icmp .ge 60, 3) := dk_162 0 60 (dk_at dksX0_platforms_2 11 rfl rfl)
theorem dX0_platforms_61 : decode cX0_platforms 61 = .ok (.iload 5, 2) := dk_21 5 (dk_at dksX0_platforms_2 14 rfl rfl)
theorem dX0_platforms_63 : decode cX0_platforms 63 = .ok (.aload_n 0, 1) := dk_42 (dk_at dksX0_platforms_2 16 rfl rfl)
theorem dX0_platforms_64 : decode cX0_platforms 64 = .ok (.iload 6, 2) := dk_21 6 (dk_at dksX0_platforms_2 17 rfl rfl)
theorem dX0_platforms_66 : decode cX0_platforms 66 = .ok (.iload_n 1, 1) := dk_27 (dk_at dksX0_platforms_2 19 rfl rfl)
theorem dX0_platforms_67 : decode cX0_platforms 67 = .ok (.invokevirtual 264, 3) := dk_182 1 8 (dk_at dksX0_platforms_2 20 rfl rfl)
theorem dX0_platforms_70 : decode cX0_platforms 70 = .ok (.ifCond .eq 38, 3) := dk_153 0 38 (dk_at dksX0_platforms_3 0 rfl rfl)
theorem dX0_platforms_73 : decode cX0_platforms 73 = .ok (.aload_n 0, 1) := dk_42 (dk_at dksX0_platforms_3 3 rfl rfl)
theorem dX0_platforms_74 : decode cX0_platforms 74 = .ok (.getfield 24, 3) := dk_180 0 24 (dk_at dksX0_platforms_3 4 rfl rfl)
theorem dX0_platforms_77 : decode cX0_platforms 77 = .ok (.iload 4, 2) := dk_21 4 (dk_at dksX0_platforms_3 7 rfl rfl)
theorem dX0_platforms_79 : decode cX0_platforms 79 = .ok (.aaload, 1) := dk_50 (dk_at dksX0_platforms_3 9 rfl rfl)
theorem dX0_platforms_80 : decode cX0_platforms 80 = .ok (.iload_n 1, 1) := dk_27 (dk_at dksX0_platforms_3 10 rfl rfl)
theorem dX0_platforms_81 : decode cX0_platforms 81 = .ok (.invokevirtual 247, 3) := dk_182 0 247 (dk_at dksX0_platforms_3 11 rfl rfl)
theorem dX0_platforms_84 : decode cX0_platforms 84 = .ok (.aload_n 0, 1) := dk_42 (dk_at dksX0_platforms_3 14 rfl rfl)
theorem dX0_platforms_85 : decode cX0_platforms 85 = .ok (.getfield 24, 3) := dk_180 0 24 (dk_at dksX0_platforms_3 15 rfl rfl)
theorem dX0_platforms_88 : decode cX0_platforms 88 = .ok (.iload 6, 2) := dk_21 6 (dk_at dksX0_platforms_3 18 rfl rfl)
theorem dX0_platforms_90 : decode cX0_platforms 90 = .ok (.aaload, 1) := dk_50 (dk_at dksX0_platforms_3 20 rfl rfl)
theorem dX0_platforms_91 : decode cX0_platforms 91 = .ok (.iload_n 1, 1) := dk_27 (dk_at dksX0_platforms_3 21 rfl rfl)
theorem dX0_platforms_92 : decode cX0_platforms 92 = .ok (.invokevirtual 247, 3) := dk_182 0 247 (dk_at dksX0_platforms_4 0 rfl rfl)
theorem dX0_platforms_95 : decode cX0_platforms 95 = .ok (.isub, 1) := dk_100 (dk_at dksX0_platforms_4 3 rfl rfl)
theorem dX0_platforms_96 : decode cX0_platforms 96 = .ok (.iconst 0, 1) := dk_3 (dk_at dksX0_platforms_4 4 rfl rfl)
theorem dX0_platforms_97 : decode cX0_platforms 97 = .ok (.iload_n 2, 1) := dk_28 (dk_at dksX0_platforms_4 5 rfl rfl)
theorem dX0_platforms_98 : decode cX0_platforms 98 = .ok (.invokestatic 156, 3) := dk_184 0 156 (dk_at dksX0_platforms_4 6 rfl rfl)
theorem dX0_platforms_101 : decode cX0_platforms 101 = .ok (.ifCond .eq 7, 3) := dk_153 0 7 (dk_at dksX0_platforms_4 9 rfl rfl)
theorem dX0_platforms_104 : decode cX0_platforms 104 = .ok (.iconst 1, 1) := dk_4 (dk_at dksX0_platforms_4 12 rfl rfl)
theorem dX0_platforms_105 : decode cX0_platforms 105 = .ok (.goto 4, 3) := dk_167 0 4 (dk_at dksX0_platforms_4 13 rfl rfl)
theorem dX0_platforms_108 : decode cX0_platforms 108 = .ok (.iconst 0, 1) := dk_3 (dk_at dksX0_platforms_4 16 rfl rfl)
theorem dX0_platforms_109 : decode cX0_platforms 109 = .ok (.iadd, 1) := dk_96 (dk_at dksX0_platforms_4 17 rfl rfl)
theorem dX0_platforms_110 : decode cX0_platforms 110 = .ok (.istore 5, 2) := dk_54 5 (dk_at dksX0_platforms_4 18 rfl rfl)
theorem dX0_platforms_112 : decode cX0_platforms 112 = .ok (.iinc 6 1, 3) := dk_132 6 1 (dk_at dksX0_platforms_4 20 rfl rfl)
theorem dX0_platforms_115 : decode cX0_platforms 115 = .ok (.goto (-63), 3) := dk_167 255 193 (dk_at dksX0_platforms_5 0 rfl rfl)
theorem dX0_platforms_118 : decode cX0_platforms 118 = .ok (.iload_n 3, 1) := dk_29 (dk_at dksX0_platforms_5 3 rfl rfl)
theorem dX0_platforms_119 : decode cX0_platforms 119 = .ok (.iload 5, 2) := dk_21 5 (dk_at dksX0_platforms_5 4 rfl rfl)
theorem dX0_platforms_121 : decode cX0_platforms 121 = .ok (.invokestatic 7, 3) := dk_184 0 7 (dk_at dksX0_platforms_5 6 rfl rfl)
theorem dX0_platforms_124 : decode cX0_platforms 124 = .ok (.istore_n 3, 1) := dk_62 (dk_at dksX0_platforms_5 9 rfl rfl)
theorem dX0_platforms_125 : decode cX0_platforms 125 = .ok (.iinc 4 1, 3) := dk_132 4 1 (dk_at dksX0_platforms_5 10 rfl rfl)
theorem dX0_platforms_128 : decode cX0_platforms 128 = .ok (.goto (-104), 3) := dk_167 255 152 (dk_at dksX0_platforms_5 13 rfl rfl)
theorem dX0_platforms_131 : decode cX0_platforms 131 = .ok (.iload_n 3, 1) := dk_29 (dk_at dksX0_platforms_5 16 rfl rfl)
theorem dX0_platforms_132 : decode cX0_platforms 132 = .ok (.ireturn, 1) := dk_172 (dk_at dksX0_platforms_5 17 rfl rfl)
abbrev cX0_isAt : ByteArray := prog_1_method_36_code
def yX0_isAt : MethodName := ⟨RX0, "isAt", "(II)Z"⟩
def dkwX0_isAt_1 : List UInt8 := [159, 0, 7, 4, 167, 0, 4, 3, 172]
abbrev dktX0_isAt_1 : List UInt8 := dkwX0_isAt_1 ++ []
def dkwX0_isAt_0 : List UInt8 := [42, 180, 0, 24, 27, 50, 180, 0, 217, 153, 0, 21, 42, 180, 0, 24, 27, 50, 28, 182, 1, 5, 2]
abbrev dktX0_isAt_0 : List UInt8 := dkwX0_isAt_0 ++ dktX0_isAt_1
theorem dksX0_isAt_0 : cX0_isAt.data.toList.drop 0 = dktX0_isAt_0 := by decide +kernel
theorem dksX0_isAt_1 : cX0_isAt.data.toList.drop 23 = dktX0_isAt_1 := dk_seg dksX0_isAt_0 23 rfl rfl
theorem dX0_isAt_0 : decode cX0_isAt 0 = .ok (.aload_n 0, 1) := dk_42 (dk_at dksX0_isAt_0 0 rfl rfl)
theorem dX0_isAt_1 : decode cX0_isAt 1 = .ok (.getfield 24, 3) := dk_180 0 24 (dk_at dksX0_isAt_0 1 rfl rfl)
theorem dX0_isAt_4 : decode cX0_isAt 4 = .ok (.iload_n 1, 1) := dk_27 (dk_at dksX0_isAt_0 4 rfl rfl)
theorem dX0_isAt_5 : decode cX0_isAt 5 = .ok (.aaload, 1) := dk_50 (dk_at dksX0_isAt_0 5 rfl rfl)
theorem dX0_isAt_6 : decode cX0_isAt 6 = .ok (.getfield 217, 3) := dk_180 0 217 (dk_at dksX0_isAt_0 6 rfl rfl)
theorem dX0_isAt_9 : decode cX0_isAt 9 = .ok (.ifCond .eq 21, 3) := dk_153 0 21 (dk_at dksX0_isAt_0 9 rfl rfl)
theorem dX0_isAt_12 : decode cX0_isAt 12 = .ok (.aload_n 0, 1) := dk_42 (dk_at dksX0_isAt_0 12 rfl rfl)
theorem dX0_isAt_13 : decode cX0_isAt 13 = .ok (.getfield 24, 3) := dk_180 0 24 (dk_at dksX0_isAt_0 13 rfl rfl)
theorem dX0_isAt_16 : decode cX0_isAt 16 = .ok (.iload_n 1, 1) := dk_27 (dk_at dksX0_isAt_0 16 rfl rfl)
theorem dX0_isAt_17 : decode cX0_isAt 17 = .ok (.aaload, 1) := dk_50 (dk_at dksX0_isAt_0 17 rfl rfl)
theorem dX0_isAt_18 : decode cX0_isAt 18 = .ok (.iload_n 2, 1) := dk_28 (dk_at dksX0_isAt_0 18 rfl rfl)
theorem dX0_isAt_19 : decode cX0_isAt 19 = .ok (.invokevirtual 261, 3) := dk_182 1 5 (dk_at dksX0_isAt_0 19 rfl rfl)
theorem dX0_isAt_22 : decode cX0_isAt 22 = .ok (.iconst (-1), 1) := dk_2 (dk_at dksX0_isAt_0 22 rfl rfl)
theorem dX0_isAt_23 : decode cX0_isAt 23 = .ok (.if_icmp .eq 7, 3) := dk_159 0 7 (dk_at dksX0_isAt_1 0 rfl rfl)
theorem dX0_isAt_26 : decode cX0_isAt 26 = .ok (.iconst 1, 1) := dk_4 (dk_at dksX0_isAt_1 3 rfl rfl)
theorem dX0_isAt_27 : decode cX0_isAt 27 = .ok (.goto 4, 3) := dk_167 0 4 (dk_at dksX0_isAt_1 4 rfl rfl)
theorem dX0_isAt_30 : decode cX0_isAt 30 = .ok (.iconst 0, 1) := dk_3 (dk_at dksX0_isAt_1 7 rfl rfl)
theorem dX0_isAt_31 : decode cX0_isAt 31 = .ok (.ireturn, 1) := dk_172 (dk_at dksX0_isAt_1 8 rfl rfl)
abbrev cX0_sets : ByteArray := prog_1_method_41_code
def yX0_sets : MethodName := ⟨RX0, "sets", "()I"⟩
def dkwX0_sets_3 : List UInt8 := [153, 0, 7, 4, 167, 0, 4, 3, 100, 60, 132, 2, 1, 167, 255, 206, 27, 172]
abbrev dktX0_sets_3 : List UInt8 := dkwX0_sets_3 ++ []
def dkwX0_sets_2 : List UInt8 := [162, 0, 16, 42, 180, 0, 112, 29, 3, 84, 132, 3, 1, 167, 255, 238, 27, 42, 28, 182, 1, 14]
abbrev dktX0_sets_2 : List UInt8 := dkwX0_sets_2 ++ dktX0_sets_3
def dkwX0_sets_1 : List UInt8 := [132, 2, 1, 167, 255, 238, 3, 61, 28, 42, 180, 0, 10, 162, 0, 48, 3, 62, 29, 42, 180, 0, 10]
abbrev dktX0_sets_1 : List UInt8 := dkwX0_sets_1 ++ dktX0_sets_2
def dkwX0_sets_0 : List UInt8 := [42, 182, 1, 17, 60, 3, 61, 28, 42, 180, 0, 10, 162, 0, 16, 42, 180, 0, 109, 28, 2, 79]
abbrev dktX0_sets_0 : List UInt8 := dkwX0_sets_0 ++ dktX0_sets_1
theorem dksX0_sets_0 : cX0_sets.data.toList.drop 0 = dktX0_sets_0 := by decide +kernel
theorem dksX0_sets_1 : cX0_sets.data.toList.drop 22 = dktX0_sets_1 := dk_seg dksX0_sets_0 22 rfl rfl
theorem dksX0_sets_2 : cX0_sets.data.toList.drop 45 = dktX0_sets_2 := dk_seg dksX0_sets_1 23 rfl rfl
theorem dksX0_sets_3 : cX0_sets.data.toList.drop 67 = dktX0_sets_3 := dk_seg dksX0_sets_2 22 rfl rfl
theorem dX0_sets_0 : decode cX0_sets 0 = .ok (.aload_n 0, 1) := dk_42 (dk_at dksX0_sets_0 0 rfl rfl)
theorem dX0_sets_1 : decode cX0_sets 1 = .ok (.invokevirtual 273, 3) := dk_182 1 17 (dk_at dksX0_sets_0 1 rfl rfl)
theorem dX0_sets_4 : decode cX0_sets 4 = .ok (.istore_n 1, 1) := dk_60 (dk_at dksX0_sets_0 4 rfl rfl)
theorem dX0_sets_5 : decode cX0_sets 5 = .ok (.iconst 0, 1) := dk_3 (dk_at dksX0_sets_0 5 rfl rfl)
theorem dX0_sets_6 : decode cX0_sets 6 = .ok (.istore_n 2, 1) := dk_61 (dk_at dksX0_sets_0 6 rfl rfl)
theorem dX0_sets_7 : decode cX0_sets 7 = .ok (.iload_n 2, 1) := dk_28 (dk_at dksX0_sets_0 7 rfl rfl)
theorem dX0_sets_8 : decode cX0_sets 8 = .ok (.aload_n 0, 1) := dk_42 (dk_at dksX0_sets_0 8 rfl rfl)
theorem dX0_sets_9 : decode cX0_sets 9 = .ok (.getfield 10, 3) := dk_180 0 10 (dk_at dksX0_sets_0 9 rfl rfl)
theorem dX0_sets_12 : decode cX0_sets 12 = .ok (.if_icmp .ge 16, 3) := dk_162 0 16 (dk_at dksX0_sets_0 12 rfl rfl)
theorem dX0_sets_15 : decode cX0_sets 15 = .ok (.aload_n 0, 1) := dk_42 (dk_at dksX0_sets_0 15 rfl rfl)
theorem dX0_sets_16 : decode cX0_sets 16 = .ok (.getfield 109, 3) := dk_180 0 109 (dk_at dksX0_sets_0 16 rfl rfl)
theorem dX0_sets_19 : decode cX0_sets 19 = .ok (.iload_n 2, 1) := dk_28 (dk_at dksX0_sets_0 19 rfl rfl)
theorem dX0_sets_20 : decode cX0_sets 20 = .ok (.iconst (-1), 1) := dk_2 (dk_at dksX0_sets_0 20 rfl rfl)
theorem dX0_sets_21 : decode cX0_sets 21 = .ok (.iastore, 1) := dk_79 (dk_at dksX0_sets_0 21 rfl rfl)
theorem dX0_sets_22 : decode cX0_sets 22 = .ok (.iinc 2 1, 3) := dk_132 2 1 (dk_at dksX0_sets_1 0 rfl rfl)
theorem dX0_sets_25 : decode cX0_sets 25 = .ok (.goto (-18), 3) := dk_167 255 238 (dk_at dksX0_sets_1 3 rfl rfl)
theorem dX0_sets_28 : decode cX0_sets 28 = .ok (.iconst 0, 1) := dk_3 (dk_at dksX0_sets_1 6 rfl rfl)
theorem dX0_sets_29 : decode cX0_sets 29 = .ok (.istore_n 2, 1) := dk_61 (dk_at dksX0_sets_1 7 rfl rfl)
theorem dX0_sets_30 : decode cX0_sets 30 = .ok (.iload_n 2, 1) := dk_28 (dk_at dksX0_sets_1 8 rfl rfl)
theorem dX0_sets_31 : decode cX0_sets 31 = .ok (.aload_n 0, 1) := dk_42 (dk_at dksX0_sets_1 9 rfl rfl)
theorem dX0_sets_32 : decode cX0_sets 32 = .ok (.getfield 10, 3) := dk_180 0 10 (dk_at dksX0_sets_1 10 rfl rfl)
theorem dX0_sets_35 : decode cX0_sets 35 = .ok (.if_icmp .ge 48, 3) := dk_162 0 48 (dk_at dksX0_sets_1 13 rfl rfl)
theorem dX0_sets_38 : decode cX0_sets 38 = .ok (.iconst 0, 1) := dk_3 (dk_at dksX0_sets_1 16 rfl rfl)
theorem dX0_sets_39 : decode cX0_sets 39 = .ok (.istore_n 3, 1) := dk_62 (dk_at dksX0_sets_1 17 rfl rfl)
theorem dX0_sets_40 : decode cX0_sets 40 = .ok (.iload_n 3, 1) := dk_29 (dk_at dksX0_sets_1 18 rfl rfl)
theorem dX0_sets_41 : decode cX0_sets 41 = .ok (.aload_n 0, 1) := dk_42 (dk_at dksX0_sets_1 19 rfl rfl)
theorem dX0_sets_42 : decode cX0_sets 42 = .ok (.getfield 10, 3) := dk_180 0 10 (dk_at dksX0_sets_1 20 rfl rfl)
theorem dX0_sets_45 : decode cX0_sets 45 = .ok (.if_icmp .ge 16, 3) := dk_162 0 16 (dk_at dksX0_sets_2 0 rfl rfl)
theorem dX0_sets_48 : decode cX0_sets 48 = .ok (.aload_n 0, 1) := dk_42 (dk_at dksX0_sets_2 3 rfl rfl)
theorem dX0_sets_49 : decode cX0_sets 49 = .ok (.getfield 112, 3) := dk_180 0 112 (dk_at dksX0_sets_2 4 rfl rfl)
theorem dX0_sets_52 : decode cX0_sets 52 = .ok (.iload_n 3, 1) := dk_29 (dk_at dksX0_sets_2 7 rfl rfl)
theorem dX0_sets_53 : decode cX0_sets 53 = .ok (.iconst 0, 1) := dk_3 (dk_at dksX0_sets_2 8 rfl rfl)
theorem dX0_sets_54 : decode cX0_sets 54 = .ok (.bastore, 1) := dk_84 (dk_at dksX0_sets_2 9 rfl rfl)
theorem dX0_sets_55 : decode cX0_sets 55 = .ok (.iinc 3 1, 3) := dk_132 3 1 (dk_at dksX0_sets_2 10 rfl rfl)
theorem dX0_sets_58 : decode cX0_sets 58 = .ok (.goto (-18), 3) := dk_167 255 238 (dk_at dksX0_sets_2 13 rfl rfl)
theorem dX0_sets_61 : decode cX0_sets 61 = .ok (.iload_n 1, 1) := dk_27 (dk_at dksX0_sets_2 16 rfl rfl)
theorem dX0_sets_62 : decode cX0_sets 62 = .ok (.aload_n 0, 1) := dk_42 (dk_at dksX0_sets_2 17 rfl rfl)
theorem dX0_sets_63 : decode cX0_sets 63 = .ok (.iload_n 2, 1) := dk_28 (dk_at dksX0_sets_2 18 rfl rfl)
theorem dX0_sets_64 : decode cX0_sets 64 = .ok (.invokevirtual 270, 3) := dk_182 1 14 (dk_at dksX0_sets_2 19 rfl rfl)
theorem dX0_sets_67 : decode cX0_sets 67 = .ok (.ifCond .eq 7, 3) := dk_153 0 7 (dk_at dksX0_sets_3 0 rfl rfl)
theorem dX0_sets_70 : decode cX0_sets 70 = .ok (.iconst 1, 1) := dk_4 (dk_at dksX0_sets_3 3 rfl rfl)
theorem dX0_sets_71 : decode cX0_sets 71 = .ok (.goto 4, 3) := dk_167 0 4 (dk_at dksX0_sets_3 4 rfl rfl)
theorem dX0_sets_74 : decode cX0_sets 74 = .ok (.iconst 0, 1) := dk_3 (dk_at dksX0_sets_3 7 rfl rfl)
theorem dX0_sets_75 : decode cX0_sets 75 = .ok (.isub, 1) := dk_100 (dk_at dksX0_sets_3 8 rfl rfl)
theorem dX0_sets_76 : decode cX0_sets 76 = .ok (.istore_n 1, 1) := dk_60 (dk_at dksX0_sets_3 9 rfl rfl)
theorem dX0_sets_77 : decode cX0_sets 77 = .ok (.iinc 2 1, 3) := dk_132 2 1 (dk_at dksX0_sets_3 10 rfl rfl)
theorem dX0_sets_80 : decode cX0_sets 80 = .ok (.goto (-50), 3) := dk_167 255 206 (dk_at dksX0_sets_3 13 rfl rfl)
theorem dX0_sets_83 : decode cX0_sets 83 = .ok (.iload_n 1, 1) := dk_27 (dk_at dksX0_sets_3 16 rfl rfl)
theorem dX0_sets_84 : decode cX0_sets 84 = .ok (.ireturn, 1) := dk_172 (dk_at dksX0_sets_3 17 rfl rfl)
abbrev cX0_running : ByteArray := prog_1_method_40_code
def yX0_running : MethodName := ⟨RX0, "running", "()I"⟩
def dkwX0_running_1 : List UInt8 := [153, 0, 7, 4, 167, 0, 4, 3, 96, 60, 132, 2, 1, 167, 255, 225, 27, 172]
abbrev dktX0_running_1 : List UInt8 := dkwX0_running_1 ++ []
def dkwX0_running_0 : List UInt8 := [3, 60, 3, 61, 28, 42, 180, 0, 10, 162, 0, 29, 27, 42, 180, 0, 24, 28, 50, 180, 0, 217]
abbrev dktX0_running_0 : List UInt8 := dkwX0_running_0 ++ dktX0_running_1
theorem dksX0_running_0 : cX0_running.data.toList.drop 0 = dktX0_running_0 := by decide +kernel
theorem dksX0_running_1 : cX0_running.data.toList.drop 22 = dktX0_running_1 := dk_seg dksX0_running_0 22 rfl rfl
theorem dX0_running_0 : decode cX0_running 0 = .ok (.iconst 0, 1) := dk_3 (dk_at dksX0_running_0 0 rfl rfl)
theorem dX0_running_1 : decode cX0_running 1 = .ok (.istore_n 1, 1) := dk_60 (dk_at dksX0_running_0 1 rfl rfl)
theorem dX0_running_2 : decode cX0_running 2 = .ok (.iconst 0, 1) := dk_3 (dk_at dksX0_running_0 2 rfl rfl)
theorem dX0_running_3 : decode cX0_running 3 = .ok (.istore_n 2, 1) := dk_61 (dk_at dksX0_running_0 3 rfl rfl)
theorem dX0_running_4 : decode cX0_running 4 = .ok (.iload_n 2, 1) := dk_28 (dk_at dksX0_running_0 4 rfl rfl)
theorem dX0_running_5 : decode cX0_running 5 = .ok (.aload_n 0, 1) := dk_42 (dk_at dksX0_running_0 5 rfl rfl)
theorem dX0_running_6 : decode cX0_running 6 = .ok (.getfield 10, 3) := dk_180 0 10 (dk_at dksX0_running_0 6 rfl rfl)
theorem dX0_running_9 : decode cX0_running 9 = .ok (.if_icmp .ge 29, 3) := dk_162 0 29 (dk_at dksX0_running_0 9 rfl rfl)
theorem dX0_running_12 : decode cX0_running 12 = .ok (.iload_n 1, 1) := dk_27 (dk_at dksX0_running_0 12 rfl rfl)
theorem dX0_running_13 : decode cX0_running 13 = .ok (.aload_n 0, 1) := dk_42 (dk_at dksX0_running_0 13 rfl rfl)
theorem dX0_running_14 : decode cX0_running 14 = .ok (.getfield 24, 3) := dk_180 0 24 (dk_at dksX0_running_0 14 rfl rfl)
theorem dX0_running_17 : decode cX0_running 17 = .ok (.iload_n 2, 1) := dk_28 (dk_at dksX0_running_0 17 rfl rfl)
theorem dX0_running_18 : decode cX0_running 18 = .ok (.aaload, 1) := dk_50 (dk_at dksX0_running_0 18 rfl rfl)
theorem dX0_running_19 : decode cX0_running 19 = .ok (.getfield 217, 3) := dk_180 0 217 (dk_at dksX0_running_0 19 rfl rfl)
theorem dX0_running_22 : decode cX0_running 22 = .ok (.ifCond .eq 7, 3) := dk_153 0 7 (dk_at dksX0_running_1 0 rfl rfl)
theorem dX0_running_25 : decode cX0_running 25 = .ok (.iconst 1, 1) := dk_4 (dk_at dksX0_running_1 3 rfl rfl)
theorem dX0_running_26 : decode cX0_running 26 = .ok (.goto 4, 3) := dk_167 0 4 (dk_at dksX0_running_1 4 rfl rfl)
theorem dX0_running_29 : decode cX0_running 29 = .ok (.iconst 0, 1) := dk_3 (dk_at dksX0_running_1 7 rfl rfl)
theorem dX0_running_30 : decode cX0_running 30 = .ok (.iadd, 1) := dk_96 (dk_at dksX0_running_1 8 rfl rfl)
theorem dX0_running_31 : decode cX0_running 31 = .ok (.istore_n 1, 1) := dk_60 (dk_at dksX0_running_1 9 rfl rfl)
theorem dX0_running_32 : decode cX0_running 32 = .ok (.iinc 2 1, 3) := dk_132 2 1 (dk_at dksX0_running_1 10 rfl rfl)
theorem dX0_running_35 : decode cX0_running 35 = .ok (.goto (-31), 3) := dk_167 255 225 (dk_at dksX0_running_1 13 rfl rfl)
theorem dX0_running_38 : decode cX0_running 38 = .ok (.iload_n 1, 1) := dk_27 (dk_at dksX0_running_1 16 rfl rfl)
theorem dX0_running_39 : decode cX0_running 39 = .ok (.ireturn, 1) := dk_172 (dk_at dksX0_running_1 17 rfl rfl)
abbrev cX0_finds : ByteArray := prog_1_method_39_code
def yX0_finds : MethodName := ⟨RX0, "finds", "(I)Z"⟩
def dkwX0_finds_3 : List UInt8 := [27, 79, 4, 172, 132, 2, 1, 167, 255, 182, 3, 172]
abbrev dktX0_finds_3 : List UInt8 := dkwX0_finds_3 ++ []
def dkwX0_finds_2 : List UInt8 := [159, 0, 19, 42, 42, 180, 0, 109, 28, 46, 182, 1, 14, 154, 0, 6, 167, 0, 12, 42, 180, 0, 109, 28]
abbrev dktX0_finds_2 : List UInt8 := dkwX0_finds_2 ++ dktX0_finds_3
def dkwX0_finds_1 : List UInt8 := [182, 1, 11, 154, 0, 6, 167, 0, 45, 42, 180, 0, 112, 28, 4, 84, 42, 180, 0, 109, 28, 46, 2]
abbrev dktX0_finds_1 : List UInt8 := dkwX0_finds_1 ++ dktX0_finds_2
def dkwX0_finds_0 : List UInt8 := [3, 61, 28, 42, 180, 0, 10, 162, 0, 72, 42, 180, 0, 112, 28, 51, 154, 0, 57, 42, 27, 28]
abbrev dktX0_finds_0 : List UInt8 := dkwX0_finds_0 ++ dktX0_finds_1
theorem dksX0_finds_0 : cX0_finds.data.toList.drop 0 = dktX0_finds_0 := by decide +kernel
theorem dksX0_finds_1 : cX0_finds.data.toList.drop 22 = dktX0_finds_1 := dk_seg dksX0_finds_0 22 rfl rfl
theorem dksX0_finds_2 : cX0_finds.data.toList.drop 45 = dktX0_finds_2 := dk_seg dksX0_finds_1 23 rfl rfl
theorem dksX0_finds_3 : cX0_finds.data.toList.drop 69 = dktX0_finds_3 := dk_seg dksX0_finds_2 24 rfl rfl
theorem dX0_finds_0 : decode cX0_finds 0 = .ok (.iconst 0, 1) := dk_3 (dk_at dksX0_finds_0 0 rfl rfl)
theorem dX0_finds_1 : decode cX0_finds 1 = .ok (.istore_n 2, 1) := dk_61 (dk_at dksX0_finds_0 1 rfl rfl)
theorem dX0_finds_2 : decode cX0_finds 2 = .ok (.iload_n 2, 1) := dk_28 (dk_at dksX0_finds_0 2 rfl rfl)
theorem dX0_finds_3 : decode cX0_finds 3 = .ok (.aload_n 0, 1) := dk_42 (dk_at dksX0_finds_0 3 rfl rfl)
theorem dX0_finds_4 : decode cX0_finds 4 = .ok (.getfield 10, 3) := dk_180 0 10 (dk_at dksX0_finds_0 4 rfl rfl)
theorem dX0_finds_7 : decode cX0_finds 7 = .ok (.if_icmp .ge 72, 3) := dk_162 0 72 (dk_at dksX0_finds_0 7 rfl rfl)
theorem dX0_finds_10 : decode cX0_finds 10 = .ok (.aload_n 0, 1) := dk_42 (dk_at dksX0_finds_0 10 rfl rfl)
theorem dX0_finds_11 : decode cX0_finds 11 = .ok (.getfield 112, 3) := dk_180 0 112 (dk_at dksX0_finds_0 11 rfl rfl)
theorem dX0_finds_14 : decode cX0_finds 14 = .ok (.iload_n 2, 1) := dk_28 (dk_at dksX0_finds_0 14 rfl rfl)
theorem dX0_finds_15 : decode cX0_finds 15 = .ok (.baload, 1) := dk_51 (dk_at dksX0_finds_0 15 rfl rfl)
theorem dX0_finds_16 : decode cX0_finds 16 = .ok (.ifCond .ne 57, 3) := dk_154 0 57 (dk_at dksX0_finds_0 16 rfl rfl)
theorem dX0_finds_19 : decode cX0_finds 19 = .ok (.aload_n 0, 1) := dk_42 (dk_at dksX0_finds_0 19 rfl rfl)
theorem dX0_finds_20 : decode cX0_finds 20 = .ok (.iload_n 1, 1) := dk_27 (dk_at dksX0_finds_0 20 rfl rfl)
theorem dX0_finds_21 : decode cX0_finds 21 = .ok (.iload_n 2, 1) := dk_28 (dk_at dksX0_finds_0 21 rfl rfl)
theorem dX0_finds_22 : decode cX0_finds 22 = .ok (.invokevirtual 267, 3) := dk_182 1 11 (dk_at dksX0_finds_1 0 rfl rfl)
theorem dX0_finds_25 : decode cX0_finds 25 = .ok (.ifCond .ne 6, 3) := dk_154 0 6 (dk_at dksX0_finds_1 3 rfl rfl)
theorem dX0_finds_28 : decode cX0_finds 28 = .ok (.goto 45, 3) := dk_167 0 45 (dk_at dksX0_finds_1 6 rfl rfl)
theorem dX0_finds_31 : decode cX0_finds 31 = .ok (.aload_n 0, 1) := dk_42 (dk_at dksX0_finds_1 9 rfl rfl)
theorem dX0_finds_32 : decode cX0_finds 32 = .ok (.getfield 112, 3) := dk_180 0 112 (dk_at dksX0_finds_1 10 rfl rfl)
theorem dX0_finds_35 : decode cX0_finds 35 = .ok (.iload_n 2, 1) := dk_28 (dk_at dksX0_finds_1 13 rfl rfl)
theorem dX0_finds_36 : decode cX0_finds 36 = .ok (.iconst 1, 1) := dk_4 (dk_at dksX0_finds_1 14 rfl rfl)
theorem dX0_finds_37 : decode cX0_finds 37 = .ok (.bastore, 1) := dk_84 (dk_at dksX0_finds_1 15 rfl rfl)
theorem dX0_finds_38 : decode cX0_finds 38 = .ok (.aload_n 0, 1) := dk_42 (dk_at dksX0_finds_1 16 rfl rfl)
theorem dX0_finds_39 : decode cX0_finds 39 = .ok (.getfield 109, 3) := dk_180 0 109 (dk_at dksX0_finds_1 17 rfl rfl)
theorem dX0_finds_42 : decode cX0_finds 42 = .ok (.iload_n 2, 1) := dk_28 (dk_at dksX0_finds_1 20 rfl rfl)
theorem dX0_finds_43 : decode cX0_finds 43 = .ok (.iaload, 1) := dk_46 (dk_at dksX0_finds_1 21 rfl rfl)
theorem dX0_finds_44 : decode cX0_finds 44 = .ok (.iconst (-1), 1) := dk_2 (dk_at dksX0_finds_1 22 rfl rfl)
theorem dX0_finds_45 : decode cX0_finds 45 = .ok (.if_icmp .eq 19, 3) := dk_159 0 19 (dk_at dksX0_finds_2 0 rfl rfl)
theorem dX0_finds_48 : decode cX0_finds 48 = .ok (.aload_n 0, 1) := dk_42 (dk_at dksX0_finds_2 3 rfl rfl)
theorem dX0_finds_49 : decode cX0_finds 49 = .ok (.aload_n 0, 1) := dk_42 (dk_at dksX0_finds_2 4 rfl rfl)
theorem dX0_finds_50 : decode cX0_finds 50 = .ok (.getfield 109, 3) := dk_180 0 109 (dk_at dksX0_finds_2 5 rfl rfl)
theorem dX0_finds_53 : decode cX0_finds 53 = .ok (.iload_n 2, 1) := dk_28 (dk_at dksX0_finds_2 8 rfl rfl)
theorem dX0_finds_54 : decode cX0_finds 54 = .ok (.iaload, 1) := dk_46 (dk_at dksX0_finds_2 9 rfl rfl)
theorem dX0_finds_55 : decode cX0_finds 55 = .ok (.invokevirtual 270, 3) := dk_182 1 14 (dk_at dksX0_finds_2 10 rfl rfl)
theorem dX0_finds_58 : decode cX0_finds 58 = .ok (.ifCond .ne 6, 3) := dk_154 0 6 (dk_at dksX0_finds_2 13 rfl rfl)
theorem dX0_finds_61 : decode cX0_finds 61 = .ok (.goto 12, 3) := dk_167 0 12 (dk_at dksX0_finds_2 16 rfl rfl)
theorem dX0_finds_64 : decode cX0_finds 64 = .ok (.aload_n 0, 1) := dk_42 (dk_at dksX0_finds_2 19 rfl rfl)
theorem dX0_finds_65 : decode cX0_finds 65 = .ok (.getfield 109, 3) := dk_180 0 109 (dk_at dksX0_finds_2 20 rfl rfl)
theorem dX0_finds_68 : decode cX0_finds 68 = .ok (.iload_n 2, 1) := dk_28 (dk_at dksX0_finds_2 23 rfl rfl)
theorem dX0_finds_69 : decode cX0_finds 69 = .ok (.iload_n 1, 1) := dk_27 (dk_at dksX0_finds_3 0 rfl rfl)
theorem dX0_finds_70 : decode cX0_finds 70 = .ok (.iastore, 1) := dk_79 (dk_at dksX0_finds_3 1 rfl rfl)
theorem dX0_finds_71 : decode cX0_finds 71 = .ok (.iconst 1, 1) := dk_4 (dk_at dksX0_finds_3 2 rfl rfl)
theorem dX0_finds_72 : decode cX0_finds 72 = .ok (.ireturn, 1) := dk_172 (dk_at dksX0_finds_3 3 rfl rfl)
theorem dX0_finds_73 : decode cX0_finds 73 = .ok (.iinc 2 1, 3) := dk_132 2 1 (dk_at dksX0_finds_3 4 rfl rfl)
theorem dX0_finds_76 : decode cX0_finds 76 = .ok (.goto (-74), 3) := dk_167 255 182 (dk_at dksX0_finds_3 7 rfl rfl)
theorem dX0_finds_79 : decode cX0_finds 79 = .ok (.iconst 0, 1) := dk_3 (dk_at dksX0_finds_3 10 rfl rfl)
theorem dX0_finds_80 : decode cX0_finds 80 = .ok (.ireturn, 1) := dk_172 (dk_at dksX0_finds_3 11 rfl rfl)
abbrev cX0_canFollow : ByteArray := prog_1_method_38_code
def yX0_canFollow : MethodName := ⟨RX0, "canFollow", "(II)Z"⟩
def dkwX0_canFollow_3 : List UInt8 := [163, 0, 7, 4, 167, 0, 4, 3, 172]
abbrev dktX0_canFollow_3 : List UInt8 := dkwX0_canFollow_3 ++ []
def dkwX0_canFollow_2 : List UInt8 := [180, 0, 24, 27, 50, 182, 0, 229, 42, 180, 0, 71, 96, 42, 180, 0, 24, 28, 50, 180, 0, 32, 3, 46]
abbrev dktX0_canFollow_2 : List UInt8 := dkwX0_canFollow_2 ++ dktX0_canFollow_3
def dkwX0_canFollow_1 : List UInt8 := [42, 180, 0, 24, 27, 50, 182, 0, 226, 42, 180, 0, 24, 28, 50, 182, 0, 223, 160, 0, 35, 42]
abbrev dktX0_canFollow_1 : List UInt8 := dkwX0_canFollow_1 ++ dktX0_canFollow_2
def dkwX0_canFollow_0 : List UInt8 := [42, 180, 0, 24, 27, 50, 180, 0, 217, 153, 0, 68, 42, 180, 0, 24, 28, 50, 180, 0, 217, 153, 0, 56]
abbrev dktX0_canFollow_0 : List UInt8 := dkwX0_canFollow_0 ++ dktX0_canFollow_1
theorem dksX0_canFollow_0 : cX0_canFollow.data.toList.drop 0 = dktX0_canFollow_0 := by decide +kernel
theorem dksX0_canFollow_1 : cX0_canFollow.data.toList.drop 24 = dktX0_canFollow_1 := dk_seg dksX0_canFollow_0 24 rfl rfl
theorem dksX0_canFollow_2 : cX0_canFollow.data.toList.drop 46 = dktX0_canFollow_2 := dk_seg dksX0_canFollow_1 22 rfl rfl
theorem dksX0_canFollow_3 : cX0_canFollow.data.toList.drop 70 = dktX0_canFollow_3 := dk_seg dksX0_canFollow_2 24 rfl rfl
theorem dX0_canFollow_0 : decode cX0_canFollow 0 = .ok (.aload_n 0, 1) := dk_42 (dk_at dksX0_canFollow_0 0 rfl rfl)
theorem dX0_canFollow_1 : decode cX0_canFollow 1 = .ok (.getfield 24, 3) := dk_180 0 24 (dk_at dksX0_canFollow_0 1 rfl rfl)
theorem dX0_canFollow_4 : decode cX0_canFollow 4 = .ok (.iload_n 1, 1) := dk_27 (dk_at dksX0_canFollow_0 4 rfl rfl)
theorem dX0_canFollow_5 : decode cX0_canFollow 5 = .ok (.aaload, 1) := dk_50 (dk_at dksX0_canFollow_0 5 rfl rfl)
theorem dX0_canFollow_6 : decode cX0_canFollow 6 = .ok (.getfield 217, 3) := dk_180 0 217 (dk_at dksX0_canFollow_0 6 rfl rfl)
theorem dX0_canFollow_9 : decode cX0_canFollow 9 = .ok (.ifCond .eq 68, 3) := dk_153 0 68 (dk_at dksX0_canFollow_0 9 rfl rfl)
theorem dX0_canFollow_12 : decode cX0_canFollow 12 = .ok (.aload_n 0, 1) := dk_42 (dk_at dksX0_canFollow_0 12 rfl rfl)
theorem dX0_canFollow_13 : decode cX0_canFollow 13 = .ok (.getfield 24, 3) := dk_180 0 24 (dk_at dksX0_canFollow_0 13 rfl rfl)
theorem dX0_canFollow_16 : decode cX0_canFollow 16 = .ok (.iload_n 2, 1) := dk_28 (dk_at dksX0_canFollow_0 16 rfl rfl)
theorem dX0_canFollow_17 : decode cX0_canFollow 17 = .ok (.aaload, 1) := dk_50 (dk_at dksX0_canFollow_0 17 rfl rfl)
theorem dX0_canFollow_18 : decode cX0_canFollow 18 = .ok (.getfield 217, 3) := dk_180 0 217 (dk_at dksX0_canFollow_0 18 rfl rfl)
theorem dX0_canFollow_21 : decode cX0_canFollow 21 = .ok (.ifCond .eq 56, 3) := dk_153 0 56 (dk_at dksX0_canFollow_0 21 rfl rfl)
theorem dX0_canFollow_24 : decode cX0_canFollow 24 = .ok (.aload_n 0, 1) := dk_42 (dk_at dksX0_canFollow_1 0 rfl rfl)
theorem dX0_canFollow_25 : decode cX0_canFollow 25 = .ok (.getfield 24, 3) := dk_180 0 24 (dk_at dksX0_canFollow_1 1 rfl rfl)
theorem dX0_canFollow_28 : decode cX0_canFollow 28 = .ok (.iload_n 1, 1) := dk_27 (dk_at dksX0_canFollow_1 4 rfl rfl)
theorem dX0_canFollow_29 : decode cX0_canFollow 29 = .ok (.aaload, 1) := dk_50 (dk_at dksX0_canFollow_1 5 rfl rfl)
theorem dX0_canFollow_30 : decode cX0_canFollow 30 = .ok (.invokevirtual 226, 3) := dk_182 0 226 (dk_at dksX0_canFollow_1 6 rfl rfl)
theorem dX0_canFollow_33 : decode cX0_canFollow 33 = .ok (.aload_n 0, 1) := dk_42 (dk_at dksX0_canFollow_1 9 rfl rfl)
theorem dX0_canFollow_34 : decode cX0_canFollow 34 = .ok (.getfield 24, 3) := dk_180 0 24 (dk_at dksX0_canFollow_1 10 rfl rfl)
theorem dX0_canFollow_37 : decode cX0_canFollow 37 = .ok (.iload_n 2, 1) := dk_28 (dk_at dksX0_canFollow_1 13 rfl rfl)
theorem dX0_canFollow_38 : decode cX0_canFollow 38 = .ok (.aaload, 1) := dk_50 (dk_at dksX0_canFollow_1 14 rfl rfl)
theorem dX0_canFollow_39 : decode cX0_canFollow 39 = .ok (.invokevirtual 223, 3) := dk_182 0 223 (dk_at dksX0_canFollow_1 15 rfl rfl)
theorem dX0_canFollow_42 : decode cX0_canFollow 42 = .ok (.if_icmp .ne 35, 3) := dk_160 0 35 (dk_at dksX0_canFollow_1 18 rfl rfl)
theorem dX0_canFollow_45 : decode cX0_canFollow 45 = .ok (.aload_n 0, 1) := dk_42 (dk_at dksX0_canFollow_1 21 rfl rfl)
theorem dX0_canFollow_46 : decode cX0_canFollow 46 = .ok (.getfield 24, 3) := dk_180 0 24 (dk_at dksX0_canFollow_2 0 rfl rfl)
theorem dX0_canFollow_49 : decode cX0_canFollow 49 = .ok (.iload_n 1, 1) := dk_27 (dk_at dksX0_canFollow_2 3 rfl rfl)
theorem dX0_canFollow_50 : decode cX0_canFollow 50 = .ok (.aaload, 1) := dk_50 (dk_at dksX0_canFollow_2 4 rfl rfl)
theorem dX0_canFollow_51 : decode cX0_canFollow 51 = .ok (.invokevirtual 229, 3) := dk_182 0 229 (dk_at dksX0_canFollow_2 5 rfl rfl)
theorem dX0_canFollow_54 : decode cX0_canFollow 54 = .ok (.aload_n 0, 1) := dk_42 (dk_at dksX0_canFollow_2 8 rfl rfl)
theorem dX0_canFollow_55 : decode cX0_canFollow 55 = .ok (.getfield 71, 3) := dk_180 0 71 (dk_at dksX0_canFollow_2 9 rfl rfl)
theorem dX0_canFollow_58 : decode cX0_canFollow 58 = .ok (.iadd, 1) := dk_96 (dk_at dksX0_canFollow_2 12 rfl rfl)
theorem dX0_canFollow_59 : decode cX0_canFollow 59 = .ok (.aload_n 0, 1) := dk_42 (dk_at dksX0_canFollow_2 13 rfl rfl)
theorem dX0_canFollow_60 : decode cX0_canFollow 60 = .ok (.getfield 24, 3) := dk_180 0 24 (dk_at dksX0_canFollow_2 14 rfl rfl)
theorem dX0_canFollow_63 : decode cX0_canFollow 63 = .ok (.iload_n 2, 1) := dk_28 (dk_at dksX0_canFollow_2 17 rfl rfl)
theorem dX0_canFollow_64 : decode cX0_canFollow 64 = .ok (.aaload, 1) := dk_50 (dk_at dksX0_canFollow_2 18 rfl rfl)
theorem dX0_canFollow_65 : decode cX0_canFollow 65 = .ok (.getfield 32, 3) := dk_180 0 32 (dk_at dksX0_canFollow_2 19 rfl rfl)
theorem dX0_canFollow_68 : decode cX0_canFollow 68 = .ok (.iconst 0, 1) := dk_3 (dk_at dksX0_canFollow_2 22 rfl rfl)
theorem dX0_canFollow_69 : decode cX0_canFollow 69 = .ok (.iaload, 1) := dk_46 (dk_at dksX0_canFollow_2 23 rfl rfl)
theorem dX0_canFollow_70 : decode cX0_canFollow 70 = .ok (.if_icmp .gt 7, 3) := dk_163 0 7 (dk_at dksX0_canFollow_3 0 rfl rfl)
theorem dX0_canFollow_73 : decode cX0_canFollow 73 = .ok (.iconst 1, 1) := dk_4 (dk_at dksX0_canFollow_3 3 rfl rfl)
theorem dX0_canFollow_74 : decode cX0_canFollow 74 = .ok (.goto 4, 3) := dk_167 0 4 (dk_at dksX0_canFollow_3 4 rfl rfl)
theorem dX0_canFollow_77 : decode cX0_canFollow 77 = .ok (.iconst 0, 1) := dk_3 (dk_at dksX0_canFollow_3 7 rfl rfl)
theorem dX0_canFollow_78 : decode cX0_canFollow 78 = .ok (.ireturn, 1) := dk_172 (dk_at dksX0_canFollow_3 8 rfl rfl)
abbrev cX0_meets : ByteArray := prog_1_method_43_code
def yX0_meets : MethodName := ⟨RX0, "meets", "()I"⟩
def dkwX0_meets_3 : List UInt8 := [167, 0, 4, 3, 96, 60, 132, 3, 1, 167, 255, 194, 132, 2, 1, 167, 255, 176, 27, 172]
abbrev dktX0_meets_3 : List UInt8 := dkwX0_meets_3 ++ []
def dkwX0_meets_2 : List UInt8 := [153, 0, 26, 42, 42, 180, 0, 24, 28, 50, 42, 180, 0, 24, 29, 50, 182, 1, 20, 153, 0, 7, 4]
abbrev dktX0_meets_2 : List UInt8 := dkwX0_meets_2 ++ dktX0_meets_3
def dkwX0_meets_1 : List UInt8 := [27, 42, 180, 0, 24, 28, 50, 180, 0, 217, 153, 0, 38, 42, 180, 0, 24, 29, 50, 180, 0, 217]
abbrev dktX0_meets_1 : List UInt8 := dkwX0_meets_1 ++ dktX0_meets_2
def dkwX0_meets_0 : List UInt8 := [3, 60, 3, 61, 28, 42, 180, 0, 10, 162, 0, 78, 28, 4, 96, 62, 29, 42, 180, 0, 10, 162, 0, 60]
abbrev dktX0_meets_0 : List UInt8 := dkwX0_meets_0 ++ dktX0_meets_1
theorem dksX0_meets_0 : cX0_meets.data.toList.drop 0 = dktX0_meets_0 := by decide +kernel
theorem dksX0_meets_1 : cX0_meets.data.toList.drop 24 = dktX0_meets_1 := dk_seg dksX0_meets_0 24 rfl rfl
theorem dksX0_meets_2 : cX0_meets.data.toList.drop 46 = dktX0_meets_2 := dk_seg dksX0_meets_1 22 rfl rfl
theorem dksX0_meets_3 : cX0_meets.data.toList.drop 69 = dktX0_meets_3 := dk_seg dksX0_meets_2 23 rfl rfl
theorem dX0_meets_0 : decode cX0_meets 0 = .ok (.iconst 0, 1) := dk_3 (dk_at dksX0_meets_0 0 rfl rfl)
theorem dX0_meets_1 : decode cX0_meets 1 = .ok (.istore_n 1, 1) := dk_60 (dk_at dksX0_meets_0 1 rfl rfl)
theorem dX0_meets_2 : decode cX0_meets 2 = .ok (.iconst 0, 1) := dk_3 (dk_at dksX0_meets_0 2 rfl rfl)
theorem dX0_meets_3 : decode cX0_meets 3 = .ok (.istore_n 2, 1) := dk_61 (dk_at dksX0_meets_0 3 rfl rfl)
theorem dX0_meets_4 : decode cX0_meets 4 = .ok (.iload_n 2, 1) := dk_28 (dk_at dksX0_meets_0 4 rfl rfl)
theorem dX0_meets_5 : decode cX0_meets 5 = .ok (.aload_n 0, 1) := dk_42 (dk_at dksX0_meets_0 5 rfl rfl)
theorem dX0_meets_6 : decode cX0_meets 6 = .ok (.getfield 10, 3) := dk_180 0 10 (dk_at dksX0_meets_0 6 rfl rfl)
theorem dX0_meets_9 : decode cX0_meets 9 = .ok (.if_icmp .ge 78, 3) := dk_162 0 78 (dk_at dksX0_meets_0 9 rfl rfl)
theorem dX0_meets_12 : decode cX0_meets 12 = .ok (.iload_n 2, 1) := dk_28 (dk_at dksX0_meets_0 12 rfl rfl)
theorem dX0_meets_13 : decode cX0_meets 13 = .ok (.iconst 1, 1) := dk_4 (dk_at dksX0_meets_0 13 rfl rfl)
theorem dX0_meets_14 : decode cX0_meets 14 = .ok (.iadd, 1) := dk_96 (dk_at dksX0_meets_0 14 rfl rfl)
theorem dX0_meets_15 : decode cX0_meets 15 = .ok (.istore_n 3, 1) := dk_62 (dk_at dksX0_meets_0 15 rfl rfl)
theorem dX0_meets_16 : decode cX0_meets 16 = .ok (.iload_n 3, 1) := dk_29 (dk_at dksX0_meets_0 16 rfl rfl)
theorem dX0_meets_17 : decode cX0_meets 17 = .ok (.aload_n 0, 1) := dk_42 (dk_at dksX0_meets_0 17 rfl rfl)
theorem dX0_meets_18 : decode cX0_meets 18 = .ok (.getfield 10, 3) := dk_180 0 10 (dk_at dksX0_meets_0 18 rfl rfl)
theorem dX0_meets_21 : decode cX0_meets 21 = .ok (.if_icmp .ge 60, 3) := dk_162 0 60 (dk_at dksX0_meets_0 21 rfl rfl)
theorem dX0_meets_24 : decode cX0_meets 24 = .ok (.iload_n 1, 1) := dk_27 (dk_at dksX0_meets_1 0 rfl rfl)
theorem dX0_meets_25 : decode cX0_meets 25 = .ok (.aload_n 0, 1) := dk_42 (dk_at dksX0_meets_1 1 rfl rfl)
theorem dX0_meets_26 : decode cX0_meets 26 = .ok (.getfield 24, 3) := dk_180 0 24 (dk_at dksX0_meets_1 2 rfl rfl)
theorem dX0_meets_29 : decode cX0_meets 29 = .ok (.iload_n 2, 1) := dk_28 (dk_at dksX0_meets_1 5 rfl rfl)
theorem dX0_meets_30 : decode cX0_meets 30 = .ok (.aaload, 1) := dk_50 (dk_at dksX0_meets_1 6 rfl rfl)
theorem dX0_meets_31 : decode cX0_meets 31 = .ok (.getfield 217, 3) := dk_180 0 217 (dk_at dksX0_meets_1 7 rfl rfl)
theorem dX0_meets_34 : decode cX0_meets 34 = .ok (.ifCond .eq 38, 3) := dk_153 0 38 (dk_at dksX0_meets_1 10 rfl rfl)
theorem dX0_meets_37 : decode cX0_meets 37 = .ok (.aload_n 0, 1) := dk_42 (dk_at dksX0_meets_1 13 rfl rfl)
theorem dX0_meets_38 : decode cX0_meets 38 = .ok (.getfield 24, 3) := dk_180 0 24 (dk_at dksX0_meets_1 14 rfl rfl)
theorem dX0_meets_41 : decode cX0_meets 41 = .ok (.iload_n 3, 1) := dk_29 (dk_at dksX0_meets_1 17 rfl rfl)
theorem dX0_meets_42 : decode cX0_meets 42 = .ok (.aaload, 1) := dk_50 (dk_at dksX0_meets_1 18 rfl rfl)
theorem dX0_meets_43 : decode cX0_meets 43 = .ok (.getfield 217, 3) := dk_180 0 217 (dk_at dksX0_meets_1 19 rfl rfl)
theorem dX0_meets_46 : decode cX0_meets 46 = .ok (.ifCond .eq 26, 3) := dk_153 0 26 (dk_at dksX0_meets_2 0 rfl rfl)
theorem dX0_meets_49 : decode cX0_meets 49 = .ok (.aload_n 0, 1) := dk_42 (dk_at dksX0_meets_2 3 rfl rfl)
theorem dX0_meets_50 : decode cX0_meets 50 = .ok (.aload_n 0, 1) := dk_42 (dk_at dksX0_meets_2 4 rfl rfl)
theorem dX0_meets_51 : decode cX0_meets 51 = .ok (.getfield 24, 3) := dk_180 0 24 (dk_at dksX0_meets_2 5 rfl rfl)
theorem dX0_meets_54 : decode cX0_meets 54 = .ok (.iload_n 2, 1) := dk_28 (dk_at dksX0_meets_2 8 rfl rfl)
theorem dX0_meets_55 : decode cX0_meets 55 = .ok (.aaload, 1) := dk_50 (dk_at dksX0_meets_2 9 rfl rfl)
theorem dX0_meets_56 : decode cX0_meets 56 = .ok (.aload_n 0, 1) := dk_42 (dk_at dksX0_meets_2 10 rfl rfl)
theorem dX0_meets_57 : decode cX0_meets 57 = .ok (.getfield 24, 3) := dk_180 0 24 (dk_at dksX0_meets_2 11 rfl rfl)
theorem dX0_meets_60 : decode cX0_meets 60 = .ok (.iload_n 3, 1) := dk_29 (dk_at dksX0_meets_2 14 rfl rfl)
theorem dX0_meets_61 : decode cX0_meets 61 = .ok (.aaload, 1) := dk_50 (dk_at dksX0_meets_2 15 rfl rfl)
theorem dX0_meets_62 : decode cX0_meets 62 = .ok (.invokevirtual 276, 3) := dk_182 1 20 (dk_at dksX0_meets_2 16 rfl rfl)
theorem dX0_meets_65 : decode cX0_meets 65 = .ok (.ifCond .eq 7, 3) := dk_153 0 7 (dk_at dksX0_meets_2 19 rfl rfl)
theorem dX0_meets_68 : decode cX0_meets 68 = .ok (.iconst 1, 1) := dk_4 (dk_at dksX0_meets_2 22 rfl rfl)
theorem dX0_meets_69 : decode cX0_meets 69 = .ok (.goto 4, 3) := dk_167 0 4 (dk_at dksX0_meets_3 0 rfl rfl)
theorem dX0_meets_72 : decode cX0_meets 72 = .ok (.iconst 0, 1) := dk_3 (dk_at dksX0_meets_3 3 rfl rfl)
theorem dX0_meets_73 : decode cX0_meets 73 = .ok (.iadd, 1) := dk_96 (dk_at dksX0_meets_3 4 rfl rfl)
theorem dX0_meets_74 : decode cX0_meets 74 = .ok (.istore_n 1, 1) := dk_60 (dk_at dksX0_meets_3 5 rfl rfl)
theorem dX0_meets_75 : decode cX0_meets 75 = .ok (.iinc 3 1, 3) := dk_132 3 1 (dk_at dksX0_meets_3 6 rfl rfl)
theorem dX0_meets_78 : decode cX0_meets 78 = .ok (.goto (-62), 3) := dk_167 255 194 (dk_at dksX0_meets_3 9 rfl rfl)
theorem dX0_meets_81 : decode cX0_meets 81 = .ok (.iinc 2 1, 3) := dk_132 2 1 (dk_at dksX0_meets_3 12 rfl rfl)
theorem dX0_meets_84 : decode cX0_meets 84 = .ok (.goto (-80), 3) := dk_167 255 176 (dk_at dksX0_meets_3 15 rfl rfl)
theorem dX0_meets_87 : decode cX0_meets 87 = .ok (.iload_n 1, 1) := dk_27 (dk_at dksX0_meets_3 18 rfl rfl)
theorem dX0_meets_88 : decode cX0_meets 88 = .ok (.ireturn, 1) := dk_172 (dk_at dksX0_meets_3 19 rfl rfl)
abbrev cX0_doMeet : ByteArray := prog_1_method_42_code
def yX0_doMeet : MethodName := ⟨RX0, "doMeet", "(LMissedTrains$Train;LMissedTrains$Train;)Z"⟩
def dkwX0_doMeet_5 : List UInt8 := [3, 172]
abbrev dktX0_doMeet_5 : List UInt8 := dkwX0_doMeet_5 ++ []
def dkwX0_doMeet_4 : List UInt8 := [180, 0, 32, 29, 4, 96, 46, 162, 0, 5, 4, 172, 132, 4, 1, 167, 255, 165, 132, 3, 1, 167, 255, 146]
abbrev dktX0_doMeet_4 : List UInt8 := dkwX0_doMeet_4 ++ dktX0_doMeet_5
def dkwX0_doMeet_3 : List UInt8 := [29, 46, 44, 180, 0, 32, 21, 4, 4, 96, 46, 162, 0, 23, 44, 180, 0, 32, 21, 4, 46, 43]
abbrev dktX0_doMeet_3 : List UInt8 := dkwX0_doMeet_3 ++ dktX0_doMeet_4
def dkwX0_doMeet_2 : List UInt8 := [180, 0, 232, 29, 4, 96, 46, 44, 180, 0, 232, 21, 4, 46, 159, 0, 6, 167, 0, 41, 43, 180, 0, 32]
abbrev dktX0_doMeet_2 : List UInt8 := dkwX0_doMeet_2 ++ dktX0_doMeet_3
def dkwX0_doMeet_1 : List UInt8 := [162, 0, 86, 43, 180, 0, 232, 29, 46, 44, 180, 0, 232, 21, 4, 4, 96, 46, 160, 0, 62, 43]
abbrev dktX0_doMeet_1 : List UInt8 := dkwX0_doMeet_1 ++ dktX0_doMeet_2
def dkwX0_doMeet_0 : List UInt8 := [3, 62, 29, 4, 96, 43, 180, 0, 43, 162, 0, 106, 3, 54, 4, 21, 4, 4, 96, 44, 180, 0, 43]
abbrev dktX0_doMeet_0 : List UInt8 := dkwX0_doMeet_0 ++ dktX0_doMeet_1
theorem dksX0_doMeet_0 : cX0_doMeet.data.toList.drop 0 = dktX0_doMeet_0 := by decide +kernel
theorem dksX0_doMeet_1 : cX0_doMeet.data.toList.drop 23 = dktX0_doMeet_1 := dk_seg dksX0_doMeet_0 23 rfl rfl
theorem dksX0_doMeet_2 : cX0_doMeet.data.toList.drop 45 = dktX0_doMeet_2 := dk_seg dksX0_doMeet_1 22 rfl rfl
theorem dksX0_doMeet_3 : cX0_doMeet.data.toList.drop 69 = dktX0_doMeet_3 := dk_seg dksX0_doMeet_2 24 rfl rfl
theorem dksX0_doMeet_4 : cX0_doMeet.data.toList.drop 91 = dktX0_doMeet_4 := dk_seg dksX0_doMeet_3 22 rfl rfl
theorem dksX0_doMeet_5 : cX0_doMeet.data.toList.drop 115 = dktX0_doMeet_5 := dk_seg dksX0_doMeet_4 24 rfl rfl
theorem dX0_doMeet_0 : decode cX0_doMeet 0 = .ok (.iconst 0, 1) := dk_3 (dk_at dksX0_doMeet_0 0 rfl rfl)
theorem dX0_doMeet_1 : decode cX0_doMeet 1 = .ok (.istore_n 3, 1) := dk_62 (dk_at dksX0_doMeet_0 1 rfl rfl)
theorem dX0_doMeet_2 : decode cX0_doMeet 2 = .ok (.iload_n 3, 1) := dk_29 (dk_at dksX0_doMeet_0 2 rfl rfl)
theorem dX0_doMeet_3 : decode cX0_doMeet 3 = .ok (.iconst 1, 1) := dk_4 (dk_at dksX0_doMeet_0 3 rfl rfl)
theorem dX0_doMeet_4 : decode cX0_doMeet 4 = .ok (.iadd, 1) := dk_96 (dk_at dksX0_doMeet_0 4 rfl rfl)
theorem dX0_doMeet_5 : decode cX0_doMeet 5 = .ok (.aload_n 1, 1) := dk_43 (dk_at dksX0_doMeet_0 5 rfl rfl)
theorem dX0_doMeet_6 : decode cX0_doMeet 6 = .ok (.getfield 43, 3) := dk_180 0 43 (dk_at dksX0_doMeet_0 6 rfl rfl)
theorem dX0_doMeet_9 : decode cX0_doMeet 9 = .ok (.if_icmp .ge 106, 3) := dk_162 0 106 (dk_at dksX0_doMeet_0 9 rfl rfl)
theorem dX0_doMeet_12 : decode cX0_doMeet 12 = .ok (.iconst 0, 1) := dk_3 (dk_at dksX0_doMeet_0 12 rfl rfl)
theorem dX0_doMeet_13 : decode cX0_doMeet 13 = .ok (.istore 4, 2) := dk_54 4 (dk_at dksX0_doMeet_0 13 rfl rfl)
theorem dX0_doMeet_15 : decode cX0_doMeet 15 = .ok (.iload 4, 2) := dk_21 4 (dk_at dksX0_doMeet_0 15 rfl rfl)
theorem dX0_doMeet_17 : decode cX0_doMeet 17 = .ok (.iconst 1, 1) := dk_4 (dk_at dksX0_doMeet_0 17 rfl rfl)
theorem dX0_doMeet_18 : decode cX0_doMeet 18 = .ok (.iadd, 1) := dk_96 (dk_at dksX0_doMeet_0 18 rfl rfl)
theorem dX0_doMeet_19 : decode cX0_doMeet 19 = .ok (.aload_n 2, 1) := dk_44 (dk_at dksX0_doMeet_0 19 rfl rfl)
theorem dX0_doMeet_20 : decode cX0_doMeet 20 = .ok (.getfield 43, 3) := dk_180 0 43 (dk_at dksX0_doMeet_0 20 rfl rfl)
theorem dX0_doMeet_23 : decode cX0_doMeet 23 = .ok (.if_icmp .ge 86, 3) := dk_162 0 86 (dk_at dksX0_doMeet_1 0 rfl rfl)
theorem dX0_doMeet_26 : decode cX0_doMeet 26 = .ok (.aload_n 1, 1) := dk_43 (dk_at dksX0_doMeet_1 3 rfl rfl)
theorem dX0_doMeet_27 : decode cX0_doMeet 27 = .ok (.getfield 232, 3) := dk_180 0 232 (dk_at dksX0_doMeet_1 4 rfl rfl)
theorem dX0_doMeet_30 : decode cX0_doMeet 30 = .ok (.iload_n 3, 1) := dk_29 (dk_at dksX0_doMeet_1 7 rfl rfl)
theorem dX0_doMeet_31 : decode cX0_doMeet 31 = .ok (.iaload, 1) := dk_46 (dk_at dksX0_doMeet_1 8 rfl rfl)
theorem dX0_doMeet_32 : decode cX0_doMeet 32 = .ok (.aload_n 2, 1) := dk_44 (dk_at dksX0_doMeet_1 9 rfl rfl)
theorem dX0_doMeet_33 : decode cX0_doMeet 33 = .ok (.getfield 232, 3) := dk_180 0 232 (dk_at dksX0_doMeet_1 10 rfl rfl)
theorem dX0_doMeet_36 : decode cX0_doMeet 36 = .ok (.iload 4, 2) := dk_21 4 (dk_at dksX0_doMeet_1 13 rfl rfl)
theorem dX0_doMeet_38 : decode cX0_doMeet 38 = .ok (.iconst 1, 1) := dk_4 (dk_at dksX0_doMeet_1 15 rfl rfl)
theorem dX0_doMeet_39 : decode cX0_doMeet 39 = .ok (.iadd, 1) := dk_96 (dk_at dksX0_doMeet_1 16 rfl rfl)
theorem dX0_doMeet_40 : decode cX0_doMeet 40 = .ok (.iaload, 1) := dk_46 (dk_at dksX0_doMeet_1 17 rfl rfl)
theorem dX0_doMeet_41 : decode cX0_doMeet 41 = .ok (.if_icmp .ne 62, 3) := dk_160 0 62 (dk_at dksX0_doMeet_1 18 rfl rfl)
theorem dX0_doMeet_44 : decode cX0_doMeet 44 = .ok (.aload_n 1, 1) := dk_43 (dk_at dksX0_doMeet_1 21 rfl rfl)
theorem dX0_doMeet_45 : decode cX0_doMeet 45 = .ok (.getfield 232, 3) := dk_180 0 232 (dk_at dksX0_doMeet_2 0 rfl rfl)
theorem dX0_doMeet_48 : decode cX0_doMeet 48 = .ok (.iload_n 3, 1) := dk_29 (dk_at dksX0_doMeet_2 3 rfl rfl)
theorem dX0_doMeet_49 : decode cX0_doMeet 49 = .ok (.iconst 1, 1) := dk_4 (dk_at dksX0_doMeet_2 4 rfl rfl)
theorem dX0_doMeet_50 : decode cX0_doMeet 50 = .ok (.iadd, 1) := dk_96 (dk_at dksX0_doMeet_2 5 rfl rfl)
theorem dX0_doMeet_51 : decode cX0_doMeet 51 = .ok (.iaload, 1) := dk_46 (dk_at dksX0_doMeet_2 6 rfl rfl)
theorem dX0_doMeet_52 : decode cX0_doMeet 52 = .ok (.aload_n 2, 1) := dk_44 (dk_at dksX0_doMeet_2 7 rfl rfl)
theorem dX0_doMeet_53 : decode cX0_doMeet 53 = .ok (.getfield 232, 3) := dk_180 0 232 (dk_at dksX0_doMeet_2 8 rfl rfl)
theorem dX0_doMeet_56 : decode cX0_doMeet 56 = .ok (.iload 4, 2) := dk_21 4 (dk_at dksX0_doMeet_2 11 rfl rfl)
theorem dX0_doMeet_58 : decode cX0_doMeet 58 = .ok (.iaload, 1) := dk_46 (dk_at dksX0_doMeet_2 13 rfl rfl)
theorem dX0_doMeet_59 : decode cX0_doMeet 59 = .ok (.if_icmp .eq 6, 3) := dk_159 0 6 (dk_at dksX0_doMeet_2 14 rfl rfl)
theorem dX0_doMeet_62 : decode cX0_doMeet 62 = .ok (.goto 41, 3) := dk_167 0 41 (dk_at dksX0_doMeet_2 17 rfl rfl)
theorem dX0_doMeet_65 : decode cX0_doMeet 65 = .ok (.aload_n 1, 1) := dk_43 (dk_at dksX0_doMeet_2 20 rfl rfl)
theorem dX0_doMeet_66 : decode cX0_doMeet 66 = .ok (.getfield 32, 3) := dk_180 0 32 (dk_at dksX0_doMeet_2 21 rfl rfl)
theorem dX0_doMeet_69 : decode cX0_doMeet 69 = .ok (.iload_n 3, 1) := dk_29 (dk_at dksX0_doMeet_3 0 rfl rfl)
theorem dX0_doMeet_70 : decode cX0_doMeet 70 = .ok (.iaload, 1) := dk_46 (dk_at dksX0_doMeet_3 1 rfl rfl)
theorem dX0_doMeet_71 : decode cX0_doMeet 71 = .ok (.aload_n 2, 1) := dk_44 (dk_at dksX0_doMeet_3 2 rfl rfl)
theorem dX0_doMeet_72 : decode cX0_doMeet 72 = .ok (.getfield 32, 3) := dk_180 0 32 (dk_at dksX0_doMeet_3 3 rfl rfl)
theorem dX0_doMeet_75 : decode cX0_doMeet 75 = .ok (.iload 4, 2) := dk_21 4 (dk_at dksX0_doMeet_3 6 rfl rfl)
theorem dX0_doMeet_77 : decode cX0_doMeet 77 = .ok (.iconst 1, 1) := dk_4 (dk_at dksX0_doMeet_3 8 rfl rfl)
theorem dX0_doMeet_78 : decode cX0_doMeet 78 = .ok (.iadd, 1) := dk_96 (dk_at dksX0_doMeet_3 9 rfl rfl)
theorem dX0_doMeet_79 : decode cX0_doMeet 79 = .ok (.iaload, 1) := dk_46 (dk_at dksX0_doMeet_3 10 rfl rfl)
theorem dX0_doMeet_80 : decode cX0_doMeet 80 = .ok (.if_icmp .ge 23, 3) := dk_162 0 23 (dk_at dksX0_doMeet_3 11 rfl rfl)
theorem dX0_doMeet_83 : decode cX0_doMeet 83 = .ok (.aload_n 2, 1) := dk_44 (dk_at dksX0_doMeet_3 14 rfl rfl)
theorem dX0_doMeet_84 : decode cX0_doMeet 84 = .ok (.getfield 32, 3) := dk_180 0 32 (dk_at dksX0_doMeet_3 15 rfl rfl)
theorem dX0_doMeet_87 : decode cX0_doMeet 87 = .ok (.iload 4, 2) := dk_21 4 (dk_at dksX0_doMeet_3 18 rfl rfl)
theorem dX0_doMeet_89 : decode cX0_doMeet 89 = .ok (.iaload, 1) := dk_46 (dk_at dksX0_doMeet_3 20 rfl rfl)
theorem dX0_doMeet_90 : decode cX0_doMeet 90 = .ok (.aload_n 1, 1) := dk_43 (dk_at dksX0_doMeet_3 21 rfl rfl)
theorem dX0_doMeet_91 : decode cX0_doMeet 91 = .ok (.getfield 32, 3) := dk_180 0 32 (dk_at dksX0_doMeet_4 0 rfl rfl)
theorem dX0_doMeet_94 : decode cX0_doMeet 94 = .ok (.iload_n 3, 1) := dk_29 (dk_at dksX0_doMeet_4 3 rfl rfl)
theorem dX0_doMeet_95 : decode cX0_doMeet 95 = .ok (.iconst 1, 1) := dk_4 (dk_at dksX0_doMeet_4 4 rfl rfl)
theorem dX0_doMeet_96 : decode cX0_doMeet 96 = .ok (.iadd, 1) := dk_96 (dk_at dksX0_doMeet_4 5 rfl rfl)
theorem dX0_doMeet_97 : decode cX0_doMeet 97 = .ok (.iaload, 1) := dk_46 (dk_at dksX0_doMeet_4 6 rfl rfl)
theorem dX0_doMeet_98 : decode cX0_doMeet 98 = .ok (.if_icmp .ge 5, 3) := dk_162 0 5 (dk_at dksX0_doMeet_4 7 rfl rfl)
theorem dX0_doMeet_101 : decode cX0_doMeet 101 = .ok (.iconst 1, 1) := dk_4 (dk_at dksX0_doMeet_4 10 rfl rfl)
theorem dX0_doMeet_102 : decode cX0_doMeet 102 = .ok (.ireturn, 1) := dk_172 (dk_at dksX0_doMeet_4 11 rfl rfl)
theorem dX0_doMeet_103 : decode cX0_doMeet 103 = .ok (.iinc 4 1, 3) := dk_132 4 1 (dk_at dksX0_doMeet_4 12 rfl rfl)
theorem dX0_doMeet_106 : decode cX0_doMeet 106 = .ok (.goto (-91), 3) := dk_167 255 165 (dk_at dksX0_doMeet_4 15 rfl rfl)
theorem dX0_doMeet_109 : decode cX0_doMeet 109 = .ok (.iinc 3 1, 3) := dk_132 3 1 (dk_at dksX0_doMeet_4 18 rfl rfl)
theorem dX0_doMeet_112 : decode cX0_doMeet 112 = .ok (.goto (-110), 3) := dk_167 255 146 (dk_at dksX0_doMeet_4 21 rfl rfl)
theorem dX0_doMeet_115 : decode cX0_doMeet 115 = .ok (.iconst 0, 1) := dk_3 (dk_at dksX0_doMeet_5 0 rfl rfl)
theorem dX0_doMeet_116 : decode cX0_doMeet 116 = .ok (.ireturn, 1) := dk_172 (dk_at dksX0_doMeet_5 1 rfl rfl)
abbrev cX0_inspector : ByteArray := prog_1_method_45_code
def yX0_inspector : MethodName := ⟨RX0, "inspector", "(I)I"⟩
def dkwX0_inspector_3 : List UInt8 := [180, 0, 28, 28, 46, 182, 1, 24, 79, 132, 2, 255, 167, 255, 190, 42, 27, 3, 2, 182, 1, 24, 172]
abbrev dktX0_inspector_3 : List UInt8 := dkwX0_inspector_3 ++ []
def dkwX0_inspector_2 : List UInt8 := [50, 180, 0, 232, 42, 180, 0, 37, 28, 46, 46, 42, 28, 182, 0, 44, 42, 180, 0, 71, 96, 42]
abbrev dktX0_inspector_2 : List UInt8 := dkwX0_inspector_2 ++ dktX0_inspector_3
def dkwX0_inspector_1 : List UInt8 := [42, 180, 0, 28, 28, 46, 50, 42, 180, 0, 37, 28, 46, 42, 42, 180, 0, 24, 42, 180, 0, 28, 28, 46]
abbrev dktX0_inspector_1 : List UInt8 := dkwX0_inspector_1 ++ dktX0_inspector_2
def dkwX0_inspector_0 : List UInt8 := [27, 184, 0, 20, 154, 0, 5, 2, 172, 42, 180, 0, 40, 4, 100, 61, 28, 155, 0, 68, 42, 180, 0, 118]
abbrev dktX0_inspector_0 : List UInt8 := dkwX0_inspector_0 ++ dktX0_inspector_1
theorem dksX0_inspector_0 : cX0_inspector.data.toList.drop 0 = dktX0_inspector_0 := by decide +kernel
theorem dksX0_inspector_1 : cX0_inspector.data.toList.drop 24 = dktX0_inspector_1 := dk_seg dksX0_inspector_0 24 rfl rfl
theorem dksX0_inspector_2 : cX0_inspector.data.toList.drop 48 = dktX0_inspector_2 := dk_seg dksX0_inspector_1 24 rfl rfl
theorem dksX0_inspector_3 : cX0_inspector.data.toList.drop 70 = dktX0_inspector_3 := dk_seg dksX0_inspector_2 22 rfl rfl
theorem dX0_inspector_0 : decode cX0_inspector 0 = .ok (.iload_n 1, 1) := dk_27 (dk_at dksX0_inspector_0 0 rfl rfl)
theorem dX0_inspector_1 : decode cX0_inspector 1 = .ok (.invokestatic 20, 3) := dk_184 0 20 (dk_at dksX0_inspector_0 1 rfl rfl)
theorem dX0_inspector_4 : decode cX0_inspector 4 = .ok (.ifCond .ne 5, 3) := dk_154 0 5 (dk_at dksX0_inspector_0 4 rfl rfl)
theorem dX0_inspector_7 : decode cX0_inspector 7 = .ok (.iconst (-1), 1) := dk_2 (dk_at dksX0_inspector_0 7 rfl rfl)
theorem dX0_inspector_8 : decode cX0_inspector 8 = .ok (.ireturn, 1) := dk_172 (dk_at dksX0_inspector_0 8 rfl rfl)
theorem dX0_inspector_9 : decode cX0_inspector 9 = .ok (.aload_n 0, 1) := dk_42 (dk_at dksX0_inspector_0 9 rfl rfl)
theorem dX0_inspector_10 : decode cX0_inspector 10 = .ok (.getfield 40, 3) := dk_180 0 40 (dk_at dksX0_inspector_0 10 rfl rfl)
theorem dX0_inspector_13 : decode cX0_inspector 13 = .ok (.iconst 1, 1) := dk_4 (dk_at dksX0_inspector_0 13 rfl rfl)
theorem dX0_inspector_14 : decode cX0_inspector 14 = .ok (.isub, 1) := dk_100 (dk_at dksX0_inspector_0 14 rfl rfl)
theorem dX0_inspector_15 : decode cX0_inspector 15 = .ok (.istore_n 2, 1) := dk_61 (dk_at dksX0_inspector_0 15 rfl rfl)
theorem dX0_inspector_16 : decode cX0_inspector 16 = .ok (.iload_n 2, 1) := dk_28 (dk_at dksX0_inspector_0 16 rfl rfl)
theorem dX0_inspector_17 : decode cX0_inspector 17 = .ok (.ifCond .lt 68, 3) := dk_155 0 68 (dk_at dksX0_inspector_0 17 rfl rfl)
theorem dX0_inspector_20 : decode cX0_inspector 20 = .ok (.aload_n 0, 1) := dk_42 (dk_at dksX0_inspector_0 20 rfl rfl)
theorem dX0_inspector_21 : decode cX0_inspector 21 = .ok (.getfield 118, 3) := dk_180 0 118 (dk_at dksX0_inspector_0 21 rfl rfl)
theorem dX0_inspector_24 : decode cX0_inspector 24 = .ok (.aload_n 0, 1) := dk_42 (dk_at dksX0_inspector_1 0 rfl rfl)
theorem dX0_inspector_25 : decode cX0_inspector 25 = .ok (.getfield 28, 3) := dk_180 0 28 (dk_at dksX0_inspector_1 1 rfl rfl)
theorem dX0_inspector_28 : decode cX0_inspector 28 = .ok (.iload_n 2, 1) := dk_28 (dk_at dksX0_inspector_1 4 rfl rfl)
theorem dX0_inspector_29 : decode cX0_inspector 29 = .ok (.iaload, 1) := dk_46 (dk_at dksX0_inspector_1 5 rfl rfl)
theorem dX0_inspector_30 : decode cX0_inspector 30 = .ok (.aaload, 1) := dk_50 (dk_at dksX0_inspector_1 6 rfl rfl)
theorem dX0_inspector_31 : decode cX0_inspector 31 = .ok (.aload_n 0, 1) := dk_42 (dk_at dksX0_inspector_1 7 rfl rfl)
theorem dX0_inspector_32 : decode cX0_inspector 32 = .ok (.getfield 37, 3) := dk_180 0 37 (dk_at dksX0_inspector_1 8 rfl rfl)
theorem dX0_inspector_35 : decode cX0_inspector 35 = .ok (.iload_n 2, 1) := dk_28 (dk_at dksX0_inspector_1 11 rfl rfl)
theorem dX0_inspector_36 : decode cX0_inspector 36 = .ok (.iaload, 1) := dk_46 (dk_at dksX0_inspector_1 12 rfl rfl)
theorem dX0_inspector_37 : decode cX0_inspector 37 = .ok (.aload_n 0, 1) := dk_42 (dk_at dksX0_inspector_1 13 rfl rfl)
theorem dX0_inspector_38 : decode cX0_inspector 38 = .ok (.aload_n 0, 1) := dk_42 (dk_at dksX0_inspector_1 14 rfl rfl)
theorem dX0_inspector_39 : decode cX0_inspector 39 = .ok (.getfield 24, 3) := dk_180 0 24 (dk_at dksX0_inspector_1 15 rfl rfl)
theorem dX0_inspector_42 : decode cX0_inspector 42 = .ok (.aload_n 0, 1) := dk_42 (dk_at dksX0_inspector_1 18 rfl rfl)
theorem dX0_inspector_43 : decode cX0_inspector 43 = .ok (.getfield 28, 3) := dk_180 0 28 (dk_at dksX0_inspector_1 19 rfl rfl)
theorem dX0_inspector_46 : decode cX0_inspector 46 = .ok (.iload_n 2, 1) := dk_28 (dk_at dksX0_inspector_1 22 rfl rfl)
theorem dX0_inspector_47 : decode cX0_inspector 47 = .ok (.iaload, 1) := dk_46 (dk_at dksX0_inspector_1 23 rfl rfl)
theorem dX0_inspector_48 : decode cX0_inspector 48 = .ok (.aaload, 1) := dk_50 (dk_at dksX0_inspector_2 0 rfl rfl)
theorem dX0_inspector_49 : decode cX0_inspector 49 = .ok (.getfield 232, 3) := dk_180 0 232 (dk_at dksX0_inspector_2 1 rfl rfl)
theorem dX0_inspector_52 : decode cX0_inspector 52 = .ok (.aload_n 0, 1) := dk_42 (dk_at dksX0_inspector_2 4 rfl rfl)
theorem dX0_inspector_53 : decode cX0_inspector 53 = .ok (.getfield 37, 3) := dk_180 0 37 (dk_at dksX0_inspector_2 5 rfl rfl)
theorem dX0_inspector_56 : decode cX0_inspector 56 = .ok (.iload_n 2, 1) := dk_28 (dk_at dksX0_inspector_2 8 rfl rfl)
theorem dX0_inspector_57 : decode cX0_inspector 57 = .ok (.iaload, 1) := dk_46 (dk_at dksX0_inspector_2 9 rfl rfl)
theorem dX0_inspector_58 : decode cX0_inspector 58 = .ok (.iaload, 1) := dk_46 (dk_at dksX0_inspector_2 10 rfl rfl)
theorem dX0_inspector_59 : decode cX0_inspector 59 = .ok (.aload_n 0, 1) := dk_42 (dk_at dksX0_inspector_2 11 rfl rfl)
theorem dX0_inspector_60 : decode cX0_inspector 60 = .ok (.iload_n 2, 1) := dk_28 (dk_at dksX0_inspector_2 12 rfl rfl)
theorem dX0_inspector_61 : decode cX0_inspector 61 = .ok (.invokevirtual 44, 3) := dk_182 0 44 (dk_at dksX0_inspector_2 13 rfl rfl)
theorem dX0_inspector_64 : decode cX0_inspector 64 = .ok (.aload_n 0, 1) := dk_42 (dk_at dksX0_inspector_2 16 rfl rfl)
theorem dX0_inspector_65 : decode cX0_inspector 65 = .ok (.getfield 71, 3) := dk_180 0 71 (dk_at dksX0_inspector_2 17 rfl rfl)
theorem dX0_inspector_68 : decode cX0_inspector 68 = .ok (.iadd, 1) := dk_96 (dk_at dksX0_inspector_2 20 rfl rfl)
theorem dX0_inspector_69 : decode cX0_inspector 69 = .ok (.aload_n 0, 1) := dk_42 (dk_at dksX0_inspector_2 21 rfl rfl)
theorem dX0_inspector_70 : decode cX0_inspector 70 = .ok (.getfield 28, 3) := dk_180 0 28 (dk_at dksX0_inspector_3 0 rfl rfl)
theorem dX0_inspector_73 : decode cX0_inspector 73 = .ok (.iload_n 2, 1) := dk_28 (dk_at dksX0_inspector_3 3 rfl rfl)
theorem dX0_inspector_74 : decode cX0_inspector 74 = .ok (.iaload, 1) := dk_46 (dk_at dksX0_inspector_3 4 rfl rfl)
theorem dX0_inspector_75 : decode cX0_inspector 75 = .ok (.invokevirtual 280, 3) := dk_182 1 24 (dk_at dksX0_inspector_3 5 rfl rfl)
theorem dX0_inspector_78 : decode cX0_inspector 78 = .ok (.iastore, 1) := dk_79 (dk_at dksX0_inspector_3 8 rfl rfl)
theorem dX0_inspector_79 : decode cX0_inspector 79 = .ok (.iinc 2 (-1), 3) := dk_132 2 255 (dk_at dksX0_inspector_3 9 rfl rfl)
theorem dX0_inspector_82 : decode cX0_inspector 82 = .ok (.goto (-66), 3) := dk_167 255 190 (dk_at dksX0_inspector_3 12 rfl rfl)
theorem dX0_inspector_85 : decode cX0_inspector 85 = .ok (.aload_n 0, 1) := dk_42 (dk_at dksX0_inspector_3 15 rfl rfl)
theorem dX0_inspector_86 : decode cX0_inspector 86 = .ok (.iload_n 1, 1) := dk_27 (dk_at dksX0_inspector_3 16 rfl rfl)
theorem dX0_inspector_87 : decode cX0_inspector 87 = .ok (.iconst 0, 1) := dk_3 (dk_at dksX0_inspector_3 17 rfl rfl)
theorem dX0_inspector_88 : decode cX0_inspector 88 = .ok (.iconst (-1), 1) := dk_2 (dk_at dksX0_inspector_3 18 rfl rfl)
theorem dX0_inspector_89 : decode cX0_inspector 89 = .ok (.invokevirtual 280, 3) := dk_182 1 24 (dk_at dksX0_inspector_3 19 rfl rfl)
theorem dX0_inspector_92 : decode cX0_inspector 92 = .ok (.ireturn, 1) := dk_172 (dk_at dksX0_inspector_3 22 rfl rfl)
abbrev cX0_ridesFrom : ByteArray := prog_1_method_44_code
def yX0_ridesFrom : MethodName := ⟨RX0, "ridesFrom", "(III)I"⟩
def dkwX0_ridesFrom_4 : List UInt8 := [21, 6, 46, 96, 184, 0, 7, 54, 4, 132, 6, 1, 167, 255, 219, 132, 5, 1, 167, 255, 151, 21, 4, 172]
abbrev dktX0_ridesFrom_4 : List UInt8 := dkwX0_ridesFrom_4 ++ []
def dkwX0_ridesFrom_3 : List UInt8 := [42, 180, 0, 24, 21, 5, 50, 180, 0, 43, 162, 0, 28, 21, 4, 4, 42, 180, 0, 118, 21, 5, 50]
abbrev dktX0_ridesFrom_3 : List UInt8 := dkwX0_ridesFrom_3 ++ dktX0_ridesFrom_4
def dkwX0_ridesFrom_2 : List UInt8 := [28, 162, 0, 6, 167, 0, 58, 42, 180, 0, 24, 21, 5, 50, 27, 182, 1, 5, 4, 96, 54, 6, 21, 6]
abbrev dktX0_ridesFrom_2 : List UInt8 := dkwX0_ridesFrom_2 ++ dktX0_ridesFrom_3
def dkwX0_ridesFrom_1 : List UInt8 := [180, 0, 24, 21, 5, 50, 27, 182, 0, 244, 153, 0, 76, 42, 180, 0, 24, 21, 5, 50, 27, 182, 0, 247]
abbrev dktX0_ridesFrom_1 : List UInt8 := dkwX0_ridesFrom_1 ++ dktX0_ridesFrom_2
def dkwX0_ridesFrom_0 : List UInt8 := [3, 54, 4, 3, 54, 5, 21, 5, 42, 180, 0, 10, 162, 0, 102, 21, 5, 29, 159, 0, 90, 42]
abbrev dktX0_ridesFrom_0 : List UInt8 := dkwX0_ridesFrom_0 ++ dktX0_ridesFrom_1
theorem dksX0_ridesFrom_0 : cX0_ridesFrom.data.toList.drop 0 = dktX0_ridesFrom_0 := by decide +kernel
theorem dksX0_ridesFrom_1 : cX0_ridesFrom.data.toList.drop 22 = dktX0_ridesFrom_1 := dk_seg dksX0_ridesFrom_0 22 rfl rfl
theorem dksX0_ridesFrom_2 : cX0_ridesFrom.data.toList.drop 46 = dktX0_ridesFrom_2 := dk_seg dksX0_ridesFrom_1 24 rfl rfl
theorem dksX0_ridesFrom_3 : cX0_ridesFrom.data.toList.drop 70 = dktX0_ridesFrom_3 := dk_seg dksX0_ridesFrom_2 24 rfl rfl
theorem dksX0_ridesFrom_4 : cX0_ridesFrom.data.toList.drop 93 = dktX0_ridesFrom_4 := dk_seg dksX0_ridesFrom_3 23 rfl rfl
theorem dX0_ridesFrom_0 : decode cX0_ridesFrom 0 = .ok (.iconst 0, 1) := dk_3 (dk_at dksX0_ridesFrom_0 0 rfl rfl)
theorem dX0_ridesFrom_1 : decode cX0_ridesFrom 1 = .ok (.istore 4, 2) := dk_54 4 (dk_at dksX0_ridesFrom_0 1 rfl rfl)
theorem dX0_ridesFrom_3 : decode cX0_ridesFrom 3 = .ok (.iconst 0, 1) := dk_3 (dk_at dksX0_ridesFrom_0 3 rfl rfl)
theorem dX0_ridesFrom_4 : decode cX0_ridesFrom 4 = .ok (.istore 5, 2) := dk_54 5 (dk_at dksX0_ridesFrom_0 4 rfl rfl)
theorem dX0_ridesFrom_6 : decode cX0_ridesFrom 6 = .ok (.iload 5, 2) := dk_21 5 (dk_at dksX0_ridesFrom_0 6 rfl rfl)
theorem dX0_ridesFrom_8 : decode cX0_ridesFrom 8 = .ok (.aload_n 0, 1) := dk_42 (dk_at dksX0_ridesFrom_0 8 rfl rfl)
theorem dX0_ridesFrom_9 : decode cX0_ridesFrom 9 = .ok (.getfield 10, 3) := dk_180 0 10 (dk_at dksX0_ridesFrom_0 9 rfl rfl)
theorem dX0_ridesFrom_12 : decode cX0_ridesFrom 12 = .ok (.if_icmp .ge 102, 3) := dk_162 0 102 (dk_at dksX0_ridesFrom_0 12 rfl rfl)
theorem dX0_ridesFrom_15 : decode cX0_ridesFrom 15 = .ok (.iload 5, 2) := dk_21 5 (dk_at dksX0_ridesFrom_0 15 rfl rfl)
theorem dX0_ridesFrom_17 : decode cX0_ridesFrom 17 = .ok (.iload_n 3, 1) := dk_29 (dk_at dksX0_ridesFrom_0 17 rfl rfl)
theorem dX0_ridesFrom_18 : decode cX0_ridesFrom 18 = .ok (.if_icmp .eq 90, 3) := dk_159 0 90 (dk_at dksX0_ridesFrom_0 18 rfl rfl)
theorem dX0_ridesFrom_21 : decode cX0_ridesFrom 21 = .ok (.aload_n 0, 1) := dk_42 (dk_at dksX0_ridesFrom_0 21 rfl rfl)
theorem dX0_ridesFrom_22 : decode cX0_ridesFrom 22 = .ok (.getfield 24, 3) := dk_180 0 24 (dk_at dksX0_ridesFrom_1 0 rfl rfl)
theorem dX0_ridesFrom_25 : decode cX0_ridesFrom 25 = .ok (.iload 5, 2) := dk_21 5 (dk_at dksX0_ridesFrom_1 3 rfl rfl)
theorem dX0_ridesFrom_27 : decode cX0_ridesFrom 27 = .ok (.aaload, 1) := dk_50 (dk_at dksX0_ridesFrom_1 5 rfl rfl)
theorem dX0_ridesFrom_28 : decode cX0_ridesFrom 28 = .ok (.iload_n 1, 1) := dk_27 (dk_at dksX0_ridesFrom_1 6 rfl rfl)
theorem dX0_ridesFrom_29 : decode cX0_ridesFrom 29 = .ok (.invokevirtual 244, 3) := dk_182 0 244 (dk_at dksX0_ridesFrom_1 7 rfl rfl)
theorem dX0_ridesFrom_32 : decode cX0_ridesFrom 32 = .ok (.ifCond .eq 76, 3) := dk_153 0 76 (dk_at dksX0_ridesFrom_1 10 rfl rfl)
theorem dX0_ridesFrom_35 : decode cX0_ridesFrom 35 = .ok (.aload_n 0, 1) := dk_42 (dk_at dksX0_ridesFrom_1 13 rfl rfl)
theorem dX0_ridesFrom_36 : decode cX0_ridesFrom 36 = .ok (.getfield 24, 3) := dk_180 0 24 (dk_at dksX0_ridesFrom_1 14 rfl rfl)
theorem dX0_ridesFrom_39 : decode cX0_ridesFrom 39 = .ok (.iload 5, 2) := dk_21 5 (dk_at dksX0_ridesFrom_1 17 rfl rfl)
theorem dX0_ridesFrom_41 : decode cX0_ridesFrom 41 = .ok (.aaload, 1) := dk_50 (dk_at dksX0_ridesFrom_1 19 rfl rfl)
theorem dX0_ridesFrom_42 : decode cX0_ridesFrom 42 = .ok (.iload_n 1, 1) := dk_27 (dk_at dksX0_ridesFrom_1 20 rfl rfl)
theorem dX0_ridesFrom_43 : decode cX0_ridesFrom 43 = .ok (.invokevirtual 247, 3) := dk_182 0 247 (dk_at dksX0_ridesFrom_1 21 rfl rfl)
theorem dX0_ridesFrom_46 : decode cX0_ridesFrom 46 = .ok (.iload_n 2, 1) := dk_28 (dk_at dksX0_ridesFrom_2 0 rfl rfl)
theorem dX0_ridesFrom_47 : decode cX0_ridesFrom 47 = .ok (.if_icmp .ge 6, 3) := dk_162 0 6 (dk_at dksX0_ridesFrom_2 1 rfl rfl)
theorem dX0_ridesFrom_50 : decode cX0_ridesFrom 50 = .ok (.goto 58, 3) := dk_167 0 58 (dk_at dksX0_ridesFrom_2 4 rfl rfl)
theorem dX0_ridesFrom_53 : decode cX0_ridesFrom 53 = .ok (.aload_n 0, 1) := dk_42 (dk_at dksX0_ridesFrom_2 7 rfl rfl)
theorem dX0_ridesFrom_54 : decode cX0_ridesFrom 54 = .ok (.getfield 24, 3) := dk_180 0 24 (dk_at dksX0_ridesFrom_2 8 rfl rfl)
theorem dX0_ridesFrom_57 : decode cX0_ridesFrom 57 = .ok (.iload 5, 2) := dk_21 5 (dk_at dksX0_ridesFrom_2 11 rfl rfl)
theorem dX0_ridesFrom_59 : decode cX0_ridesFrom 59 = .ok (.aaload, 1) := dk_50 (dk_at dksX0_ridesFrom_2 13 rfl rfl)
theorem dX0_ridesFrom_60 : decode cX0_ridesFrom 60 = .ok (.iload_n 1, 1) := dk_27 (dk_at dksX0_ridesFrom_2 14 rfl rfl)
theorem dX0_ridesFrom_61 : decode cX0_ridesFrom 61 = .ok (.invokevirtual 261, 3) := dk_182 1 5 (dk_at dksX0_ridesFrom_2 15 rfl rfl)
theorem dX0_ridesFrom_64 : decode cX0_ridesFrom 64 = .ok (.iconst 1, 1) := dk_4 (dk_at dksX0_ridesFrom_2 18 rfl rfl)
theorem dX0_ridesFrom_65 : decode cX0_ridesFrom 65 = .ok (.iadd, 1) := dk_96 (dk_at dksX0_ridesFrom_2 19 rfl rfl)
theorem dX0_ridesFrom_66 : decode cX0_ridesFrom 66 = .ok (.istore 6, 2) := dk_54 6 (dk_at dksX0_ridesFrom_2 20 rfl rfl)
theorem dX0_ridesFrom_68 : decode cX0_ridesFrom 68 = .ok (.iload 6, 2) := dk_21 6 (dk_at dksX0_ridesFrom_2 22 rfl rfl)
theorem dX0_ridesFrom_70 : decode cX0_ridesFrom 70 = .ok (.aload_n 0, 1) := dk_42 (dk_at dksX0_ridesFrom_3 0 rfl rfl)
theorem dX0_ridesFrom_71 : decode cX0_ridesFrom 71 = .ok (.getfield 24, 3) := dk_180 0 24 (dk_at dksX0_ridesFrom_3 1 rfl rfl)
theorem dX0_ridesFrom_74 : decode cX0_ridesFrom 74 = .ok (.iload 5, 2) := dk_21 5 (dk_at dksX0_ridesFrom_3 4 rfl rfl)
theorem dX0_ridesFrom_76 : decode cX0_ridesFrom 76 = .ok (.aaload, 1) := dk_50 (dk_at dksX0_ridesFrom_3 6 rfl rfl)
theorem dX0_ridesFrom_77 : decode cX0_ridesFrom 77 = .ok (.getfield 43, 3) := dk_180 0 43 (dk_at dksX0_ridesFrom_3 7 rfl rfl)
theorem dX0_ridesFrom_80 : decode cX0_ridesFrom 80 = .ok (.if_icmp .ge 28, 3) := dk_162 0 28 (dk_at dksX0_ridesFrom_3 10 rfl rfl)
theorem dX0_ridesFrom_83 : decode cX0_ridesFrom 83 = .ok (.iload 4, 2) := dk_21 4 (dk_at dksX0_ridesFrom_3 13 rfl rfl)
theorem dX0_ridesFrom_85 : decode cX0_ridesFrom 85 = .ok (.iconst 1, 1) := dk_4 (dk_at dksX0_ridesFrom_3 15 rfl rfl)
theorem dX0_ridesFrom_86 : decode cX0_ridesFrom 86 = .ok (.aload_n 0, 1) := dk_42 (dk_at dksX0_ridesFrom_3 16 rfl rfl)
theorem dX0_ridesFrom_87 : decode cX0_ridesFrom 87 = .ok (.getfield 118, 3) := dk_180 0 118 (dk_at dksX0_ridesFrom_3 17 rfl rfl)
theorem dX0_ridesFrom_90 : decode cX0_ridesFrom 90 = .ok (.iload 5, 2) := dk_21 5 (dk_at dksX0_ridesFrom_3 20 rfl rfl)
theorem dX0_ridesFrom_92 : decode cX0_ridesFrom 92 = .ok (.aaload, 1) := dk_50 (dk_at dksX0_ridesFrom_3 22 rfl rfl)
theorem dX0_ridesFrom_93 : decode cX0_ridesFrom 93 = .ok (.iload 6, 2) := dk_21 6 (dk_at dksX0_ridesFrom_4 0 rfl rfl)
theorem dX0_ridesFrom_95 : decode cX0_ridesFrom 95 = .ok (.iaload, 1) := dk_46 (dk_at dksX0_ridesFrom_4 2 rfl rfl)
theorem dX0_ridesFrom_96 : decode cX0_ridesFrom 96 = .ok (.iadd, 1) := dk_96 (dk_at dksX0_ridesFrom_4 3 rfl rfl)
theorem dX0_ridesFrom_97 : decode cX0_ridesFrom 97 = .ok (.invokestatic 7, 3) := dk_184 0 7 (dk_at dksX0_ridesFrom_4 4 rfl rfl)
theorem dX0_ridesFrom_100 : decode cX0_ridesFrom 100 = .ok (.istore 4, 2) := dk_54 4 (dk_at dksX0_ridesFrom_4 7 rfl rfl)
theorem dX0_ridesFrom_102 : decode cX0_ridesFrom 102 = .ok (.iinc 6 1, 3) := dk_132 6 1 (dk_at dksX0_ridesFrom_4 9 rfl rfl)
theorem dX0_ridesFrom_105 : decode cX0_ridesFrom 105 = .ok (.goto (-37), 3) := dk_167 255 219 (dk_at dksX0_ridesFrom_4 12 rfl rfl)
theorem dX0_ridesFrom_108 : decode cX0_ridesFrom 108 = .ok (.iinc 5 1, 3) := dk_132 5 1 (dk_at dksX0_ridesFrom_4 15 rfl rfl)
theorem dX0_ridesFrom_111 : decode cX0_ridesFrom 111 = .ok (.goto (-105), 3) := dk_167 255 151 (dk_at dksX0_ridesFrom_4 18 rfl rfl)
theorem dX0_ridesFrom_114 : decode cX0_ridesFrom 114 = .ok (.iload 4, 2) := dk_21 4 (dk_at dksX0_ridesFrom_4 21 rfl rfl)
theorem dX0_ridesFrom_116 : decode cX0_ridesFrom 116 = .ok (.ireturn, 1) := dk_172 (dk_at dksX0_ridesFrom_4 23 rfl rfl)
abbrev cX0_longestWait : ByteArray := prog_1_method_46_code
def yX0_longestWait : MethodName := ⟨RX0, "longestWait", "(I)I"⟩
def dkwX0_longestWait_4 : List UInt8 := [182, 0, 44, 62, 132, 4, 1, 167, 255, 172, 28, 172]
abbrev dktX0_longestWait_4 : List UInt8 := dkwX0_longestWait_4 ++ []
def dkwX0_longestWait_3 : List UInt8 := [2, 160, 0, 7, 3, 167, 0, 15, 28, 42, 21, 4, 182, 0, 44, 29, 100, 184, 0, 7, 61, 42, 21, 4]
abbrev dktX0_longestWait_3 : List UInt8 := dkwX0_longestWait_3 ++ dktX0_longestWait_4
def dkwX0_longestWait_2 : List UInt8 := [153, 0, 52, 25, 5, 180, 0, 232, 42, 180, 0, 37, 21, 4, 46, 46, 27, 159, 0, 6, 167, 0, 32, 29]
abbrev dktX0_longestWait_2 : List UInt8 := dkwX0_longestWait_2 ++ dktX0_longestWait_3
def dkwX0_longestWait_1 : List UInt8 := [162, 0, 81, 42, 180, 0, 24, 42, 180, 0, 28, 21, 4, 46, 50, 58, 5, 25, 5, 27, 182, 0, 244]
abbrev dktX0_longestWait_1 : List UInt8 := dkwX0_longestWait_1 ++ dktX0_longestWait_2
def dkwX0_longestWait_0 : List UInt8 := [27, 184, 0, 20, 154, 0, 5, 2, 172, 3, 61, 2, 62, 3, 54, 4, 21, 4, 42, 180, 0, 40]
abbrev dktX0_longestWait_0 : List UInt8 := dkwX0_longestWait_0 ++ dktX0_longestWait_1
theorem dksX0_longestWait_0 : cX0_longestWait.data.toList.drop 0 = dktX0_longestWait_0 := by decide +kernel
theorem dksX0_longestWait_1 : cX0_longestWait.data.toList.drop 22 = dktX0_longestWait_1 := dk_seg dksX0_longestWait_0 22 rfl rfl
theorem dksX0_longestWait_2 : cX0_longestWait.data.toList.drop 45 = dktX0_longestWait_2 := dk_seg dksX0_longestWait_1 23 rfl rfl
theorem dksX0_longestWait_3 : cX0_longestWait.data.toList.drop 69 = dktX0_longestWait_3 := dk_seg dksX0_longestWait_2 24 rfl rfl
theorem dksX0_longestWait_4 : cX0_longestWait.data.toList.drop 93 = dktX0_longestWait_4 := dk_seg dksX0_longestWait_3 24 rfl rfl
theorem dX0_longestWait_0 : decode cX0_longestWait 0 = .ok (.iload_n 1, 1) := dk_27 (dk_at dksX0_longestWait_0 0 rfl rfl)
theorem dX0_longestWait_1 : decode cX0_longestWait 1 = .ok (.invokestatic 20, 3) := dk_184 0 20 (dk_at dksX0_longestWait_0 1 rfl rfl)
theorem dX0_longestWait_4 : decode cX0_longestWait 4 = .ok (.ifCond .ne 5, 3) := dk_154 0 5 (dk_at dksX0_longestWait_0 4 rfl rfl)
theorem dX0_longestWait_7 : decode cX0_longestWait 7 = .ok (.iconst (-1), 1) := dk_2 (dk_at dksX0_longestWait_0 7 rfl rfl)
theorem dX0_longestWait_8 : decode cX0_longestWait 8 = .ok (.ireturn, 1) := dk_172 (dk_at dksX0_longestWait_0 8 rfl rfl)
theorem dX0_longestWait_9 : decode cX0_longestWait 9 = .ok (.iconst 0, 1) := dk_3 (dk_at dksX0_longestWait_0 9 rfl rfl)
theorem dX0_longestWait_10 : decode cX0_longestWait 10 = .ok (.istore_n 2, 1) := dk_61 (dk_at dksX0_longestWait_0 10 rfl rfl)
theorem dX0_longestWait_11 : decode cX0_longestWait 11 = .ok (.iconst (-1), 1) := dk_2 (dk_at dksX0_longestWait_0 11 rfl rfl)
theorem dX0_longestWait_12 : decode cX0_longestWait 12 = .ok (.istore_n 3, 1) := dk_62 (dk_at dksX0_longestWait_0 12 rfl rfl)
theorem dX0_longestWait_13 : decode cX0_longestWait 13 = .ok (.iconst 0, 1) := dk_3 (dk_at dksX0_longestWait_0 13 rfl rfl)
theorem dX0_longestWait_14 : decode cX0_longestWait 14 = .ok (.istore 4, 2) := dk_54 4 (dk_at dksX0_longestWait_0 14 rfl rfl)
theorem dX0_longestWait_16 : decode cX0_longestWait 16 = .ok (.iload 4, 2) := dk_21 4 (dk_at dksX0_longestWait_0 16 rfl rfl)
theorem dX0_longestWait_18 : decode cX0_longestWait 18 = .ok (.aload_n 0, 1) := dk_42 (dk_at dksX0_longestWait_0 18 rfl rfl)
theorem dX0_longestWait_19 : decode cX0_longestWait 19 = .ok (.getfield 40, 3) := dk_180 0 40 (dk_at dksX0_longestWait_0 19 rfl rfl)
theorem dX0_longestWait_22 : decode cX0_longestWait 22 = .ok (.if_icmp .ge 81, 3) := dk_162 0 81 (dk_at dksX0_longestWait_1 0 rfl rfl)
theorem dX0_longestWait_25 : decode cX0_longestWait 25 = .ok (.aload_n 0, 1) := dk_42 (dk_at dksX0_longestWait_1 3 rfl rfl)
theorem dX0_longestWait_26 : decode cX0_longestWait 26 = .ok (.getfield 24, 3) := dk_180 0 24 (dk_at dksX0_longestWait_1 4 rfl rfl)
theorem dX0_longestWait_29 : decode cX0_longestWait 29 = .ok (.aload_n 0, 1) := dk_42 (dk_at dksX0_longestWait_1 7 rfl rfl)
theorem dX0_longestWait_30 : decode cX0_longestWait 30 = .ok (.getfield 28, 3) := dk_180 0 28 (dk_at dksX0_longestWait_1 8 rfl rfl)
theorem dX0_longestWait_33 : decode cX0_longestWait 33 = .ok (.iload 4, 2) := dk_21 4 (dk_at dksX0_longestWait_1 11 rfl rfl)
theorem dX0_longestWait_35 : decode cX0_longestWait 35 = .ok (.iaload, 1) := dk_46 (dk_at dksX0_longestWait_1 13 rfl rfl)
theorem dX0_longestWait_36 : decode cX0_longestWait 36 = .ok (.aaload, 1) := dk_50 (dk_at dksX0_longestWait_1 14 rfl rfl)
theorem dX0_longestWait_37 : decode cX0_longestWait 37 = .ok (.astore 5, 2) := dk_58 5 (dk_at dksX0_longestWait_1 15 rfl rfl)
theorem dX0_longestWait_39 : decode cX0_longestWait 39 = .ok (.aload 5, 2) := dk_25 5 (dk_at dksX0_longestWait_1 17 rfl rfl)
theorem dX0_longestWait_41 : decode cX0_longestWait 41 = .ok (.iload_n 1, 1) := dk_27 (dk_at dksX0_longestWait_1 19 rfl rfl)
theorem dX0_longestWait_42 : decode cX0_longestWait 42 = .ok (.invokevirtual 244, 3) := dk_182 0 244 (dk_at dksX0_longestWait_1 20 rfl rfl)
theorem dX0_longestWait_45 : decode cX0_longestWait 45 = .ok (.ifCond .eq 52, 3) := dk_153 0 52 (dk_at dksX0_longestWait_2 0 rfl rfl)
theorem dX0_longestWait_48 : decode cX0_longestWait 48 = .ok (.aload 5, 2) := dk_25 5 (dk_at dksX0_longestWait_2 3 rfl rfl)
theorem dX0_longestWait_50 : decode cX0_longestWait 50 = .ok (.getfield 232, 3) := dk_180 0 232 (dk_at dksX0_longestWait_2 5 rfl rfl)
theorem dX0_longestWait_53 : decode cX0_longestWait 53 = .ok (.aload_n 0, 1) := dk_42 (dk_at dksX0_longestWait_2 8 rfl rfl)
theorem dX0_longestWait_54 : decode cX0_longestWait 54 = .ok (.getfield 37, 3) := dk_180 0 37 (dk_at dksX0_longestWait_2 9 rfl rfl)
theorem dX0_longestWait_57 : decode cX0_longestWait 57 = .ok (.iload 4, 2) := dk_21 4 (dk_at dksX0_longestWait_2 12 rfl rfl)
theorem dX0_longestWait_59 : decode cX0_longestWait 59 = .ok (.iaload, 1) := dk_46 (dk_at dksX0_longestWait_2 14 rfl rfl)
theorem dX0_longestWait_60 : decode cX0_longestWait 60 = .ok (.iaload, 1) := dk_46 (dk_at dksX0_longestWait_2 15 rfl rfl)
theorem dX0_longestWait_61 : decode cX0_longestWait 61 = .ok (.iload_n 1, 1) := dk_27 (dk_at dksX0_longestWait_2 16 rfl rfl)
theorem dX0_longestWait_62 : decode cX0_longestWait 62 = .ok (.if_icmp .eq 6, 3) := dk_159 0 6 (dk_at dksX0_longestWait_2 17 rfl rfl)
theorem dX0_longestWait_65 : decode cX0_longestWait 65 = .ok (.goto 32, 3) := dk_167 0 32 (dk_at dksX0_longestWait_2 20 rfl rfl)
theorem dX0_longestWait_68 : decode cX0_longestWait 68 = .ok (.iload_n 3, 1) := dk_29 (dk_at dksX0_longestWait_2 23 rfl rfl)
theorem dX0_longestWait_69 : decode cX0_longestWait 69 = .ok (.iconst (-1), 1) := dk_2 (dk_at dksX0_longestWait_3 0 rfl rfl)
theorem dX0_longestWait_70 : decode cX0_longestWait 70 = .ok (.if_icmp .ne 7, 3) := dk_160 0 7 (dk_at dksX0_longestWait_3 1 rfl rfl)
theorem dX0_longestWait_73 : decode cX0_longestWait 73 = .ok (.iconst 0, 1) := dk_3 (dk_at dksX0_longestWait_3 4 rfl rfl)
theorem dX0_longestWait_74 : decode cX0_longestWait 74 = .ok (.goto 15, 3) := dk_167 0 15 (dk_at dksX0_longestWait_3 5 rfl rfl)
theorem dX0_longestWait_77 : decode cX0_longestWait 77 = .ok (.iload_n 2, 1) := dk_28 (dk_at dksX0_longestWait_3 8 rfl rfl)
theorem dX0_longestWait_78 : decode cX0_longestWait 78 = .ok (.aload_n 0, 1) := dk_42 (dk_at dksX0_longestWait_3 9 rfl rfl)
theorem dX0_longestWait_79 : decode cX0_longestWait 79 = .ok (.iload 4, 2) := dk_21 4 (dk_at dksX0_longestWait_3 10 rfl rfl)
theorem dX0_longestWait_81 : decode cX0_longestWait 81 = .ok (.invokevirtual 44, 3) := dk_182 0 44 (dk_at dksX0_longestWait_3 12 rfl rfl)
theorem dX0_longestWait_84 : decode cX0_longestWait 84 = .ok (.iload_n 3, 1) := dk_29 (dk_at dksX0_longestWait_3 15 rfl rfl)
theorem dX0_longestWait_85 : decode cX0_longestWait 85 = .ok (.isub, 1) := dk_100 (dk_at dksX0_longestWait_3 16 rfl rfl)
theorem dX0_longestWait_86 : decode cX0_longestWait 86 = .ok (.invokestatic 7, 3) := dk_184 0 7 (dk_at dksX0_longestWait_3 17 rfl rfl)
theorem dX0_longestWait_89 : decode cX0_longestWait 89 = .ok (.istore_n 2, 1) := dk_61 (dk_at dksX0_longestWait_3 20 rfl rfl)
theorem dX0_longestWait_90 : decode cX0_longestWait 90 = .ok (.aload_n 0, 1) := dk_42 (dk_at dksX0_longestWait_3 21 rfl rfl)
theorem dX0_longestWait_91 : decode cX0_longestWait 91 = .ok (.iload 4, 2) := dk_21 4 (dk_at dksX0_longestWait_3 22 rfl rfl)
theorem dX0_longestWait_93 : decode cX0_longestWait 93 = .ok (.invokevirtual 44, 3) := dk_182 0 44 (dk_at dksX0_longestWait_4 0 rfl rfl)
theorem dX0_longestWait_96 : decode cX0_longestWait 96 = .ok (.istore_n 3, 1) := dk_62 (dk_at dksX0_longestWait_4 3 rfl rfl)
theorem dX0_longestWait_97 : decode cX0_longestWait 97 = .ok (.iinc 4 1, 3) := dk_132 4 1 (dk_at dksX0_longestWait_4 4 rfl rfl)
theorem dX0_longestWait_100 : decode cX0_longestWait 100 = .ok (.goto (-84), 3) := dk_167 255 172 (dk_at dksX0_longestWait_4 7 rfl rfl)
theorem dX0_longestWait_103 : decode cX0_longestWait 103 = .ok (.iload_n 2, 1) := dk_28 (dk_at dksX0_longestWait_4 10 rfl rfl)
theorem dX0_longestWait_104 : decode cX0_longestWait 104 = .ok (.ireturn, 1) := dk_172 (dk_at dksX0_longestWait_4 11 rfl rfl)
abbrev cX0_busiest : ByteArray := prog_1_method_48_code
def yX0_busiest : MethodName := ⟨RX0, "busiest", "(I)I"⟩
def dkwX0_busiest_2 : List UInt8 := [42, 28, 182, 1, 27, 167, 0, 17, 42, 28, 182, 1, 27, 154, 0, 8, 16, 254, 167, 0, 4, 28, 172]
abbrev dktX0_busiest_2 : List UInt8 := dkwX0_busiest_2 ++ []
def dkwX0_busiest_1 : List UInt8 := [182, 1, 27, 42, 28, 182, 1, 27, 164, 0, 5, 29, 61, 132, 3, 1, 167, 255, 232, 27, 4, 160, 0, 11]
abbrev dktX0_busiest_1 : List UInt8 := dkwX0_busiest_1 ++ dktX0_busiest_2
def dkwX0_busiest_0 : List UInt8 := [27, 5, 184, 0, 16, 154, 0, 5, 2, 172, 3, 61, 4, 62, 29, 16, 10, 162, 0, 24, 42, 29]
abbrev dktX0_busiest_0 : List UInt8 := dkwX0_busiest_0 ++ dktX0_busiest_1
theorem dksX0_busiest_0 : cX0_busiest.data.toList.drop 0 = dktX0_busiest_0 := by decide +kernel
theorem dksX0_busiest_1 : cX0_busiest.data.toList.drop 22 = dktX0_busiest_1 := dk_seg dksX0_busiest_0 22 rfl rfl
theorem dksX0_busiest_2 : cX0_busiest.data.toList.drop 46 = dktX0_busiest_2 := dk_seg dksX0_busiest_1 24 rfl rfl
theorem dX0_busiest_0 : decode cX0_busiest 0 = .ok (.iload_n 1, 1) := dk_27 (dk_at dksX0_busiest_0 0 rfl rfl)
theorem dX0_busiest_1 : decode cX0_busiest 1 = .ok (.iconst 2, 1) := dk_5 (dk_at dksX0_busiest_0 1 rfl rfl)
theorem dX0_busiest_2 : decode cX0_busiest 2 = .ok (.invokestatic 16, 3) := dk_184 0 16 (dk_at dksX0_busiest_0 2 rfl rfl)
theorem dX0_busiest_5 : decode cX0_busiest 5 = .ok (.ifCond .ne 5, 3) := dk_154 0 5 (dk_at dksX0_busiest_0 5 rfl rfl)
theorem dX0_busiest_8 : decode cX0_busiest 8 = .ok (.iconst (-1), 1) := dk_2 (dk_at dksX0_busiest_0 8 rfl rfl)
theorem dX0_busiest_9 : decode cX0_busiest 9 = .ok (.ireturn, 1) := dk_172 (dk_at dksX0_busiest_0 9 rfl rfl)
theorem dX0_busiest_10 : decode cX0_busiest 10 = .ok (.iconst 0, 1) := dk_3 (dk_at dksX0_busiest_0 10 rfl rfl)
theorem dX0_busiest_11 : decode cX0_busiest 11 = .ok (.istore_n 2, 1) := dk_61 (dk_at dksX0_busiest_0 11 rfl rfl)
theorem dX0_busiest_12 : decode cX0_busiest 12 = .ok (.iconst 1, 1) := dk_4 (dk_at dksX0_busiest_0 12 rfl rfl)
theorem dX0_busiest_13 : decode cX0_busiest 13 = .ok (.istore_n 3, 1) := dk_62 (dk_at dksX0_busiest_0 13 rfl rfl)
theorem dX0_busiest_14 : decode cX0_busiest 14 = .ok (.iload_n 3, 1) := dk_29 (dk_at dksX0_busiest_0 14 rfl rfl)
theorem dX0_busiest_15 : decode cX0_busiest 15 = .ok (.bipush 10, 2) := dk_16 10 (dk_at dksX0_busiest_0 15 rfl rfl)
theorem dX0_busiest_17 : decode cX0_busiest 17 = .ok (.if_icmp .ge 24, 3) := dk_162 0 24 (dk_at dksX0_busiest_0 17 rfl rfl)
theorem dX0_busiest_20 : decode cX0_busiest 20 = .ok (.aload_n 0, 1) := dk_42 (dk_at dksX0_busiest_0 20 rfl rfl)
theorem dX0_busiest_21 : decode cX0_busiest 21 = .ok (.iload_n 3, 1) := dk_29 (dk_at dksX0_busiest_0 21 rfl rfl)
theorem dX0_busiest_22 : decode cX0_busiest 22 = .ok (.invokevirtual 283, 3) := dk_182 1 27 (dk_at dksX0_busiest_1 0 rfl rfl)
theorem dX0_busiest_25 : decode cX0_busiest 25 = .ok (.aload_n 0, 1) := dk_42 (dk_at dksX0_busiest_1 3 rfl rfl)
theorem dX0_busiest_26 : decode cX0_busiest 26 = .ok (.iload_n 2, 1) := dk_28 (dk_at dksX0_busiest_1 4 rfl rfl)
theorem dX0_busiest_27 : decode cX0_busiest 27 = .ok (.invokevirtual 283, 3) := dk_182 1 27 (dk_at dksX0_busiest_1 5 rfl rfl)
theorem dX0_busiest_30 : decode cX0_busiest 30 = .ok (.if_icmp .le 5, 3) := dk_164 0 5 (dk_at dksX0_busiest_1 8 rfl rfl)
theorem dX0_busiest_33 : decode cX0_busiest 33 = .ok (.iload_n 3, 1) := dk_29 (dk_at dksX0_busiest_1 11 rfl rfl)
theorem dX0_busiest_34 : decode cX0_busiest 34 = .ok (.istore_n 2, 1) := dk_61 (dk_at dksX0_busiest_1 12 rfl rfl)
theorem dX0_busiest_35 : decode cX0_busiest 35 = .ok (.iinc 3 1, 3) := dk_132 3 1 (dk_at dksX0_busiest_1 13 rfl rfl)
theorem dX0_busiest_38 : decode cX0_busiest 38 = .ok (.goto (-24), 3) := dk_167 255 232 (dk_at dksX0_busiest_1 16 rfl rfl)
theorem dX0_busiest_41 : decode cX0_busiest 41 = .ok (.iload_n 1, 1) := dk_27 (dk_at dksX0_busiest_1 19 rfl rfl)
theorem dX0_busiest_42 : decode cX0_busiest 42 = .ok (.iconst 1, 1) := dk_4 (dk_at dksX0_busiest_1 20 rfl rfl)
theorem dX0_busiest_43 : decode cX0_busiest 43 = .ok (.if_icmp .ne 11, 3) := dk_160 0 11 (dk_at dksX0_busiest_1 21 rfl rfl)
theorem dX0_busiest_46 : decode cX0_busiest 46 = .ok (.aload_n 0, 1) := dk_42 (dk_at dksX0_busiest_2 0 rfl rfl)
theorem dX0_busiest_47 : decode cX0_busiest 47 = .ok (.iload_n 2, 1) := dk_28 (dk_at dksX0_busiest_2 1 rfl rfl)
theorem dX0_busiest_48 : decode cX0_busiest 48 = .ok (.invokevirtual 283, 3) := dk_182 1 27 (dk_at dksX0_busiest_2 2 rfl rfl)
theorem dX0_busiest_51 : decode cX0_busiest 51 = .ok (.goto 17, 3) := dk_167 0 17 (dk_at dksX0_busiest_2 5 rfl rfl)
theorem dX0_busiest_54 : decode cX0_busiest 54 = .ok (.aload_n 0, 1) := dk_42 (dk_at dksX0_busiest_2 8 rfl rfl)
theorem dX0_busiest_55 : decode cX0_busiest 55 = .ok (.iload_n 2, 1) := dk_28 (dk_at dksX0_busiest_2 9 rfl rfl)
theorem dX0_busiest_56 : decode cX0_busiest 56 = .ok (.invokevirtual 283, 3) := dk_182 1 27 (dk_at dksX0_busiest_2 10 rfl rfl)
theorem dX0_busiest_59 : decode cX0_busiest 59 = .ok (.ifCond .ne 8, 3) := dk_154 0 8 (dk_at dksX0_busiest_2 13 rfl rfl)
theorem dX0_busiest_62 : decode cX0_busiest 62 = .ok (.bipush (-2), 2) := dk_16 254 (dk_at dksX0_busiest_2 16 rfl rfl)
theorem dX0_busiest_64 : decode cX0_busiest 64 = .ok (.goto 4, 3) := dk_167 0 4 (dk_at dksX0_busiest_2 18 rfl rfl)
theorem dX0_busiest_67 : decode cX0_busiest 67 = .ok (.iload_n 2, 1) := dk_28 (dk_at dksX0_busiest_2 21 rfl rfl)
theorem dX0_busiest_68 : decode cX0_busiest 68 = .ok (.ireturn, 1) := dk_172 (dk_at dksX0_busiest_2 22 rfl rfl)
abbrev cX0_stopping : ByteArray := prog_1_method_47_code
def yX0_stopping : MethodName := ⟨RX0, "stopping", "(I)I"⟩
def dkwX0_stopping_1 : List UInt8 := [167, 0, 4, 3, 96, 61, 132, 3, 1, 167, 255, 228, 28, 172]
abbrev dktX0_stopping_1 : List UInt8 := dkwX0_stopping_1 ++ []
def dkwX0_stopping_0 : List UInt8 := [3, 61, 3, 62, 29, 42, 180, 0, 10, 162, 0, 26, 28, 42, 29, 27, 182, 1, 8, 153, 0, 7, 4]
abbrev dktX0_stopping_0 : List UInt8 := dkwX0_stopping_0 ++ dktX0_stopping_1
theorem dksX0_stopping_0 : cX0_stopping.data.toList.drop 0 = dktX0_stopping_0 := by decide +kernel
theorem dksX0_stopping_1 : cX0_stopping.data.toList.drop 23 = dktX0_stopping_1 := dk_seg dksX0_stopping_0 23 rfl rfl
theorem dX0_stopping_0 : decode cX0_stopping 0 = .ok (.iconst 0, 1) := dk_3 (dk_at dksX0_stopping_0 0 rfl rfl)
theorem dX0_stopping_1 : decode cX0_stopping 1 = .ok (.istore_n 2, 1) := dk_61 (dk_at dksX0_stopping_0 1 rfl rfl)
theorem dX0_stopping_2 : decode cX0_stopping 2 = .ok (.iconst 0, 1) := dk_3 (dk_at dksX0_stopping_0 2 rfl rfl)
theorem dX0_stopping_3 : decode cX0_stopping 3 = .ok (.istore_n 3, 1) := dk_62 (dk_at dksX0_stopping_0 3 rfl rfl)
theorem dX0_stopping_4 : decode cX0_stopping 4 = .ok (.iload_n 3, 1) := dk_29 (dk_at dksX0_stopping_0 4 rfl rfl)
theorem dX0_stopping_5 : decode cX0_stopping 5 = .ok (.aload_n 0, 1) := dk_42 (dk_at dksX0_stopping_0 5 rfl rfl)
theorem dX0_stopping_6 : decode cX0_stopping 6 = .ok (.getfield 10, 3) := dk_180 0 10 (dk_at dksX0_stopping_0 6 rfl rfl)
theorem dX0_stopping_9 : decode cX0_stopping 9 = .ok (.if_icmp .ge 26, 3) := dk_162 0 26 (dk_at dksX0_stopping_0 9 rfl rfl)
theorem dX0_stopping_12 : decode cX0_stopping 12 = .ok (.iload_n 2, 1) := dk_28 (dk_at dksX0_stopping_0 12 rfl rfl)
theorem dX0_stopping_13 : decode cX0_stopping 13 = .ok (.aload_n 0, 1) := dk_42 (dk_at dksX0_stopping_0 13 rfl rfl)
theorem dX0_stopping_14 : decode cX0_stopping 14 = .ok (.iload_n 3, 1) := dk_29 (dk_at dksX0_stopping_0 14 rfl rfl)
theorem dX0_stopping_15 : decode cX0_stopping 15 = .ok (.iload_n 1, 1) := dk_27 (dk_at dksX0_stopping_0 15 rfl rfl)
theorem dX0_stopping_16 : decode cX0_stopping 16 = .ok (.invokevirtual 264, 3) := dk_182 1 8 (dk_at dksX0_stopping_0 16 rfl rfl)
theorem dX0_stopping_19 : decode cX0_stopping 19 = .ok (.ifCond .eq 7, 3) := dk_153 0 7 (dk_at dksX0_stopping_0 19 rfl rfl)
theorem dX0_stopping_22 : decode cX0_stopping 22 = .ok (.iconst 1, 1) := dk_4 (dk_at dksX0_stopping_0 22 rfl rfl)
theorem dX0_stopping_23 : decode cX0_stopping 23 = .ok (.goto 4, 3) := dk_167 0 4 (dk_at dksX0_stopping_1 0 rfl rfl)
theorem dX0_stopping_26 : decode cX0_stopping 26 = .ok (.iconst 0, 1) := dk_3 (dk_at dksX0_stopping_1 3 rfl rfl)
theorem dX0_stopping_27 : decode cX0_stopping 27 = .ok (.iadd, 1) := dk_96 (dk_at dksX0_stopping_1 4 rfl rfl)
theorem dX0_stopping_28 : decode cX0_stopping 28 = .ok (.istore_n 2, 1) := dk_61 (dk_at dksX0_stopping_1 5 rfl rfl)
theorem dX0_stopping_29 : decode cX0_stopping 29 = .ok (.iinc 3 1, 3) := dk_132 3 1 (dk_at dksX0_stopping_1 6 rfl rfl)
theorem dX0_stopping_32 : decode cX0_stopping 32 = .ok (.goto (-28), 3) := dk_167 255 228 (dk_at dksX0_stopping_1 9 rfl rfl)
theorem dX0_stopping_35 : decode cX0_stopping 35 = .ok (.iload_n 2, 1) := dk_28 (dk_at dksX0_stopping_1 12 rfl rfl)
theorem dX0_stopping_36 : decode cX0_stopping 36 = .ok (.ireturn, 1) := dk_172 (dk_at dksX0_stopping_1 13 rfl rfl)
abbrev cX0_onTheWay : ByteArray := prog_1_method_49_code
def yX0_onTheWay : MethodName := ⟨RX0, "onTheWay", "(I)I"⟩
def dkwX0_onTheWay_3 : List UInt8 := [132, 3, 1, 167, 255, 198, 28, 172]
abbrev dktX0_onTheWay_3 : List UInt8 := dkwX0_onTheWay_3 ++ []
def dkwX0_onTheWay_2 : List UInt8 := [46, 42, 180, 0, 24, 29, 50, 182, 0, 229, 184, 0, 156, 153, 0, 7, 4, 167, 0, 4, 3, 96, 61]
abbrev dktX0_onTheWay_2 : List UInt8 := dkwX0_onTheWay_2 ++ dktX0_onTheWay_3
def dkwX0_onTheWay_1 : List UInt8 := [28, 42, 180, 0, 24, 29, 50, 180, 0, 217, 153, 0, 34, 27, 42, 180, 0, 24, 29, 50, 180, 0, 32, 3]
abbrev dktX0_onTheWay_1 : List UInt8 := dkwX0_onTheWay_1 ++ dktX0_onTheWay_2
def dkwX0_onTheWay_0 : List UInt8 := [27, 17, 5, 160, 184, 0, 16, 154, 0, 5, 2, 172, 3, 61, 3, 62, 29, 42, 180, 0, 10, 162, 0, 56]
abbrev dktX0_onTheWay_0 : List UInt8 := dkwX0_onTheWay_0 ++ dktX0_onTheWay_1
theorem dksX0_onTheWay_0 : cX0_onTheWay.data.toList.drop 0 = dktX0_onTheWay_0 := by decide +kernel
theorem dksX0_onTheWay_1 : cX0_onTheWay.data.toList.drop 24 = dktX0_onTheWay_1 := dk_seg dksX0_onTheWay_0 24 rfl rfl
theorem dksX0_onTheWay_2 : cX0_onTheWay.data.toList.drop 48 = dktX0_onTheWay_2 := dk_seg dksX0_onTheWay_1 24 rfl rfl
theorem dksX0_onTheWay_3 : cX0_onTheWay.data.toList.drop 71 = dktX0_onTheWay_3 := dk_seg dksX0_onTheWay_2 23 rfl rfl
theorem dX0_onTheWay_0 : decode cX0_onTheWay 0 = .ok (.iload_n 1, 1) := dk_27 (dk_at dksX0_onTheWay_0 0 rfl rfl)
theorem dX0_onTheWay_1 : decode cX0_onTheWay 1 = .ok (.sipush 1440, 3) := dk_17 5 160 (dk_at dksX0_onTheWay_0 1 rfl rfl)
theorem dX0_onTheWay_4 : decode cX0_onTheWay 4 = .ok (.invokestatic 16, 3) := dk_184 0 16 (dk_at dksX0_onTheWay_0 4 rfl rfl)
theorem dX0_onTheWay_7 : decode cX0_onTheWay 7 = .ok (.ifCond .ne 5, 3) := dk_154 0 5 (dk_at dksX0_onTheWay_0 7 rfl rfl)
theorem dX0_onTheWay_10 : decode cX0_onTheWay 10 = .ok (.iconst (-1), 1) := dk_2 (dk_at dksX0_onTheWay_0 10 rfl rfl)
theorem dX0_onTheWay_11 : decode cX0_onTheWay 11 = .ok (.ireturn, 1) := dk_172 (dk_at dksX0_onTheWay_0 11 rfl rfl)
theorem dX0_onTheWay_12 : decode cX0_onTheWay 12 = .ok (.iconst 0, 1) := dk_3 (dk_at dksX0_onTheWay_0 12 rfl rfl)
theorem dX0_onTheWay_13 : decode cX0_onTheWay 13 = .ok (.istore_n 2, 1) := dk_61 (dk_at dksX0_onTheWay_0 13 rfl rfl)
theorem dX0_onTheWay_14 : decode cX0_onTheWay 14 = .ok (.iconst 0, 1) := dk_3 (dk_at dksX0_onTheWay_0 14 rfl rfl)
theorem dX0_onTheWay_15 : decode cX0_onTheWay 15 = .ok (.istore_n 3, 1) := dk_62 (dk_at dksX0_onTheWay_0 15 rfl rfl)
theorem dX0_onTheWay_16 : decode cX0_onTheWay 16 = .ok (.iload_n 3, 1) := dk_29 (dk_at dksX0_onTheWay_0 16 rfl rfl)
theorem dX0_onTheWay_17 : decode cX0_onTheWay 17 = .ok (.aload_n 0, 1) := dk_42 (dk_at dksX0_onTheWay_0 17 rfl rfl)
theorem dX0_onTheWay_18 : decode cX0_onTheWay 18 = .ok (.getfield 10, 3) := dk_180 0 10 (dk_at dksX0_onTheWay_0 18 rfl rfl)
theorem dX0_onTheWay_21 : decode cX0_onTheWay 21 = .ok (.if_icmp .ge 56, 3) := dk_162 0 56 (dk_at dksX0_onTheWay_0 21 rfl rfl)
theorem dX0_onTheWay_24 : decode cX0_onTheWay 24 = .ok (.iload_n 2, 1) := dk_28 (dk_at dksX0_onTheWay_1 0 rfl rfl)
theorem dX0_onTheWay_25 : decode cX0_onTheWay 25 = .ok (.aload_n 0, 1) := dk_42 (dk_at dksX0_onTheWay_1 1 rfl rfl)
theorem dX0_onTheWay_26 : decode cX0_onTheWay 26 = .ok (.getfield 24, 3) := dk_180 0 24 (dk_at dksX0_onTheWay_1 2 rfl rfl)
theorem dX0_onTheWay_29 : decode cX0_onTheWay 29 = .ok (.iload_n 3, 1) := dk_29 (dk_at dksX0_onTheWay_1 5 rfl rfl)
theorem dX0_onTheWay_30 : decode cX0_onTheWay 30 = .ok (.aaload, 1) := dk_50 (dk_at dksX0_onTheWay_1 6 rfl rfl)
theorem dX0_onTheWay_31 : decode cX0_onTheWay 31 = .ok (.getfield 217, 3) := dk_180 0 217 (dk_at dksX0_onTheWay_1 7 rfl rfl)
theorem dX0_onTheWay_34 : decode cX0_onTheWay 34 = .ok (.ifCond .eq 34, 3) := dk_153 0 34 (dk_at dksX0_onTheWay_1 10 rfl rfl)
theorem dX0_onTheWay_37 : decode cX0_onTheWay 37 = .ok (.iload_n 1, 1) := dk_27 (dk_at dksX0_onTheWay_1 13 rfl rfl)
theorem dX0_onTheWay_38 : decode cX0_onTheWay 38 = .ok (.aload_n 0, 1) := dk_42 (dk_at dksX0_onTheWay_1 14 rfl rfl)
theorem dX0_onTheWay_39 : decode cX0_onTheWay 39 = .ok (.getfield 24, 3) := dk_180 0 24 (dk_at dksX0_onTheWay_1 15 rfl rfl)
theorem dX0_onTheWay_42 : decode cX0_onTheWay 42 = .ok (.iload_n 3, 1) := dk_29 (dk_at dksX0_onTheWay_1 18 rfl rfl)
theorem dX0_onTheWay_43 : decode cX0_onTheWay 43 = .ok (.aaload, 1) := dk_50 (dk_at dksX0_onTheWay_1 19 rfl rfl)
theorem dX0_onTheWay_44 : decode cX0_onTheWay 44 = .ok (.getfield 32, 3) := dk_180 0 32 (dk_at dksX0_onTheWay_1 20 rfl rfl)
theorem dX0_onTheWay_47 : decode cX0_onTheWay 47 = .ok (.iconst 0, 1) := dk_3 (dk_at dksX0_onTheWay_1 23 rfl rfl)
theorem dX0_onTheWay_48 : decode cX0_onTheWay 48 = .ok (.iaload, 1) := dk_46 (dk_at dksX0_onTheWay_2 0 rfl rfl)
theorem dX0_onTheWay_49 : decode cX0_onTheWay 49 = .ok (.aload_n 0, 1) := dk_42 (dk_at dksX0_onTheWay_2 1 rfl rfl)
theorem dX0_onTheWay_50 : decode cX0_onTheWay 50 = .ok (.getfield 24, 3) := dk_180 0 24 (dk_at dksX0_onTheWay_2 2 rfl rfl)
theorem dX0_onTheWay_53 : decode cX0_onTheWay 53 = .ok (.iload_n 3, 1) := dk_29 (dk_at dksX0_onTheWay_2 5 rfl rfl)
theorem dX0_onTheWay_54 : decode cX0_onTheWay 54 = .ok (.aaload, 1) := dk_50 (dk_at dksX0_onTheWay_2 6 rfl rfl)
theorem dX0_onTheWay_55 : decode cX0_onTheWay 55 = .ok (.invokevirtual 229, 3) := dk_182 0 229 (dk_at dksX0_onTheWay_2 7 rfl rfl)
theorem dX0_onTheWay_58 : decode cX0_onTheWay 58 = .ok (.invokestatic 156, 3) := dk_184 0 156 (dk_at dksX0_onTheWay_2 10 rfl rfl)
theorem dX0_onTheWay_61 : decode cX0_onTheWay 61 = .ok (.ifCond .eq 7, 3) := dk_153 0 7 (dk_at dksX0_onTheWay_2 13 rfl rfl)
theorem dX0_onTheWay_64 : decode cX0_onTheWay 64 = .ok (.iconst 1, 1) := dk_4 (dk_at dksX0_onTheWay_2 16 rfl rfl)
theorem dX0_onTheWay_65 : decode cX0_onTheWay 65 = .ok (.goto 4, 3) := dk_167 0 4 (dk_at dksX0_onTheWay_2 17 rfl rfl)
theorem dX0_onTheWay_68 : decode cX0_onTheWay 68 = .ok (.iconst 0, 1) := dk_3 (dk_at dksX0_onTheWay_2 20 rfl rfl)
theorem dX0_onTheWay_69 : decode cX0_onTheWay 69 = .ok (.iadd, 1) := dk_96 (dk_at dksX0_onTheWay_2 21 rfl rfl)
theorem dX0_onTheWay_70 : decode cX0_onTheWay 70 = .ok (.istore_n 2, 1) := dk_61 (dk_at dksX0_onTheWay_2 22 rfl rfl)
theorem dX0_onTheWay_71 : decode cX0_onTheWay 71 = .ok (.iinc 3 1, 3) := dk_132 3 1 (dk_at dksX0_onTheWay_3 0 rfl rfl)
theorem dX0_onTheWay_74 : decode cX0_onTheWay 74 = .ok (.goto (-58), 3) := dk_167 255 198 (dk_at dksX0_onTheWay_3 3 rfl rfl)
theorem dX0_onTheWay_77 : decode cX0_onTheWay 77 = .ok (.iload_n 2, 1) := dk_28 (dk_at dksX0_onTheWay_3 6 rfl rfl)
theorem dX0_onTheWay_78 : decode cX0_onTheWay 78 = .ok (.ireturn, 1) := dk_172 (dk_at dksX0_onTheWay_3 7 rfl rfl)
abbrev cX0_regular : ByteArray := prog_1_method_51_code
def yX0_regular : MethodName := ⟨RX0, "regular", "(II)I"⟩
def dkwX0_regular_5 : List UInt8 := [172]
abbrev dktX0_regular_5 : List UInt8 := dkwX0_regular_5 ++ []
def dkwX0_regular_4 : List UInt8 := [160, 0, 13, 42, 27, 21, 4, 182, 1, 30, 167, 0, 14, 29, 154, 0, 8, 16, 254, 167, 0, 5, 21, 4]
abbrev dktX0_regular_4 : List UInt8 := dkwX0_regular_4 ++ dktX0_regular_5
def dkwX0_regular_3 : List UInt8 := [167, 0, 5, 21, 4, 54, 4, 132, 5, 1, 167, 255, 202, 28, 154, 0, 7, 29, 167, 0, 29, 28, 5]
abbrev dktX0_regular_3 : List UInt8 := dkwX0_regular_3 ++ dktX0_regular_4
def dkwX0_regular_2 : List UInt8 := [3, 96, 62, 42, 27, 21, 5, 182, 1, 30, 42, 27, 21, 4, 182, 1, 30, 164, 0, 8, 21, 5]
abbrev dktX0_regular_2 : List UInt8 := dkwX0_regular_2 ++ dktX0_regular_3
def dkwX0_regular_1 : List UInt8 := [54, 5, 21, 5, 16, 60, 162, 0, 53, 29, 42, 27, 21, 5, 182, 1, 30, 158, 0, 7, 4, 167, 0, 4]
abbrev dktX0_regular_1 : List UInt8 := dkwX0_regular_1 ++ dktX0_regular_2
def dkwX0_regular_0 : List UInt8 := [27, 184, 0, 20, 153, 0, 11, 28, 6, 184, 0, 16, 154, 0, 5, 2, 172, 3, 62, 3, 54, 4, 3]
abbrev dktX0_regular_0 : List UInt8 := dkwX0_regular_0 ++ dktX0_regular_1
theorem dksX0_regular_0 : cX0_regular.data.toList.drop 0 = dktX0_regular_0 := by decide +kernel
theorem dksX0_regular_1 : cX0_regular.data.toList.drop 23 = dktX0_regular_1 := dk_seg dksX0_regular_0 23 rfl rfl
theorem dksX0_regular_2 : cX0_regular.data.toList.drop 47 = dktX0_regular_2 := dk_seg dksX0_regular_1 24 rfl rfl
theorem dksX0_regular_3 : cX0_regular.data.toList.drop 69 = dktX0_regular_3 := dk_seg dksX0_regular_2 22 rfl rfl
theorem dksX0_regular_4 : cX0_regular.data.toList.drop 92 = dktX0_regular_4 := dk_seg dksX0_regular_3 23 rfl rfl
theorem dksX0_regular_5 : cX0_regular.data.toList.drop 116 = dktX0_regular_5 := dk_seg dksX0_regular_4 24 rfl rfl
theorem dX0_regular_0 : decode cX0_regular 0 = .ok (.iload_n 1, 1) := dk_27 (dk_at dksX0_regular_0 0 rfl rfl)
theorem dX0_regular_1 : decode cX0_regular 1 = .ok (.invokestatic 20, 3) := dk_184 0 20 (dk_at dksX0_regular_0 1 rfl rfl)
theorem dX0_regular_4 : decode cX0_regular 4 = .ok (.ifCond .eq 11, 3) := dk_153 0 11 (dk_at dksX0_regular_0 4 rfl rfl)
theorem dX0_regular_7 : decode cX0_regular 7 = .ok (.iload_n 2, 1) := dk_28 (dk_at dksX0_regular_0 7 rfl rfl)
theorem dX0_regular_8 : decode cX0_regular 8 = .ok (.iconst 3, 1) := dk_6 (dk_at dksX0_regular_0 8 rfl rfl)
theorem dX0_regular_9 : decode cX0_regular 9 = .ok (.invokestatic 16, 3) := dk_184 0 16 (dk_at dksX0_regular_0 9 rfl rfl)
theorem dX0_regular_12 : decode cX0_regular 12 = .ok (.ifCond .ne 5, 3) := dk_154 0 5 (dk_at dksX0_regular_0 12 rfl rfl)
theorem dX0_regular_15 : decode cX0_regular 15 = .ok (.iconst (-1), 1) := dk_2 (dk_at dksX0_regular_0 15 rfl rfl)
theorem dX0_regular_16 : decode cX0_regular 16 = .ok (.ireturn, 1) := dk_172 (dk_at dksX0_regular_0 16 rfl rfl)
theorem dX0_regular_17 : decode cX0_regular 17 = .ok (.iconst 0, 1) := dk_3 (dk_at dksX0_regular_0 17 rfl rfl)
theorem dX0_regular_18 : decode cX0_regular 18 = .ok (.istore_n 3, 1) := dk_62 (dk_at dksX0_regular_0 18 rfl rfl)
theorem dX0_regular_19 : decode cX0_regular 19 = .ok (.iconst 0, 1) := dk_3 (dk_at dksX0_regular_0 19 rfl rfl)
theorem dX0_regular_20 : decode cX0_regular 20 = .ok (.istore 4, 2) := dk_54 4 (dk_at dksX0_regular_0 20 rfl rfl)
theorem dX0_regular_22 : decode cX0_regular 22 = .ok (.iconst 0, 1) := dk_3 (dk_at dksX0_regular_0 22 rfl rfl)
theorem dX0_regular_23 : decode cX0_regular 23 = .ok (.istore 5, 2) := dk_54 5 (dk_at dksX0_regular_1 0 rfl rfl)
theorem dX0_regular_25 : decode cX0_regular 25 = .ok (.iload 5, 2) := dk_21 5 (dk_at dksX0_regular_1 2 rfl rfl)
theorem dX0_regular_27 : decode cX0_regular 27 = .ok (.bipush 60, 2) := dk_16 60 (dk_at dksX0_regular_1 4 rfl rfl)
theorem dX0_regular_29 : decode cX0_regular 29 = .ok (.if_icmp .ge 53, 3) := dk_162 0 53 (dk_at dksX0_regular_1 6 rfl rfl)
theorem dX0_regular_32 : decode cX0_regular 32 = .ok (.iload_n 3, 1) := dk_29 (dk_at dksX0_regular_1 9 rfl rfl)
theorem dX0_regular_33 : decode cX0_regular 33 = .ok (.aload_n 0, 1) := dk_42 (dk_at dksX0_regular_1 10 rfl rfl)
theorem dX0_regular_34 : decode cX0_regular 34 = .ok (.iload_n 1, 1) := dk_27 (dk_at dksX0_regular_1 11 rfl rfl)
theorem dX0_regular_35 : decode cX0_regular 35 = .ok (.iload 5, 2) := dk_21 5 (dk_at dksX0_regular_1 12 rfl rfl)
theorem dX0_regular_37 : decode cX0_regular 37 = .ok (.invokevirtual 286, 3) := dk_182 1 30 (dk_at dksX0_regular_1 14 rfl rfl)
theorem dX0_regular_40 : decode cX0_regular 40 = .ok (.ifCond .le 7, 3) := dk_158 0 7 (dk_at dksX0_regular_1 17 rfl rfl)
theorem dX0_regular_43 : decode cX0_regular 43 = .ok (.iconst 1, 1) := dk_4 (dk_at dksX0_regular_1 20 rfl rfl)
theorem dX0_regular_44 : decode cX0_regular 44 = .ok (.goto 4, 3) := dk_167 0 4 (dk_at dksX0_regular_1 21 rfl rfl)
theorem dX0_regular_47 : decode cX0_regular 47 = .ok (.iconst 0, 1) := dk_3 (dk_at dksX0_regular_2 0 rfl rfl)
theorem dX0_regular_48 : decode cX0_regular 48 = .ok (.iadd, 1) := dk_96 (dk_at dksX0_regular_2 1 rfl rfl)
theorem dX0_regular_49 : decode cX0_regular 49 = .ok (.istore_n 3, 1) := dk_62 (dk_at dksX0_regular_2 2 rfl rfl)
theorem dX0_regular_50 : decode cX0_regular 50 = .ok (.aload_n 0, 1) := dk_42 (dk_at dksX0_regular_2 3 rfl rfl)
theorem dX0_regular_51 : decode cX0_regular 51 = .ok (.iload_n 1, 1) := dk_27 (dk_at dksX0_regular_2 4 rfl rfl)
theorem dX0_regular_52 : decode cX0_regular 52 = .ok (.iload 5, 2) := dk_21 5 (dk_at dksX0_regular_2 5 rfl rfl)
theorem dX0_regular_54 : decode cX0_regular 54 = .ok (.invokevirtual 286, 3) := dk_182 1 30 (dk_at dksX0_regular_2 7 rfl rfl)
theorem dX0_regular_57 : decode cX0_regular 57 = .ok (.aload_n 0, 1) := dk_42 (dk_at dksX0_regular_2 10 rfl rfl)
theorem dX0_regular_58 : decode cX0_regular 58 = .ok (.iload_n 1, 1) := dk_27 (dk_at dksX0_regular_2 11 rfl rfl)
theorem dX0_regular_59 : decode cX0_regular 59 = .ok (.iload 4, 2) := dk_21 4 (dk_at dksX0_regular_2 12 rfl rfl)
theorem dX0_regular_61 : decode cX0_regular 61 = .ok (.invokevirtual 286, 3) := dk_182 1 30 (dk_at dksX0_regular_2 14 rfl rfl)
theorem dX0_regular_64 : decode cX0_regular 64 = .ok (.if_icmp .le 8, 3) := dk_164 0 8 (dk_at dksX0_regular_2 17 rfl rfl)
theorem dX0_regular_67 : decode cX0_regular 67 = .ok (.iload 5, 2) := dk_21 5 (dk_at dksX0_regular_2 20 rfl rfl)
theorem dX0_regular_69 : decode cX0_regular 69 = .ok (.goto 5, 3) := dk_167 0 5 (dk_at dksX0_regular_3 0 rfl rfl)
theorem dX0_regular_72 : decode cX0_regular 72 = .ok (.iload 4, 2) := dk_21 4 (dk_at dksX0_regular_3 3 rfl rfl)
theorem dX0_regular_74 : decode cX0_regular 74 = .ok (.istore 4, 2) := dk_54 4 (dk_at dksX0_regular_3 5 rfl rfl)
theorem dX0_regular_76 : decode cX0_regular 76 = .ok (.iinc 5 1, 3) := dk_132 5 1 (dk_at dksX0_regular_3 7 rfl rfl)
theorem dX0_regular_79 : decode cX0_regular 79 = .ok (.goto (-54), 3) := dk_167 255 202 (dk_at dksX0_regular_3 10 rfl rfl)
theorem dX0_regular_82 : decode cX0_regular 82 = .ok (.iload_n 2, 1) := dk_28 (dk_at dksX0_regular_3 13 rfl rfl)
theorem dX0_regular_83 : decode cX0_regular 83 = .ok (.ifCond .ne 7, 3) := dk_154 0 7 (dk_at dksX0_regular_3 14 rfl rfl)
theorem dX0_regular_86 : decode cX0_regular 86 = .ok (.iload_n 3, 1) := dk_29 (dk_at dksX0_regular_3 17 rfl rfl)
theorem dX0_regular_87 : decode cX0_regular 87 = .ok (.goto 29, 3) := dk_167 0 29 (dk_at dksX0_regular_3 18 rfl rfl)
theorem dX0_regular_90 : decode cX0_regular 90 = .ok (.iload_n 2, 1) := dk_28 (dk_at dksX0_regular_3 21 rfl rfl)
theorem dX0_regular_91 : decode cX0_regular 91 = .ok (.iconst 2, 1) := dk_5 (dk_at dksX0_regular_3 22 rfl rfl)
theorem dX0_regular_92 : decode cX0_regular 92 = .ok (.if_icmp .ne 13, 3) := dk_160 0 13 (dk_at dksX0_regular_4 0 rfl rfl)
theorem dX0_regular_95 : decode cX0_regular 95 = .ok (.aload_n 0, 1) := dk_42 (dk_at dksX0_regular_4 3 rfl rfl)
theorem dX0_regular_96 : decode cX0_regular 96 = .ok (.iload_n 1, 1) := dk_27 (dk_at dksX0_regular_4 4 rfl rfl)
theorem dX0_regular_97 : decode cX0_regular 97 = .ok (.iload 4, 2) := dk_21 4 (dk_at dksX0_regular_4 5 rfl rfl)
theorem dX0_regular_99 : decode cX0_regular 99 = .ok (.invokevirtual 286, 3) := dk_182 1 30 (dk_at dksX0_regular_4 7 rfl rfl)
theorem dX0_regular_102 : decode cX0_regular 102 = .ok (.goto 14, 3) := dk_167 0 14 (dk_at dksX0_regular_4 10 rfl rfl)
theorem dX0_regular_105 : decode cX0_regular 105 = .ok (.iload_n 3, 1) := dk_29 (dk_at dksX0_regular_4 13 rfl rfl)
theorem dX0_regular_106 : decode cX0_regular 106 = .ok (.ifCond .ne 8, 3) := dk_154 0 8 (dk_at dksX0_regular_4 14 rfl rfl)
theorem dX0_regular_109 : decode cX0_regular 109 = .ok (.bipush (-2), 2) := dk_16 254 (dk_at dksX0_regular_4 17 rfl rfl)
theorem dX0_regular_111 : decode cX0_regular 111 = .ok (.goto 5, 3) := dk_167 0 5 (dk_at dksX0_regular_4 19 rfl rfl)
theorem dX0_regular_114 : decode cX0_regular 114 = .ok (.iload 4, 2) := dk_21 4 (dk_at dksX0_regular_4 22 rfl rfl)
theorem dX0_regular_116 : decode cX0_regular 116 = .ok (.ireturn, 1) := dk_172 (dk_at dksX0_regular_5 0 rfl rfl)
abbrev cX0_leavesAt : ByteArray := prog_1_method_50_code
def yX0_leavesAt : MethodName := ⟨RX0, "leavesAt", "(II)I"⟩
def dkwX0_leavesAt_2 : List UInt8 := [4, 167, 0, 4, 3, 96, 62, 132, 4, 1, 167, 255, 204, 29, 172]
abbrev dktX0_leavesAt_2 : List UInt8 := dkwX0_leavesAt_2 ++ []
def dkwX0_leavesAt_1 : List UInt8 := [182, 0, 244, 153, 0, 25, 42, 180, 0, 24, 21, 4, 50, 27, 182, 0, 247, 16, 60, 112, 28, 160, 0, 7]
abbrev dktX0_leavesAt_1 : List UInt8 := dkwX0_leavesAt_1 ++ dktX0_leavesAt_2
def dkwX0_leavesAt_0 : List UInt8 := [3, 62, 3, 54, 4, 21, 4, 42, 180, 0, 10, 162, 0, 49, 29, 42, 180, 0, 24, 21, 4, 50, 27]
abbrev dktX0_leavesAt_0 : List UInt8 := dkwX0_leavesAt_0 ++ dktX0_leavesAt_1
theorem dksX0_leavesAt_0 : cX0_leavesAt.data.toList.drop 0 = dktX0_leavesAt_0 := by decide +kernel
theorem dksX0_leavesAt_1 : cX0_leavesAt.data.toList.drop 23 = dktX0_leavesAt_1 := dk_seg dksX0_leavesAt_0 23 rfl rfl
theorem dksX0_leavesAt_2 : cX0_leavesAt.data.toList.drop 47 = dktX0_leavesAt_2 := dk_seg dksX0_leavesAt_1 24 rfl rfl
theorem dX0_leavesAt_0 : decode cX0_leavesAt 0 = .ok (.iconst 0, 1) := dk_3 (dk_at dksX0_leavesAt_0 0 rfl rfl)
theorem dX0_leavesAt_1 : decode cX0_leavesAt 1 = .ok (.istore_n 3, 1) := dk_62 (dk_at dksX0_leavesAt_0 1 rfl rfl)
theorem dX0_leavesAt_2 : decode cX0_leavesAt 2 = .ok (.iconst 0, 1) := dk_3 (dk_at dksX0_leavesAt_0 2 rfl rfl)
theorem dX0_leavesAt_3 : decode cX0_leavesAt 3 = .ok (.istore 4, 2) := dk_54 4 (dk_at dksX0_leavesAt_0 3 rfl rfl)
theorem dX0_leavesAt_5 : decode cX0_leavesAt 5 = .ok (.iload 4, 2) := dk_21 4 (dk_at dksX0_leavesAt_0 5 rfl rfl)
theorem dX0_leavesAt_7 : decode cX0_leavesAt 7 = .ok (.aload_n 0, 1) := dk_42 (dk_at dksX0_leavesAt_0 7 rfl rfl)
theorem dX0_leavesAt_8 : decode cX0_leavesAt 8 = .ok (.getfield 10, 3) := dk_180 0 10 (dk_at dksX0_leavesAt_0 8 rfl rfl)
theorem dX0_leavesAt_11 : decode cX0_leavesAt 11 = .ok (.if_icmp .ge 49, 3) := dk_162 0 49 (dk_at dksX0_leavesAt_0 11 rfl rfl)
theorem dX0_leavesAt_14 : decode cX0_leavesAt 14 = .ok (.iload_n 3, 1) := dk_29 (dk_at dksX0_leavesAt_0 14 rfl rfl)
theorem dX0_leavesAt_15 : decode cX0_leavesAt 15 = .ok (.aload_n 0, 1) := dk_42 (dk_at dksX0_leavesAt_0 15 rfl rfl)
theorem dX0_leavesAt_16 : decode cX0_leavesAt 16 = .ok (.getfield 24, 3) := dk_180 0 24 (dk_at dksX0_leavesAt_0 16 rfl rfl)
theorem dX0_leavesAt_19 : decode cX0_leavesAt 19 = .ok (.iload 4, 2) := dk_21 4 (dk_at dksX0_leavesAt_0 19 rfl rfl)
theorem dX0_leavesAt_21 : decode cX0_leavesAt 21 = .ok (.aaload, 1) := dk_50 (dk_at dksX0_leavesAt_0 21 rfl rfl)
theorem dX0_leavesAt_22 : decode cX0_leavesAt 22 = .ok (.iload_n 1, 1) := dk_27 (dk_at dksX0_leavesAt_0 22 rfl rfl)
theorem dX0_leavesAt_23 : decode cX0_leavesAt 23 = .ok (.invokevirtual 244, 3) := dk_182 0 244 (dk_at dksX0_leavesAt_1 0 rfl rfl)
theorem dX0_leavesAt_26 : decode cX0_leavesAt 26 = .ok (.ifCond .eq 25, 3) := dk_153 0 25 (dk_at dksX0_leavesAt_1 3 rfl rfl)
theorem dX0_leavesAt_29 : decode cX0_leavesAt 29 = .ok (.aload_n 0, 1) := dk_42 (dk_at dksX0_leavesAt_1 6 rfl rfl)
theorem dX0_leavesAt_30 : decode cX0_leavesAt 30 = .ok (.getfield 24, 3) := dk_180 0 24 (dk_at dksX0_leavesAt_1 7 rfl rfl)
theorem dX0_leavesAt_33 : decode cX0_leavesAt 33 = .ok (.iload 4, 2) := dk_21 4 (dk_at dksX0_leavesAt_1 10 rfl rfl)
theorem dX0_leavesAt_35 : decode cX0_leavesAt 35 = .ok (.aaload, 1) := dk_50 (dk_at dksX0_leavesAt_1 12 rfl rfl)
theorem dX0_leavesAt_36 : decode cX0_leavesAt 36 = .ok (.iload_n 1, 1) := dk_27 (dk_at dksX0_leavesAt_1 13 rfl rfl)
theorem dX0_leavesAt_37 : decode cX0_leavesAt 37 = .ok (.invokevirtual 247, 3) := dk_182 0 247 (dk_at dksX0_leavesAt_1 14 rfl rfl)
theorem dX0_leavesAt_40 : decode cX0_leavesAt 40 = .ok (.bipush 60, 2) := dk_16 60 (dk_at dksX0_leavesAt_1 17 rfl rfl)
theorem dX0_leavesAt_42 : decode cX0_leavesAt 42 = .ok (.irem, 1) := dk_112 (dk_at dksX0_leavesAt_1 19 rfl rfl)
theorem dX0_leavesAt_43 : decode cX0_leavesAt 43 = .ok (.iload_n 2, 1) := dk_28 (dk_at dksX0_leavesAt_1 20 rfl rfl)
theorem dX0_leavesAt_44 : decode cX0_leavesAt 44 = .ok (.if_icmp .ne 7, 3) := dk_160 0 7 (dk_at dksX0_leavesAt_1 21 rfl rfl)
theorem dX0_leavesAt_47 : decode cX0_leavesAt 47 = .ok (.iconst 1, 1) := dk_4 (dk_at dksX0_leavesAt_2 0 rfl rfl)
theorem dX0_leavesAt_48 : decode cX0_leavesAt 48 = .ok (.goto 4, 3) := dk_167 0 4 (dk_at dksX0_leavesAt_2 1 rfl rfl)
theorem dX0_leavesAt_51 : decode cX0_leavesAt 51 = .ok (.iconst 0, 1) := dk_3 (dk_at dksX0_leavesAt_2 4 rfl rfl)
theorem dX0_leavesAt_52 : decode cX0_leavesAt 52 = .ok (.iadd, 1) := dk_96 (dk_at dksX0_leavesAt_2 5 rfl rfl)
theorem dX0_leavesAt_53 : decode cX0_leavesAt 53 = .ok (.istore_n 3, 1) := dk_62 (dk_at dksX0_leavesAt_2 6 rfl rfl)
theorem dX0_leavesAt_54 : decode cX0_leavesAt 54 = .ok (.iinc 4 1, 3) := dk_132 4 1 (dk_at dksX0_leavesAt_2 7 rfl rfl)
theorem dX0_leavesAt_57 : decode cX0_leavesAt 57 = .ok (.goto (-52), 3) := dk_167 255 204 (dk_at dksX0_leavesAt_2 10 rfl rfl)
theorem dX0_leavesAt_60 : decode cX0_leavesAt 60 = .ok (.iload_n 3, 1) := dk_29 (dk_at dksX0_leavesAt_2 13 rfl rfl)
theorem dX0_leavesAt_61 : decode cX0_leavesAt 61 = .ok (.ireturn, 1) := dk_172 (dk_at dksX0_leavesAt_2 14 rfl rfl)
abbrev cX0_fares : ByteArray := prog_1_method_52_code
def yX0_fares : MethodName := ⟨RX0, "fares", "(II)I"⟩
def dkwX0_fares_9 : List UInt8 := [180, 0, 121, 3, 46, 172]
abbrev dktX0_fares_9 : List UInt8 := dkwX0_fares_9 ++ []
def dkwX0_fares_8 : List UInt8 := [96, 51, 17, 0, 255, 126, 96, 184, 0, 1, 79, 132, 4, 1, 167, 255, 181, 132, 3, 255, 167, 255, 131, 42]
abbrev dktX0_fares_8 : List UInt8 := dkwX0_fares_8 ++ dktX0_fares_9
def dkwX0_fares_7 : List UInt8 := [29, 42, 180, 0, 92, 5, 21, 4, 104, 51, 96, 184, 0, 1, 46, 42, 180, 0, 92, 5, 21, 4, 104, 4]
abbrev dktX0_fares_7 : List UInt8 := dkwX0_fares_7 ++ dktX0_fares_8
def dkwX0_fares_6 : List UInt8 := [29, 184, 1, 34, 153, 0, 61, 42, 180, 0, 121, 29, 42, 180, 0, 121, 29, 46, 42, 180, 0, 121, 16, 30]
abbrev dktX0_fares_6 : List UInt8 := dkwX0_fares_6 ++ dktX0_fares_7
def dkwX0_fares_5 : List UInt8 := [180, 0, 121, 29, 4, 96, 46, 79, 3, 54, 4, 21, 4, 27, 162, 0, 75, 29, 16, 30, 162, 0, 69, 28]
abbrev dktX0_fares_5 : List UInt8 := dkwX0_fares_5 ++ dktX0_fares_6
def dkwX0_fares_4 : List UInt8 := [29, 16, 30, 160, 0, 7, 3, 167, 0, 24, 28, 29, 184, 1, 34, 153, 0, 8, 18, 235, 167, 0, 11, 42]
abbrev dktX0_fares_4 : List UInt8 := dkwX0_fares_4 ++ dktX0_fares_5
def dkwX0_fares_3 : List UInt8 := [154, 0, 6, 16, 254, 172, 132, 3, 1, 167, 255, 215, 16, 30, 62, 29, 155, 0, 127, 42, 180, 0, 121, 29]
abbrev dktX0_fares_3 : List UInt8 := dkwX0_fares_3 ++ dktX0_fares_4
def dkwX0_fares_2 : List UInt8 := [5, 29, 104, 51, 4, 16, 30, 184, 0, 156, 153, 0, 16, 42, 180, 0, 92, 5, 29, 104, 4, 96, 51]
abbrev dktX0_fares_2 : List UInt8 := dkwX0_fares_2 ++ dktX0_fares_3
def dkwX0_fares_1 : List UInt8 := [180, 0, 160, 164, 0, 5, 2, 172, 42, 3, 181, 0, 160, 3, 62, 29, 27, 162, 0, 42, 42, 180, 0, 92]
abbrev dktX0_fares_1 : List UInt8 := dkwX0_fares_1 ++ dktX0_fares_2
def dkwX0_fares_0 : List UInt8 := [27, 4, 16, 8, 184, 0, 156, 153, 0, 23, 28, 19, 1, 33, 184, 0, 16, 153, 0, 13, 5, 27, 104, 42]
abbrev dktX0_fares_0 : List UInt8 := dkwX0_fares_0 ++ dktX0_fares_1
theorem dksX0_fares_0 : cX0_fares.data.toList.drop 0 = dktX0_fares_0 := by decide +kernel
theorem dksX0_fares_1 : cX0_fares.data.toList.drop 24 = dktX0_fares_1 := dk_seg dksX0_fares_0 24 rfl rfl
theorem dksX0_fares_2 : cX0_fares.data.toList.drop 48 = dktX0_fares_2 := dk_seg dksX0_fares_1 24 rfl rfl
theorem dksX0_fares_3 : cX0_fares.data.toList.drop 71 = dktX0_fares_3 := dk_seg dksX0_fares_2 23 rfl rfl
theorem dksX0_fares_4 : cX0_fares.data.toList.drop 95 = dktX0_fares_4 := dk_seg dksX0_fares_3 24 rfl rfl
theorem dksX0_fares_5 : cX0_fares.data.toList.drop 119 = dktX0_fares_5 := dk_seg dksX0_fares_4 24 rfl rfl
theorem dksX0_fares_6 : cX0_fares.data.toList.drop 143 = dktX0_fares_6 := dk_seg dksX0_fares_5 24 rfl rfl
theorem dksX0_fares_7 : cX0_fares.data.toList.drop 167 = dktX0_fares_7 := dk_seg dksX0_fares_6 24 rfl rfl
theorem dksX0_fares_8 : cX0_fares.data.toList.drop 191 = dktX0_fares_8 := dk_seg dksX0_fares_7 24 rfl rfl
theorem dksX0_fares_9 : cX0_fares.data.toList.drop 215 = dktX0_fares_9 := dk_seg dksX0_fares_8 24 rfl rfl
theorem dX0_fares_0 : decode cX0_fares 0 = .ok (.iload_n 1, 1) := dk_27 (dk_at dksX0_fares_0 0 rfl rfl)
theorem dX0_fares_1 : decode cX0_fares 1 = .ok (.iconst 1, 1) := dk_4 (dk_at dksX0_fares_0 1 rfl rfl)
theorem dX0_fares_2 : decode cX0_fares 2 = .ok (.bipush 8, 2) := dk_16 8 (dk_at dksX0_fares_0 2 rfl rfl)
theorem dX0_fares_4 : decode cX0_fares 4 = .ok (.invokestatic 156, 3) := dk_184 0 156 (dk_at dksX0_fares_0 4 rfl rfl)
theorem dX0_fares_7 : decode cX0_fares 7 = .ok (.ifCond .eq 23, 3) := dk_153 0 23 (dk_at dksX0_fares_0 7 rfl rfl)
theorem dX0_fares_10 : decode cX0_fares 10 = .ok (.iload_n 2, 1) := dk_28 (dk_at dksX0_fares_0 10 rfl rfl)
theorem dX0_fares_11 : decode cX0_fares 11 = .ok (.ldc_w 289, 3) := dk_19 1 33 (dk_at dksX0_fares_0 11 rfl rfl)
theorem dX0_fares_14 : decode cX0_fares 14 = .ok (.invokestatic 16, 3) := dk_184 0 16 (dk_at dksX0_fares_0 14 rfl rfl)
theorem dX0_fares_17 : decode cX0_fares 17 = .ok (.ifCond .eq 13, 3) := dk_153 0 13 (dk_at dksX0_fares_0 17 rfl rfl)
theorem dX0_fares_20 : decode cX0_fares 20 = .ok (.iconst 2, 1) := dk_5 (dk_at dksX0_fares_0 20 rfl rfl)
theorem dX0_fares_21 : decode cX0_fares 21 = .ok (.iload_n 1, 1) := dk_27 (dk_at dksX0_fares_0 21 rfl rfl)
theorem dX0_fares_22 : decode cX0_fares 22 = .ok (.imul, 1) := dk_104 (dk_at dksX0_fares_0 22 rfl rfl)
theorem dX0_fares_23 : decode cX0_fares 23 = .ok (.aload_n 0, 1) := dk_42 (dk_at dksX0_fares_0 23 rfl rfl)
theorem dX0_fares_24 : decode cX0_fares 24 = .ok (.getfield 160, 3) := dk_180 0 160 (dk_at dksX0_fares_1 0 rfl rfl)
theorem dX0_fares_27 : decode cX0_fares 27 = .ok (.if_icmp .le 5, 3) := dk_164 0 5 (dk_at dksX0_fares_1 3 rfl rfl)
theorem dX0_fares_30 : decode cX0_fares 30 = .ok (.iconst (-1), 1) := dk_2 (dk_at dksX0_fares_1 6 rfl rfl)
theorem dX0_fares_31 : decode cX0_fares 31 = .ok (.ireturn, 1) := dk_172 (dk_at dksX0_fares_1 7 rfl rfl)
theorem dX0_fares_32 : decode cX0_fares 32 = .ok (.aload_n 0, 1) := dk_42 (dk_at dksX0_fares_1 8 rfl rfl)
theorem dX0_fares_33 : decode cX0_fares 33 = .ok (.iconst 0, 1) := dk_3 (dk_at dksX0_fares_1 9 rfl rfl)
theorem dX0_fares_34 : decode cX0_fares 34 = .ok (.putfield 160, 3) := dk_181 0 160 (dk_at dksX0_fares_1 10 rfl rfl)
theorem dX0_fares_37 : decode cX0_fares 37 = .ok (.iconst 0, 1) := dk_3 (dk_at dksX0_fares_1 13 rfl rfl)
theorem dX0_fares_38 : decode cX0_fares 38 = .ok (.istore_n 3, 1) := dk_62 (dk_at dksX0_fares_1 14 rfl rfl)
theorem dX0_fares_39 : decode cX0_fares 39 = .ok (.iload_n 3, 1) := dk_29 (dk_at dksX0_fares_1 15 rfl rfl)
theorem dX0_fares_40 : decode cX0_fares 40 = .ok (.iload_n 1, 1) := dk_27 (dk_at dksX0_fares_1 16 rfl rfl)
theorem dX0_fares_41 : decode cX0_fares 41 = .ok (.if_icmp .ge 42, 3) := dk_162 0 42 (dk_at dksX0_fares_1 17 rfl rfl)
theorem dX0_fares_44 : decode cX0_fares 44 = .ok (.aload_n 0, 1) := dk_42 (dk_at dksX0_fares_1 20 rfl rfl)
theorem dX0_fares_45 : decode cX0_fares 45 = .ok (.getfield 92, 3) := dk_180 0 92 (dk_at dksX0_fares_1 21 rfl rfl)
theorem dX0_fares_48 : decode cX0_fares 48 = .ok (.iconst 2, 1) := dk_5 (dk_at dksX0_fares_2 0 rfl rfl)
theorem dX0_fares_49 : decode cX0_fares 49 = .ok (.iload_n 3, 1) := dk_29 (dk_at dksX0_fares_2 1 rfl rfl)
theorem dX0_fares_50 : decode cX0_fares 50 = .ok (.imul, 1) := dk_104 (dk_at dksX0_fares_2 2 rfl rfl)
theorem dX0_fares_51 : decode cX0_fares 51 = .ok (.baload, 1) := dk_51 (dk_at dksX0_fares_2 3 rfl rfl)
theorem dX0_fares_52 : decode cX0_fares 52 = .ok (.iconst 1, 1) := dk_4 (dk_at dksX0_fares_2 4 rfl rfl)
theorem dX0_fares_53 : decode cX0_fares 53 = .ok (.bipush 30, 2) := dk_16 30 (dk_at dksX0_fares_2 5 rfl rfl)
theorem dX0_fares_55 : decode cX0_fares 55 = .ok (.invokestatic 156, 3) := dk_184 0 156 (dk_at dksX0_fares_2 7 rfl rfl)
theorem dX0_fares_58 : decode cX0_fares 58 = .ok (.ifCond .eq 16, 3) := dk_153 0 16 (dk_at dksX0_fares_2 10 rfl rfl)
theorem dX0_fares_61 : decode cX0_fares 61 = .ok (.aload_n 0, 1) := dk_42 (dk_at dksX0_fares_2 13 rfl rfl)
theorem dX0_fares_62 : decode cX0_fares 62 = .ok (.getfield 92, 3) := dk_180 0 92 (dk_at dksX0_fares_2 14 rfl rfl)
theorem dX0_fares_65 : decode cX0_fares 65 = .ok (.iconst 2, 1) := dk_5 (dk_at dksX0_fares_2 17 rfl rfl)
theorem dX0_fares_66 : decode cX0_fares 66 = .ok (.iload_n 3, 1) := dk_29 (dk_at dksX0_fares_2 18 rfl rfl)
theorem dX0_fares_67 : decode cX0_fares 67 = .ok (.imul, 1) := dk_104 (dk_at dksX0_fares_2 19 rfl rfl)
theorem dX0_fares_68 : decode cX0_fares 68 = .ok (.iconst 1, 1) := dk_4 (dk_at dksX0_fares_2 20 rfl rfl)
theorem dX0_fares_69 : decode cX0_fares 69 = .ok (.iadd, 1) := dk_96 (dk_at dksX0_fares_2 21 rfl rfl)
theorem dX0_fares_70 : decode cX0_fares 70 = .ok (.baload, 1) := dk_51 (dk_at dksX0_fares_2 22 rfl rfl)
theorem dX0_fares_71 : decode cX0_fares 71 = .ok (.ifCond .ne 6, 3) := dk_154 0 6 (dk_at dksX0_fares_3 0 rfl rfl)
theorem dX0_fares_74 : decode cX0_fares 74 = .ok (.bipush (-2), 2) := dk_16 254 (dk_at dksX0_fares_3 3 rfl rfl)
theorem dX0_fares_76 : decode cX0_fares 76 = .ok (.ireturn, 1) := dk_172 (dk_at dksX0_fares_3 5 rfl rfl)
theorem dX0_fares_77 : decode cX0_fares 77 = .ok (.iinc 3 1, 3) := dk_132 3 1 (dk_at dksX0_fares_3 6 rfl rfl)
theorem dX0_fares_80 : decode cX0_fares 80 = .ok (.goto (-41), 3) := dk_167 255 215 (dk_at dksX0_fares_3 9 rfl rfl)
theorem dX0_fares_83 : decode cX0_fares 83 = .ok (.bipush 30, 2) := dk_16 30 (dk_at dksX0_fares_3 12 rfl rfl)
theorem dX0_fares_85 : decode cX0_fares 85 = .ok (.istore_n 3, 1) := dk_62 (dk_at dksX0_fares_3 14 rfl rfl)
theorem dX0_fares_86 : decode cX0_fares 86 = .ok (.iload_n 3, 1) := dk_29 (dk_at dksX0_fares_3 15 rfl rfl)
theorem dX0_fares_87 : decode cX0_fares 87 = .ok (.ifCond .lt 127, 3) := dk_155 0 127 (dk_at dksX0_fares_3 16 rfl rfl)
theorem dX0_fares_90 : decode cX0_fares 90 = .ok (.aload_n 0, 1) := dk_42 (dk_at dksX0_fares_3 19 rfl rfl)
theorem dX0_fares_91 : decode cX0_fares 91 = .ok (.getfield 121, 3) := dk_180 0 121 (dk_at dksX0_fares_3 20 rfl rfl)
theorem dX0_fares_94 : decode cX0_fares 94 = .ok (.iload_n 3, 1) := dk_29 (dk_at dksX0_fares_3 23 rfl rfl)
theorem dX0_fares_95 : decode cX0_fares 95 = .ok (.iload_n 3, 1) := dk_29 (dk_at dksX0_fares_4 0 rfl rfl)
theorem dX0_fares_96 : decode cX0_fares 96 = .ok (.bipush 30, 2) := dk_16 30 (dk_at dksX0_fares_4 1 rfl rfl)
theorem dX0_fares_98 : decode cX0_fares 98 = .ok (.if_icmp .ne 7, 3) := dk_160 0 7 (dk_at dksX0_fares_4 3 rfl rfl)
theorem dX0_fares_101 : decode cX0_fares 101 = .ok (.iconst 0, 1) := dk_3 (dk_at dksX0_fares_4 6 rfl rfl)
theorem dX0_fares_102 : decode cX0_fares 102 = .ok (.goto 24, 3) := dk_167 0 24 (dk_at dksX0_fares_4 7 rfl rfl)
theorem dX0_fares_105 : decode cX0_fares 105 = .ok (.iload_n 2, 1) := dk_28 (dk_at dksX0_fares_4 10 rfl rfl)
theorem dX0_fares_106 : decode cX0_fares 106 = .ok (.iload_n 3, 1) := dk_29 (dk_at dksX0_fares_4 11 rfl rfl)
theorem dX0_fares_107 : decode cX0_fares 107 = .ok (.invokestatic 290, 3) := dk_184 1 34 (dk_at dksX0_fares_4 12 rfl rfl)
theorem dX0_fares_110 : decode cX0_fares 110 = .ok (.ifCond .eq 8, 3) := dk_153 0 8 (dk_at dksX0_fares_4 15 rfl rfl)
theorem dX0_fares_113 : decode cX0_fares 113 = .ok (.ldc 235, 2) := dk_18 235 (dk_at dksX0_fares_4 18 rfl rfl)
theorem dX0_fares_115 : decode cX0_fares 115 = .ok (.goto 11, 3) := dk_167 0 11 (dk_at dksX0_fares_4 20 rfl rfl)
theorem dX0_fares_118 : decode cX0_fares 118 = .ok (.aload_n 0, 1) := dk_42 (dk_at dksX0_fares_4 23 rfl rfl)
theorem dX0_fares_119 : decode cX0_fares 119 = .ok (.getfield 121, 3) := dk_180 0 121 (dk_at dksX0_fares_5 0 rfl rfl)
theorem dX0_fares_122 : decode cX0_fares 122 = .ok (.iload_n 3, 1) := dk_29 (dk_at dksX0_fares_5 3 rfl rfl)
theorem dX0_fares_123 : decode cX0_fares 123 = .ok (.iconst 1, 1) := dk_4 (dk_at dksX0_fares_5 4 rfl rfl)
theorem dX0_fares_124 : decode cX0_fares 124 = .ok (.iadd, 1) := dk_96 (dk_at dksX0_fares_5 5 rfl rfl)
theorem dX0_fares_125 : decode cX0_fares 125 = .ok (.iaload, 1) := dk_46 (dk_at dksX0_fares_5 6 rfl rfl)
theorem dX0_fares_126 : decode cX0_fares 126 = .ok (.iastore, 1) := dk_79 (dk_at dksX0_fares_5 7 rfl rfl)
theorem dX0_fares_127 : decode cX0_fares 127 = .ok (.iconst 0, 1) := dk_3 (dk_at dksX0_fares_5 8 rfl rfl)
theorem dX0_fares_128 : decode cX0_fares 128 = .ok (.istore 4, 2) := dk_54 4 (dk_at dksX0_fares_5 9 rfl rfl)
theorem dX0_fares_130 : decode cX0_fares 130 = .ok (.iload 4, 2) := dk_21 4 (dk_at dksX0_fares_5 11 rfl rfl)
theorem dX0_fares_132 : decode cX0_fares 132 = .ok (.iload_n 1, 1) := dk_27 (dk_at dksX0_fares_5 13 rfl rfl)
theorem dX0_fares_133 : decode cX0_fares 133 = .ok (.if_icmp .ge 75, 3) := dk_162 0 75 (dk_at dksX0_fares_5 14 rfl rfl)
theorem dX0_fares_136 : decode cX0_fares 136 = .ok (.iload_n 3, 1) := dk_29 (dk_at dksX0_fares_5 17 rfl rfl)
theorem dX0_fares_137 : decode cX0_fares 137 = .ok (.bipush 30, 2) := dk_16 30 (dk_at dksX0_fares_5 18 rfl rfl)
theorem dX0_fares_139 : decode cX0_fares 139 = .ok (.if_icmp .ge 69, 3) := dk_162 0 69 (dk_at dksX0_fares_5 20 rfl rfl)
theorem dX0_fares_142 : decode cX0_fares 142 = .ok (.iload_n 2, 1) := dk_28 (dk_at dksX0_fares_5 23 rfl rfl)
theorem dX0_fares_143 : decode cX0_fares 143 = .ok (.iload_n 3, 1) := dk_29 (dk_at dksX0_fares_6 0 rfl rfl)
theorem dX0_fares_144 : decode cX0_fares 144 = .ok (.invokestatic 290, 3) := dk_184 1 34 (dk_at dksX0_fares_6 1 rfl rfl)
theorem dX0_fares_147 : decode cX0_fares 147 = .ok (.ifCond .eq 61, 3) := dk_153 0 61 (dk_at dksX0_fares_6 4 rfl rfl)
theorem dX0_fares_150 : decode cX0_fares 150 = .ok (.aload_n 0, 1) := dk_42 (dk_at dksX0_fares_6 7 rfl rfl)
theorem dX0_fares_151 : decode cX0_fares 151 = .ok (.getfield 121, 3) := dk_180 0 121 (dk_at dksX0_fares_6 8 rfl rfl)
theorem dX0_fares_154 : decode cX0_fares 154 = .ok (.iload_n 3, 1) := dk_29 (dk_at dksX0_fares_6 11 rfl rfl)
theorem dX0_fares_155 : decode cX0_fares 155 = .ok (.aload_n 0, 1) := dk_42 (dk_at dksX0_fares_6 12 rfl rfl)
theorem dX0_fares_156 : decode cX0_fares 156 = .ok (.getfield 121, 3) := dk_180 0 121 (dk_at dksX0_fares_6 13 rfl rfl)
theorem dX0_fares_159 : decode cX0_fares 159 = .ok (.iload_n 3, 1) := dk_29 (dk_at dksX0_fares_6 16 rfl rfl)
theorem dX0_fares_160 : decode cX0_fares 160 = .ok (.iaload, 1) := dk_46 (dk_at dksX0_fares_6 17 rfl rfl)
theorem dX0_fares_161 : decode cX0_fares 161 = .ok (.aload_n 0, 1) := dk_42 (dk_at dksX0_fares_6 18 rfl rfl)
theorem dX0_fares_162 : decode cX0_fares 162 = .ok (.getfield 121, 3) := dk_180 0 121 (dk_at dksX0_fares_6 19 rfl rfl)
theorem dX0_fares_165 : decode cX0_fares 165 = .ok (.bipush 30, 2) := dk_16 30 (dk_at dksX0_fares_6 22 rfl rfl)
theorem dX0_fares_167 : decode cX0_fares 167 = .ok (.iload_n 3, 1) := dk_29 (dk_at dksX0_fares_7 0 rfl rfl)
theorem dX0_fares_168 : decode cX0_fares 168 = .ok (.aload_n 0, 1) := dk_42 (dk_at dksX0_fares_7 1 rfl rfl)
theorem dX0_fares_169 : decode cX0_fares 169 = .ok (.getfield 92, 3) := dk_180 0 92 (dk_at dksX0_fares_7 2 rfl rfl)
theorem dX0_fares_172 : decode cX0_fares 172 = .ok (.iconst 2, 1) := dk_5 (dk_at dksX0_fares_7 5 rfl rfl)
theorem dX0_fares_173 : decode cX0_fares 173 = .ok (.iload 4, 2) := dk_21 4 (dk_at dksX0_fares_7 6 rfl rfl)
theorem dX0_fares_175 : decode cX0_fares 175 = .ok (.imul, 1) := dk_104 (dk_at dksX0_fares_7 8 rfl rfl)
theorem dX0_fares_176 : decode cX0_fares 176 = .ok (.baload, 1) := dk_51 (dk_at dksX0_fares_7 9 rfl rfl)
theorem dX0_fares_177 : decode cX0_fares 177 = .ok (.iadd, 1) := dk_96 (dk_at dksX0_fares_7 10 rfl rfl)
theorem dX0_fares_178 : decode cX0_fares 178 = .ok (.invokestatic 1, 3) := dk_184 0 1 (dk_at dksX0_fares_7 11 rfl rfl)
theorem dX0_fares_181 : decode cX0_fares 181 = .ok (.iaload, 1) := dk_46 (dk_at dksX0_fares_7 14 rfl rfl)
theorem dX0_fares_182 : decode cX0_fares 182 = .ok (.aload_n 0, 1) := dk_42 (dk_at dksX0_fares_7 15 rfl rfl)
theorem dX0_fares_183 : decode cX0_fares 183 = .ok (.getfield 92, 3) := dk_180 0 92 (dk_at dksX0_fares_7 16 rfl rfl)
theorem dX0_fares_186 : decode cX0_fares 186 = .ok (.iconst 2, 1) := dk_5 (dk_at dksX0_fares_7 19 rfl rfl)
theorem dX0_fares_187 : decode cX0_fares 187 = .ok (.iload 4, 2) := dk_21 4 (dk_at dksX0_fares_7 20 rfl rfl)
theorem dX0_fares_189 : decode cX0_fares 189 = .ok (.imul, 1) := dk_104 (dk_at dksX0_fares_7 22 rfl rfl)
theorem dX0_fares_190 : decode cX0_fares 190 = .ok (.iconst 1, 1) := dk_4 (dk_at dksX0_fares_7 23 rfl rfl)
theorem dX0_fares_191 : decode cX0_fares 191 = .ok (.iadd, 1) := dk_96 (dk_at dksX0_fares_8 0 rfl rfl)
theorem dX0_fares_192 : decode cX0_fares 192 = .ok (.baload, 1) := dk_51 (dk_at dksX0_fares_8 1 rfl rfl)
theorem dX0_fares_193 : decode cX0_fares 193 = .ok (.sipush 255, 3) := dk_17 0 255 (dk_at dksX0_fares_8 2 rfl rfl)
theorem dX0_fares_196 : decode cX0_fares 196 = .ok (.iand, 1) := dk_126 (dk_at dksX0_fares_8 5 rfl rfl)
theorem dX0_fares_197 : decode cX0_fares 197 = .ok (.iadd, 1) := dk_96 (dk_at dksX0_fares_8 6 rfl rfl)
theorem dX0_fares_198 : decode cX0_fares 198 = .ok (.invokestatic 1, 3) := dk_184 0 1 (dk_at dksX0_fares_8 7 rfl rfl)
theorem dX0_fares_201 : decode cX0_fares 201 = .ok (.iastore, 1) := dk_79 (dk_at dksX0_fares_8 10 rfl rfl)
theorem dX0_fares_202 : decode cX0_fares 202 = .ok (.iinc 4 1, 3) := dk_132 4 1 (dk_at dksX0_fares_8 11 rfl rfl)
theorem dX0_fares_205 : decode cX0_fares 205 = .ok (.goto (-75), 3) := dk_167 255 181 (dk_at dksX0_fares_8 14 rfl rfl)
theorem dX0_fares_208 : decode cX0_fares 208 = .ok (.iinc 3 (-1), 3) := dk_132 3 255 (dk_at dksX0_fares_8 17 rfl rfl)
theorem dX0_fares_211 : decode cX0_fares 211 = .ok (.goto (-125), 3) := dk_167 255 131 (dk_at dksX0_fares_8 20 rfl rfl)
theorem dX0_fares_214 : decode cX0_fares 214 = .ok (.aload_n 0, 1) := dk_42 (dk_at dksX0_fares_8 23 rfl rfl)
theorem dX0_fares_215 : decode cX0_fares 215 = .ok (.getfield 121, 3) := dk_180 0 121 (dk_at dksX0_fares_9 0 rfl rfl)
theorem dX0_fares_218 : decode cX0_fares 218 = .ok (.iconst 0, 1) := dk_3 (dk_at dksX0_fares_9 3 rfl rfl)
theorem dX0_fares_219 : decode cX0_fares 219 = .ok (.iaload, 1) := dk_46 (dk_at dksX0_fares_9 4 rfl rfl)
theorem dX0_fares_220 : decode cX0_fares 220 = .ok (.ireturn, 1) := dk_172 (dk_at dksX0_fares_9 5 rfl rfl)
abbrev cX0_has : ByteArray := prog_1_method_3_code
def yX0_has : MethodName := ⟨RX0, "has", "(II)Z"⟩
def dkwX0_has_0 : List UInt8 := [26, 27, 122, 4, 126, 4, 160, 0, 7, 4, 167, 0, 4, 3, 172]
abbrev dktX0_has_0 : List UInt8 := dkwX0_has_0 ++ []
theorem dksX0_has_0 : cX0_has.data.toList.drop 0 = dktX0_has_0 := by decide +kernel
theorem dX0_has_0 : decode cX0_has 0 = .ok (.iload_n 0, 1) := dk_26 (dk_at dksX0_has_0 0 rfl rfl)
theorem dX0_has_1 : decode cX0_has 1 = .ok (.iload_n 1, 1) := dk_27 (dk_at dksX0_has_0 1 rfl rfl)
theorem dX0_has_2 : decode cX0_has 2 = .ok (.ishr, 1) := dk_122 (dk_at dksX0_has_0 2 rfl rfl)
theorem dX0_has_3 : decode cX0_has 3 = .ok (.iconst 1, 1) := dk_4 (dk_at dksX0_has_0 3 rfl rfl)
theorem dX0_has_4 : decode cX0_has 4 = .ok (.iand, 1) := dk_126 (dk_at dksX0_has_0 4 rfl rfl)
theorem dX0_has_5 : decode cX0_has 5 = .ok (.iconst 1, 1) := dk_4 (dk_at dksX0_has_0 5 rfl rfl)
theorem dX0_has_6 : decode cX0_has 6 = .ok (.if_icmp .ne 7, 3) := dk_160 0 7 (dk_at dksX0_has_0 6 rfl rfl)
theorem dX0_has_9 : decode cX0_has 9 = .ok (.iconst 1, 1) := dk_4 (dk_at dksX0_has_0 9 rfl rfl)
theorem dX0_has_10 : decode cX0_has 10 = .ok (.goto 4, 3) := dk_167 0 4 (dk_at dksX0_has_0 10 rfl rfl)
theorem dX0_has_13 : decode cX0_has 13 = .ok (.iconst 0, 1) := dk_3 (dk_at dksX0_has_0 13 rfl rfl)
theorem dX0_has_14 : decode cX0_has 14 = .ok (.ireturn, 1) := dk_172 (dk_at dksX0_has_0 14 rfl rfl)
abbrev cX0_seed : ByteArray := prog_1_method_53_code
def yX0_seed : MethodName := ⟨RX0, "seed", "(I)Z"⟩
def dkwX0_seed_0 : List UInt8 := [27, 19, 1, 37, 184, 0, 16, 154, 0, 5, 3, 172, 42, 180, 0, 82, 27, 181, 0, 125, 4, 172]
abbrev dktX0_seed_0 : List UInt8 := dkwX0_seed_0 ++ []
theorem dksX0_seed_0 : cX0_seed.data.toList.drop 0 = dktX0_seed_0 := by decide +kernel
theorem dX0_seed_0 : decode cX0_seed 0 = .ok (.iload_n 1, 1) := dk_27 (dk_at dksX0_seed_0 0 rfl rfl)
theorem dX0_seed_1 : decode cX0_seed 1 = .ok (.ldc_w 293, 3) := dk_19 1 37 (dk_at dksX0_seed_0 1 rfl rfl)
theorem dX0_seed_4 : decode cX0_seed 4 = .ok (.invokestatic 16, 3) := dk_184 0 16 (dk_at dksX0_seed_0 4 rfl rfl)
theorem dX0_seed_7 : decode cX0_seed 7 = .ok (.ifCond .ne 5, 3) := dk_154 0 5 (dk_at dksX0_seed_0 7 rfl rfl)
theorem dX0_seed_10 : decode cX0_seed 10 = .ok (.iconst 0, 1) := dk_3 (dk_at dksX0_seed_0 10 rfl rfl)
theorem dX0_seed_11 : decode cX0_seed 11 = .ok (.ireturn, 1) := dk_172 (dk_at dksX0_seed_0 11 rfl rfl)
theorem dX0_seed_12 : decode cX0_seed 12 = .ok (.aload_n 0, 1) := dk_42 (dk_at dksX0_seed_0 12 rfl rfl)
theorem dX0_seed_13 : decode cX0_seed 13 = .ok (.getfield 82, 3) := dk_180 0 82 (dk_at dksX0_seed_0 13 rfl rfl)
theorem dX0_seed_16 : decode cX0_seed 16 = .ok (.iload_n 1, 1) := dk_27 (dk_at dksX0_seed_0 16 rfl rfl)
theorem dX0_seed_17 : decode cX0_seed 17 = .ok (.putfield 125, 3) := dk_181 0 125 (dk_at dksX0_seed_0 17 rfl rfl)
theorem dX0_seed_20 : decode cX0_seed 20 = .ok (.iconst 1, 1) := dk_4 (dk_at dksX0_seed_0 20 rfl rfl)
theorem dX0_seed_21 : decode cX0_seed 21 = .ok (.ireturn, 1) := dk_172 (dk_at dksX0_seed_0 21 rfl rfl)
abbrev cX0_keep : ByteArray := prog_1_method_54_code
def yX0_keep : MethodName := ⟨RX0, "keep", "()I"⟩
def dkwX0_keep_1 : List UInt8 := [172]
abbrev dktX0_keep_1 : List UInt8 := dkwX0_keep_1 ++ []
def dkwX0_keep_0 : List UInt8 := [42, 4, 181, 1, 38, 42, 180, 0, 89, 42, 180, 0, 82, 182, 0, 204, 87, 42, 180, 0, 82, 180, 1, 41]
abbrev dktX0_keep_0 : List UInt8 := dkwX0_keep_0 ++ dktX0_keep_1
theorem dksX0_keep_0 : cX0_keep.data.toList.drop 0 = dktX0_keep_0 := by decide +kernel
theorem dksX0_keep_1 : cX0_keep.data.toList.drop 24 = dktX0_keep_1 := dk_seg dksX0_keep_0 24 rfl rfl
theorem dX0_keep_0 : decode cX0_keep 0 = .ok (.aload_n 0, 1) := dk_42 (dk_at dksX0_keep_0 0 rfl rfl)
theorem dX0_keep_1 : decode cX0_keep 1 = .ok (.iconst 1, 1) := dk_4 (dk_at dksX0_keep_0 1 rfl rfl)
theorem dX0_keep_2 : decode cX0_keep 2 = .ok (.putfield 294, 3) := dk_181 1 38 (dk_at dksX0_keep_0 2 rfl rfl)
theorem dX0_keep_5 : decode cX0_keep 5 = .ok (.aload_n 0, 1) := dk_42 (dk_at dksX0_keep_0 5 rfl rfl)
theorem dX0_keep_6 : decode cX0_keep 6 = .ok (.getfield 89, 3) := dk_180 0 89 (dk_at dksX0_keep_0 6 rfl rfl)
theorem dX0_keep_9 : decode cX0_keep 9 = .ok (.aload_n 0, 1) := dk_42 (dk_at dksX0_keep_0 9 rfl rfl)
theorem dX0_keep_10 : decode cX0_keep 10 = .ok (.getfield 82, 3) := dk_180 0 82 (dk_at dksX0_keep_0 10 rfl rfl)
theorem dX0_keep_13 : decode cX0_keep 13 = .ok (.invokevirtual 204, 3) := dk_182 0 204 (dk_at dksX0_keep_0 13 rfl rfl)
theorem dX0_keep_16 : decode cX0_keep 16 = .ok (.pop, 1) := dk_87 (dk_at dksX0_keep_0 16 rfl rfl)
theorem dX0_keep_17 : decode cX0_keep 17 = .ok (.aload_n 0, 1) := dk_42 (dk_at dksX0_keep_0 17 rfl rfl)
theorem dX0_keep_18 : decode cX0_keep 18 = .ok (.getfield 82, 3) := dk_180 0 82 (dk_at dksX0_keep_0 18 rfl rfl)
theorem dX0_keep_21 : decode cX0_keep 21 = .ok (.getfield 297, 3) := dk_180 1 41 (dk_at dksX0_keep_0 21 rfl rfl)
theorem dX0_keep_24 : decode cX0_keep 24 = .ok (.ireturn, 1) := dk_172 (dk_at dksX0_keep_1 0 rfl rfl)
abbrev cX0_undo : ByteArray := prog_1_method_55_code
def yX0_undo : MethodName := ⟨RX0, "undo", "()Z"⟩
def dkwX0_undo_0 : List UInt8 := [42, 180, 1, 38, 154, 0, 5, 3, 172, 42, 180, 0, 82, 42, 180, 0, 89, 182, 1, 44, 4, 172]
abbrev dktX0_undo_0 : List UInt8 := dkwX0_undo_0 ++ []
theorem dksX0_undo_0 : cX0_undo.data.toList.drop 0 = dktX0_undo_0 := by decide +kernel
theorem dX0_undo_0 : decode cX0_undo 0 = .ok (.aload_n 0, 1) := dk_42 (dk_at dksX0_undo_0 0 rfl rfl)
theorem dX0_undo_1 : decode cX0_undo 1 = .ok (.getfield 294, 3) := dk_180 1 38 (dk_at dksX0_undo_0 1 rfl rfl)
theorem dX0_undo_4 : decode cX0_undo 4 = .ok (.ifCond .ne 5, 3) := dk_154 0 5 (dk_at dksX0_undo_0 4 rfl rfl)
theorem dX0_undo_7 : decode cX0_undo 7 = .ok (.iconst 0, 1) := dk_3 (dk_at dksX0_undo_0 7 rfl rfl)
theorem dX0_undo_8 : decode cX0_undo 8 = .ok (.ireturn, 1) := dk_172 (dk_at dksX0_undo_0 8 rfl rfl)
theorem dX0_undo_9 : decode cX0_undo 9 = .ok (.aload_n 0, 1) := dk_42 (dk_at dksX0_undo_0 9 rfl rfl)
theorem dX0_undo_10 : decode cX0_undo 10 = .ok (.getfield 82, 3) := dk_180 0 82 (dk_at dksX0_undo_0 10 rfl rfl)
theorem dX0_undo_13 : decode cX0_undo 13 = .ok (.aload_n 0, 1) := dk_42 (dk_at dksX0_undo_0 13 rfl rfl)
theorem dX0_undo_14 : decode cX0_undo 14 = .ok (.getfield 89, 3) := dk_180 0 89 (dk_at dksX0_undo_0 14 rfl rfl)
theorem dX0_undo_17 : decode cX0_undo 17 = .ok (.invokevirtual 300, 3) := dk_182 1 44 (dk_at dksX0_undo_0 17 rfl rfl)
theorem dX0_undo_20 : decode cX0_undo 20 = .ok (.iconst 1, 1) := dk_4 (dk_at dksX0_undo_0 20 rfl rfl)
theorem dX0_undo_21 : decode cX0_undo 21 = .ok (.ireturn, 1) := dk_172 (dk_at dksX0_undo_0 21 rfl rfl)
abbrev cX0_check : ByteArray := prog_1_method_56_code
def yX0_check : MethodName := ⟨RX0, "check", "(I)I"⟩
def dkwX0_check_3 : List UInt8 := [167, 0, 4, 3, 159, 0, 5, 28, 172, 132, 2, 1, 167, 255, 205, 2, 172]
abbrev dktX0_check_3 : List UInt8 := dkwX0_check_3 ++ []
def dkwX0_check_2 : List UInt8 := [182, 0, 202, 153, 0, 22, 42, 180, 0, 82, 180, 0, 128, 28, 50, 180, 0, 153, 17, 0, 255, 126]
abbrev dktX0_check_2 : List UInt8 := dkwX0_check_2 ++ dktX0_check_3
def dkwX0_check_1 : List UInt8 := [181, 0, 160, 3, 61, 28, 27, 162, 0, 52, 42, 180, 0, 92, 28, 51, 17, 0, 255, 126, 42, 28]
abbrev dktX0_check_1 : List UInt8 := dkwX0_check_1 ++ dktX0_check_2
def dkwX0_check_0 : List UInt8 := [27, 3, 16, 12, 184, 0, 156, 153, 0, 11, 27, 42, 180, 0, 160, 164, 0, 6, 16, 254, 172, 42, 3]
abbrev dktX0_check_0 : List UInt8 := dkwX0_check_0 ++ dktX0_check_1
theorem dksX0_check_0 : cX0_check.data.toList.drop 0 = dktX0_check_0 := by decide +kernel
theorem dksX0_check_1 : cX0_check.data.toList.drop 23 = dktX0_check_1 := dk_seg dksX0_check_0 23 rfl rfl
theorem dksX0_check_2 : cX0_check.data.toList.drop 45 = dktX0_check_2 := dk_seg dksX0_check_1 22 rfl rfl
theorem dksX0_check_3 : cX0_check.data.toList.drop 67 = dktX0_check_3 := dk_seg dksX0_check_2 22 rfl rfl
theorem dX0_check_0 : decode cX0_check 0 = .ok (.iload_n 1, 1) := dk_27 (dk_at dksX0_check_0 0 rfl rfl)
theorem dX0_check_1 : decode cX0_check 1 = .ok (.iconst 0, 1) := dk_3 (dk_at dksX0_check_0 1 rfl rfl)
theorem dX0_check_2 : decode cX0_check 2 = .ok (.bipush 12, 2) := dk_16 12 (dk_at dksX0_check_0 2 rfl rfl)
theorem dX0_check_4 : decode cX0_check 4 = .ok (.invokestatic 156, 3) := dk_184 0 156 (dk_at dksX0_check_0 4 rfl rfl)
theorem dX0_check_7 : decode cX0_check 7 = .ok (.ifCond .eq 11, 3) := dk_153 0 11 (dk_at dksX0_check_0 7 rfl rfl)
theorem dX0_check_10 : decode cX0_check 10 = .ok (.iload_n 1, 1) := dk_27 (dk_at dksX0_check_0 10 rfl rfl)
theorem dX0_check_11 : decode cX0_check 11 = .ok (.aload_n 0, 1) := dk_42 (dk_at dksX0_check_0 11 rfl rfl)
theorem dX0_check_12 : decode cX0_check 12 = .ok (.getfield 160, 3) := dk_180 0 160 (dk_at dksX0_check_0 12 rfl rfl)
theorem dX0_check_15 : decode cX0_check 15 = .ok (.if_icmp .le 6, 3) := dk_164 0 6 (dk_at dksX0_check_0 15 rfl rfl)
theorem dX0_check_18 : decode cX0_check 18 = .ok (.bipush (-2), 2) := dk_16 254 (dk_at dksX0_check_0 18 rfl rfl)
theorem dX0_check_20 : decode cX0_check 20 = .ok (.ireturn, 1) := dk_172 (dk_at dksX0_check_0 20 rfl rfl)
theorem dX0_check_21 : decode cX0_check 21 = .ok (.aload_n 0, 1) := dk_42 (dk_at dksX0_check_0 21 rfl rfl)
theorem dX0_check_22 : decode cX0_check 22 = .ok (.iconst 0, 1) := dk_3 (dk_at dksX0_check_0 22 rfl rfl)
theorem dX0_check_23 : decode cX0_check 23 = .ok (.putfield 160, 3) := dk_181 0 160 (dk_at dksX0_check_1 0 rfl rfl)
theorem dX0_check_26 : decode cX0_check 26 = .ok (.iconst 0, 1) := dk_3 (dk_at dksX0_check_1 3 rfl rfl)
theorem dX0_check_27 : decode cX0_check 27 = .ok (.istore_n 2, 1) := dk_61 (dk_at dksX0_check_1 4 rfl rfl)
theorem dX0_check_28 : decode cX0_check 28 = .ok (.iload_n 2, 1) := dk_28 (dk_at dksX0_check_1 5 rfl rfl)
theorem dX0_check_29 : decode cX0_check 29 = .ok (.iload_n 1, 1) := dk_27 (dk_at dksX0_check_1 6 rfl rfl)
theorem dX0_check_30 : decode cX0_check 30 = .ok (.if_icmp .ge 52, 3) := dk_162 0 52 (dk_at dksX0_check_1 7 rfl rfl)
theorem dX0_check_33 : decode cX0_check 33 = .ok (.aload_n 0, 1) := dk_42 (dk_at dksX0_check_1 10 rfl rfl)
theorem dX0_check_34 : decode cX0_check 34 = .ok (.getfield 92, 3) := dk_180 0 92 (dk_at dksX0_check_1 11 rfl rfl)
theorem dX0_check_37 : decode cX0_check 37 = .ok (.iload_n 2, 1) := dk_28 (dk_at dksX0_check_1 14 rfl rfl)
theorem dX0_check_38 : decode cX0_check 38 = .ok (.baload, 1) := dk_51 (dk_at dksX0_check_1 15 rfl rfl)
theorem dX0_check_39 : decode cX0_check 39 = .ok (.sipush 255, 3) := dk_17 0 255 (dk_at dksX0_check_1 16 rfl rfl)
theorem dX0_check_42 : decode cX0_check 42 = .ok (.iand, 1) := dk_126 (dk_at dksX0_check_1 19 rfl rfl)
theorem dX0_check_43 : decode cX0_check 43 = .ok (.aload_n 0, 1) := dk_42 (dk_at dksX0_check_1 20 rfl rfl)
theorem dX0_check_44 : decode cX0_check 44 = .ok (.iload_n 2, 1) := dk_28 (dk_at dksX0_check_1 21 rfl rfl)
theorem dX0_check_45 : decode cX0_check 45 = .ok (.invokevirtual 202, 3) := dk_182 0 202 (dk_at dksX0_check_2 0 rfl rfl)
theorem dX0_check_48 : decode cX0_check 48 = .ok (.ifCond .eq 22, 3) := dk_153 0 22 (dk_at dksX0_check_2 3 rfl rfl)
theorem dX0_check_51 : decode cX0_check 51 = .ok (.aload_n 0, 1) := dk_42 (dk_at dksX0_check_2 6 rfl rfl)
theorem dX0_check_52 : decode cX0_check 52 = .ok (.getfield 82, 3) := dk_180 0 82 (dk_at dksX0_check_2 7 rfl rfl)
theorem dX0_check_55 : decode cX0_check 55 = .ok (.getfield 128, 3) := dk_180 0 128 (dk_at dksX0_check_2 10 rfl rfl)
theorem dX0_check_58 : decode cX0_check 58 = .ok (.iload_n 2, 1) := dk_28 (dk_at dksX0_check_2 13 rfl rfl)
theorem dX0_check_59 : decode cX0_check 59 = .ok (.aaload, 1) := dk_50 (dk_at dksX0_check_2 14 rfl rfl)
theorem dX0_check_60 : decode cX0_check 60 = .ok (.getfield 153, 3) := dk_180 0 153 (dk_at dksX0_check_2 15 rfl rfl)
theorem dX0_check_63 : decode cX0_check 63 = .ok (.sipush 255, 3) := dk_17 0 255 (dk_at dksX0_check_2 18 rfl rfl)
theorem dX0_check_66 : decode cX0_check 66 = .ok (.iand, 1) := dk_126 (dk_at dksX0_check_2 21 rfl rfl)
theorem dX0_check_67 : decode cX0_check 67 = .ok (.goto 4, 3) := dk_167 0 4 (dk_at dksX0_check_3 0 rfl rfl)
theorem dX0_check_70 : decode cX0_check 70 = .ok (.iconst 0, 1) := dk_3 (dk_at dksX0_check_3 3 rfl rfl)
theorem dX0_check_71 : decode cX0_check 71 = .ok (.if_icmp .eq 5, 3) := dk_159 0 5 (dk_at dksX0_check_3 4 rfl rfl)
theorem dX0_check_74 : decode cX0_check 74 = .ok (.iload_n 2, 1) := dk_28 (dk_at dksX0_check_3 7 rfl rfl)
theorem dX0_check_75 : decode cX0_check 75 = .ok (.ireturn, 1) := dk_172 (dk_at dksX0_check_3 8 rfl rfl)
theorem dX0_check_76 : decode cX0_check 76 = .ok (.iinc 2 1, 3) := dk_132 2 1 (dk_at dksX0_check_3 9 rfl rfl)
theorem dX0_check_79 : decode cX0_check 79 = .ok (.goto (-51), 3) := dk_167 255 205 (dk_at dksX0_check_3 12 rfl rfl)
theorem dX0_check_82 : decode cX0_check 82 = .ok (.iconst (-1), 1) := dk_2 (dk_at dksX0_check_3 15 rfl rfl)
theorem dX0_check_83 : decode cX0_check 83 = .ok (.ireturn, 1) := dk_172 (dk_at dksX0_check_3 16 rfl rfl)
abbrev cX0_count : ByteArray := prog_1_method_59_code
def yX0_count : MethodName := ⟨RX0, "count", "(I)I"⟩
def dkwX0_count_5 : List UInt8 := [154, 0, 8, 16, 254, 167, 0, 13, 42, 42, 180, 0, 40, 4, 100, 182, 0, 44, 172, 2, 172]
abbrev dktX0_count_5 : List UInt8 := dkwX0_count_5 ++ []
def dkwX0_count_4 : List UInt8 := [172, 42, 4, 182, 1, 52, 172, 42, 3, 182, 1, 52, 172, 42, 180, 0, 40, 172, 42, 180, 0, 40]
abbrev dktX0_count_4 : List UInt8 := dkwX0_count_4 ++ dktX0_count_5
def dkwX0_count_3 : List UInt8 := [180, 0, 71, 172, 42, 180, 0, 48, 180, 1, 51, 172, 42, 180, 0, 160, 172, 42, 180, 0, 82, 180, 0, 125]
abbrev dktX0_count_3 : List UInt8 := dkwX0_count_3 ++ dktX0_count_4
def dkwX0_count_2 : List UInt8 := [42, 180, 0, 82, 180, 1, 41, 172, 42, 182, 1, 48, 172, 42, 180, 0, 10, 172, 42, 182, 1, 17, 172, 42]
abbrev dktX0_count_2 : List UInt8 := dkwX0_count_2 ++ dktX0_count_3
def dkwX0_count_1 : List UInt8 := [170, 0, 0, 0, 0, 0, 152, 0, 0, 0, 0, 0, 0, 0, 11, 0, 0, 0, 63, 0, 0, 0, 71, 0, 0, 0, 76, 0, 0, 0, 81, 0, 0, 0, 86, 0, 0, 0, 91, 0, 0, 0, 99, 0, 0, 0, 104, 0, 0, 0, 112, 0, 0, 0, 118, 0, 0, 0, 124, 0, 0, 0, 129]
abbrev dktX0_count_1 : List UInt8 := dkwX0_count_1 ++ dktX0_count_2
def dkwX0_count_0 : List UInt8 := [27]
abbrev dktX0_count_0 : List UInt8 := dkwX0_count_0 ++ dktX0_count_1
theorem dksX0_count_0 : cX0_count.data.toList.drop 0 = dktX0_count_0 := by decide +kernel
theorem dksX0_count_1 : cX0_count.data.toList.drop 1 = dktX0_count_1 := dk_seg dksX0_count_0 1 rfl rfl
theorem dksX0_count_2 : cX0_count.data.toList.drop 64 = dktX0_count_2 := dk_seg dksX0_count_1 63 rfl rfl
theorem dksX0_count_3 : cX0_count.data.toList.drop 88 = dktX0_count_3 := dk_seg dksX0_count_2 24 rfl rfl
theorem dksX0_count_4 : cX0_count.data.toList.drop 112 = dktX0_count_4 := dk_seg dksX0_count_3 24 rfl rfl
theorem dksX0_count_5 : cX0_count.data.toList.drop 134 = dktX0_count_5 := dk_seg dksX0_count_4 22 rfl rfl
theorem dX0_count_0 : decode cX0_count 0 = .ok (.iload_n 1, 1) := dk_27 (dk_at dksX0_count_0 0 rfl rfl)
theorem dX0_count_1 : decode cX0_count 1 = .ok (.tableswitch 152 0 11 #[63, 71, 76, 81, 86, 91, 99, 104, 112, 118, 124, 129], 63) := by decide +kernel
theorem dX0_count_64 : decode cX0_count 64 = .ok (.aload_n 0, 1) := dk_42 (dk_at dksX0_count_2 0 rfl rfl)
theorem dX0_count_65 : decode cX0_count 65 = .ok (.getfield 82, 3) := dk_180 0 82 (dk_at dksX0_count_2 1 rfl rfl)
theorem dX0_count_68 : decode cX0_count 68 = .ok (.getfield 297, 3) := dk_180 1 41 (dk_at dksX0_count_2 4 rfl rfl)
theorem dX0_count_71 : decode cX0_count 71 = .ok (.ireturn, 1) := dk_172 (dk_at dksX0_count_2 7 rfl rfl)
theorem dX0_count_72 : decode cX0_count 72 = .ok (.aload_n 0, 1) := dk_42 (dk_at dksX0_count_2 8 rfl rfl)
theorem dX0_count_73 : decode cX0_count 73 = .ok (.invokevirtual 304, 3) := dk_182 1 48 (dk_at dksX0_count_2 9 rfl rfl)
theorem dX0_count_76 : decode cX0_count 76 = .ok (.ireturn, 1) := dk_172 (dk_at dksX0_count_2 12 rfl rfl)
theorem dX0_count_77 : decode cX0_count 77 = .ok (.aload_n 0, 1) := dk_42 (dk_at dksX0_count_2 13 rfl rfl)
theorem dX0_count_78 : decode cX0_count 78 = .ok (.getfield 10, 3) := dk_180 0 10 (dk_at dksX0_count_2 14 rfl rfl)
theorem dX0_count_81 : decode cX0_count 81 = .ok (.ireturn, 1) := dk_172 (dk_at dksX0_count_2 17 rfl rfl)
theorem dX0_count_82 : decode cX0_count 82 = .ok (.aload_n 0, 1) := dk_42 (dk_at dksX0_count_2 18 rfl rfl)
theorem dX0_count_83 : decode cX0_count 83 = .ok (.invokevirtual 273, 3) := dk_182 1 17 (dk_at dksX0_count_2 19 rfl rfl)
theorem dX0_count_86 : decode cX0_count 86 = .ok (.ireturn, 1) := dk_172 (dk_at dksX0_count_2 22 rfl rfl)
theorem dX0_count_87 : decode cX0_count 87 = .ok (.aload_n 0, 1) := dk_42 (dk_at dksX0_count_2 23 rfl rfl)
theorem dX0_count_88 : decode cX0_count 88 = .ok (.getfield 71, 3) := dk_180 0 71 (dk_at dksX0_count_3 0 rfl rfl)
theorem dX0_count_91 : decode cX0_count 91 = .ok (.ireturn, 1) := dk_172 (dk_at dksX0_count_3 3 rfl rfl)
theorem dX0_count_92 : decode cX0_count 92 = .ok (.aload_n 0, 1) := dk_42 (dk_at dksX0_count_3 4 rfl rfl)
theorem dX0_count_93 : decode cX0_count 93 = .ok (.getfield 48, 3) := dk_180 0 48 (dk_at dksX0_count_3 5 rfl rfl)
theorem dX0_count_96 : decode cX0_count 96 = .ok (.getfield 307, 3) := dk_180 1 51 (dk_at dksX0_count_3 8 rfl rfl)
theorem dX0_count_99 : decode cX0_count 99 = .ok (.ireturn, 1) := dk_172 (dk_at dksX0_count_3 11 rfl rfl)
theorem dX0_count_100 : decode cX0_count 100 = .ok (.aload_n 0, 1) := dk_42 (dk_at dksX0_count_3 12 rfl rfl)
theorem dX0_count_101 : decode cX0_count 101 = .ok (.getfield 160, 3) := dk_180 0 160 (dk_at dksX0_count_3 13 rfl rfl)
theorem dX0_count_104 : decode cX0_count 104 = .ok (.ireturn, 1) := dk_172 (dk_at dksX0_count_3 16 rfl rfl)
theorem dX0_count_105 : decode cX0_count 105 = .ok (.aload_n 0, 1) := dk_42 (dk_at dksX0_count_3 17 rfl rfl)
theorem dX0_count_106 : decode cX0_count 106 = .ok (.getfield 82, 3) := dk_180 0 82 (dk_at dksX0_count_3 18 rfl rfl)
theorem dX0_count_109 : decode cX0_count 109 = .ok (.getfield 125, 3) := dk_180 0 125 (dk_at dksX0_count_3 21 rfl rfl)
theorem dX0_count_112 : decode cX0_count 112 = .ok (.ireturn, 1) := dk_172 (dk_at dksX0_count_4 0 rfl rfl)
theorem dX0_count_113 : decode cX0_count 113 = .ok (.aload_n 0, 1) := dk_42 (dk_at dksX0_count_4 1 rfl rfl)
theorem dX0_count_114 : decode cX0_count 114 = .ok (.iconst 1, 1) := dk_4 (dk_at dksX0_count_4 2 rfl rfl)
theorem dX0_count_115 : decode cX0_count 115 = .ok (.invokevirtual 308, 3) := dk_182 1 52 (dk_at dksX0_count_4 3 rfl rfl)
theorem dX0_count_118 : decode cX0_count 118 = .ok (.ireturn, 1) := dk_172 (dk_at dksX0_count_4 6 rfl rfl)
theorem dX0_count_119 : decode cX0_count 119 = .ok (.aload_n 0, 1) := dk_42 (dk_at dksX0_count_4 7 rfl rfl)
theorem dX0_count_120 : decode cX0_count 120 = .ok (.iconst 0, 1) := dk_3 (dk_at dksX0_count_4 8 rfl rfl)
theorem dX0_count_121 : decode cX0_count 121 = .ok (.invokevirtual 308, 3) := dk_182 1 52 (dk_at dksX0_count_4 9 rfl rfl)
theorem dX0_count_124 : decode cX0_count 124 = .ok (.ireturn, 1) := dk_172 (dk_at dksX0_count_4 12 rfl rfl)
theorem dX0_count_125 : decode cX0_count 125 = .ok (.aload_n 0, 1) := dk_42 (dk_at dksX0_count_4 13 rfl rfl)
theorem dX0_count_126 : decode cX0_count 126 = .ok (.getfield 40, 3) := dk_180 0 40 (dk_at dksX0_count_4 14 rfl rfl)
theorem dX0_count_129 : decode cX0_count 129 = .ok (.ireturn, 1) := dk_172 (dk_at dksX0_count_4 17 rfl rfl)
theorem dX0_count_130 : decode cX0_count 130 = .ok (.aload_n 0, 1) := dk_42 (dk_at dksX0_count_4 18 rfl rfl)
theorem dX0_count_131 : decode cX0_count 131 = .ok (.getfield 40, 3) := dk_180 0 40 (dk_at dksX0_count_4 19 rfl rfl)
theorem dX0_count_134 : decode cX0_count 134 = .ok (.ifCond .ne 8, 3) := dk_154 0 8 (dk_at dksX0_count_5 0 rfl rfl)
theorem dX0_count_137 : decode cX0_count 137 = .ok (.bipush (-2), 2) := dk_16 254 (dk_at dksX0_count_5 3 rfl rfl)
theorem dX0_count_139 : decode cX0_count 139 = .ok (.goto 13, 3) := dk_167 0 13 (dk_at dksX0_count_5 5 rfl rfl)
theorem dX0_count_142 : decode cX0_count 142 = .ok (.aload_n 0, 1) := dk_42 (dk_at dksX0_count_5 8 rfl rfl)
theorem dX0_count_143 : decode cX0_count 143 = .ok (.aload_n 0, 1) := dk_42 (dk_at dksX0_count_5 9 rfl rfl)
theorem dX0_count_144 : decode cX0_count 144 = .ok (.getfield 40, 3) := dk_180 0 40 (dk_at dksX0_count_5 10 rfl rfl)
theorem dX0_count_147 : decode cX0_count 147 = .ok (.iconst 1, 1) := dk_4 (dk_at dksX0_count_5 13 rfl rfl)
theorem dX0_count_148 : decode cX0_count 148 = .ok (.isub, 1) := dk_100 (dk_at dksX0_count_5 14 rfl rfl)
theorem dX0_count_149 : decode cX0_count 149 = .ok (.invokevirtual 44, 3) := dk_182 0 44 (dk_at dksX0_count_5 15 rfl rfl)
theorem dX0_count_152 : decode cX0_count 152 = .ok (.ireturn, 1) := dk_172 (dk_at dksX0_count_5 18 rfl rfl)
theorem dX0_count_153 : decode cX0_count 153 = .ok (.iconst (-1), 1) := dk_2 (dk_at dksX0_count_5 19 rfl rfl)
theorem dX0_count_154 : decode cX0_count 154 = .ok (.ireturn, 1) := dk_172 (dk_at dksX0_count_5 20 rfl rfl)
abbrev cX0_told : ByteArray := prog_1_method_57_code
def yX0_told : MethodName := ⟨RX0, "told", "()I"⟩
def dkwX0_told_1 : List UInt8 := [167, 0, 4, 3, 128, 60, 132, 2, 1, 167, 255, 229, 27, 172]
abbrev dktX0_told_1 : List UInt8 := dkwX0_told_1 ++ []
def dkwX0_told_0 : List UInt8 := [3, 60, 3, 61, 28, 16, 12, 162, 0, 27, 27, 42, 28, 182, 0, 202, 153, 0, 9, 4, 28, 120]
abbrev dktX0_told_0 : List UInt8 := dkwX0_told_0 ++ dktX0_told_1
theorem dksX0_told_0 : cX0_told.data.toList.drop 0 = dktX0_told_0 := by decide +kernel
theorem dksX0_told_1 : cX0_told.data.toList.drop 22 = dktX0_told_1 := dk_seg dksX0_told_0 22 rfl rfl
theorem dX0_told_0 : decode cX0_told 0 = .ok (.iconst 0, 1) := dk_3 (dk_at dksX0_told_0 0 rfl rfl)
theorem dX0_told_1 : decode cX0_told 1 = .ok (.istore_n 1, 1) := dk_60 (dk_at dksX0_told_0 1 rfl rfl)
theorem dX0_told_2 : decode cX0_told 2 = .ok (.iconst 0, 1) := dk_3 (dk_at dksX0_told_0 2 rfl rfl)
theorem dX0_told_3 : decode cX0_told 3 = .ok (.istore_n 2, 1) := dk_61 (dk_at dksX0_told_0 3 rfl rfl)
theorem dX0_told_4 : decode cX0_told 4 = .ok (.iload_n 2, 1) := dk_28 (dk_at dksX0_told_0 4 rfl rfl)
theorem dX0_told_5 : decode cX0_told 5 = .ok (.bipush 12, 2) := dk_16 12 (dk_at dksX0_told_0 5 rfl rfl)
theorem dX0_told_7 : decode cX0_told 7 = .ok (.if_icmp .ge 27, 3) := dk_162 0 27 (dk_at dksX0_told_0 7 rfl rfl)
theorem dX0_told_10 : decode cX0_told 10 = .ok (.iload_n 1, 1) := dk_27 (dk_at dksX0_told_0 10 rfl rfl)
theorem dX0_told_11 : decode cX0_told 11 = .ok (.aload_n 0, 1) := dk_42 (dk_at dksX0_told_0 11 rfl rfl)
theorem dX0_told_12 : decode cX0_told 12 = .ok (.iload_n 2, 1) := dk_28 (dk_at dksX0_told_0 12 rfl rfl)
theorem dX0_told_13 : decode cX0_told 13 = .ok (.invokevirtual 202, 3) := dk_182 0 202 (dk_at dksX0_told_0 13 rfl rfl)
theorem dX0_told_16 : decode cX0_told 16 = .ok (.ifCond .eq 9, 3) := dk_153 0 9 (dk_at dksX0_told_0 16 rfl rfl)
theorem dX0_told_19 : decode cX0_told 19 = .ok (.iconst 1, 1) := dk_4 (dk_at dksX0_told_0 19 rfl rfl)
theorem dX0_told_20 : decode cX0_told 20 = .ok (.iload_n 2, 1) := dk_28 (dk_at dksX0_told_0 20 rfl rfl)
theorem dX0_told_21 : decode cX0_told 21 = .ok (.ishl, 1) := dk_120 (dk_at dksX0_told_0 21 rfl rfl)
theorem dX0_told_22 : decode cX0_told 22 = .ok (.goto 4, 3) := dk_167 0 4 (dk_at dksX0_told_1 0 rfl rfl)
theorem dX0_told_25 : decode cX0_told 25 = .ok (.iconst 0, 1) := dk_3 (dk_at dksX0_told_1 3 rfl rfl)
theorem dX0_told_26 : decode cX0_told 26 = .ok (.ior, 1) := dk_128 (dk_at dksX0_told_1 4 rfl rfl)
theorem dX0_told_27 : decode cX0_told 27 = .ok (.istore_n 1, 1) := dk_60 (dk_at dksX0_told_1 5 rfl rfl)
theorem dX0_told_28 : decode cX0_told 28 = .ok (.iinc 2 1, 3) := dk_132 2 1 (dk_at dksX0_told_1 6 rfl rfl)
theorem dX0_told_31 : decode cX0_told 31 = .ok (.goto (-27), 3) := dk_167 255 229 (dk_at dksX0_told_1 9 rfl rfl)
theorem dX0_told_34 : decode cX0_told 34 = .ok (.iload_n 1, 1) := dk_27 (dk_at dksX0_told_1 12 rfl rfl)
theorem dX0_told_35 : decode cX0_told 35 = .ok (.ireturn, 1) := dk_172 (dk_at dksX0_told_1 13 rfl rfl)
abbrev cX0_countedOfAll : ByteArray := prog_1_method_58_code
def yX0_countedOfAll : MethodName := ⟨RX0, "countedOfAll", "(Z)I"⟩
def dkwX0_countedOfAll_2 : List UInt8 := [25, 6, 180, 0, 150, 167, 0, 8, 25, 6, 180, 0, 153, 96, 61, 132, 5, 1, 167, 255, 208, 28, 172]
abbrev dktX0_countedOfAll_2 : List UInt8 := dkwX0_countedOfAll_2 ++ []
def dkwX0_countedOfAll_1 : List UInt8 := [45, 21, 5, 50, 58, 6, 28, 25, 6, 180, 0, 132, 154, 0, 7, 3, 167, 0, 20, 27, 153, 0, 11]
abbrev dktX0_countedOfAll_1 : List UInt8 := dkwX0_countedOfAll_1 ++ dktX0_countedOfAll_2
def dkwX0_countedOfAll_0 : List UInt8 := [3, 61, 42, 180, 0, 82, 180, 0, 128, 78, 45, 190, 54, 4, 3, 54, 5, 21, 5, 21, 4, 162, 0, 47]
abbrev dktX0_countedOfAll_0 : List UInt8 := dkwX0_countedOfAll_0 ++ dktX0_countedOfAll_1
theorem dksX0_countedOfAll_0 : cX0_countedOfAll.data.toList.drop 0 = dktX0_countedOfAll_0 := by decide +kernel
theorem dksX0_countedOfAll_1 : cX0_countedOfAll.data.toList.drop 24 = dktX0_countedOfAll_1 := dk_seg dksX0_countedOfAll_0 24 rfl rfl
theorem dksX0_countedOfAll_2 : cX0_countedOfAll.data.toList.drop 47 = dktX0_countedOfAll_2 := dk_seg dksX0_countedOfAll_1 23 rfl rfl
theorem dX0_countedOfAll_0 : decode cX0_countedOfAll 0 = .ok (.iconst 0, 1) := dk_3 (dk_at dksX0_countedOfAll_0 0 rfl rfl)
theorem dX0_countedOfAll_1 : decode cX0_countedOfAll 1 = .ok (.istore_n 2, 1) := dk_61 (dk_at dksX0_countedOfAll_0 1 rfl rfl)
theorem dX0_countedOfAll_2 : decode cX0_countedOfAll 2 = .ok (.aload_n 0, 1) := dk_42 (dk_at dksX0_countedOfAll_0 2 rfl rfl)
theorem dX0_countedOfAll_3 : decode cX0_countedOfAll 3 = .ok (.getfield 82, 3) := dk_180 0 82 (dk_at dksX0_countedOfAll_0 3 rfl rfl)
theorem dX0_countedOfAll_6 : decode cX0_countedOfAll 6 = .ok (.getfield 128, 3) := dk_180 0 128 (dk_at dksX0_countedOfAll_0 6 rfl rfl)
theorem dX0_countedOfAll_9 : decode cX0_countedOfAll 9 = .ok (.astore_n 3, 1) := dk_78 (dk_at dksX0_countedOfAll_0 9 rfl rfl)
theorem dX0_countedOfAll_10 : decode cX0_countedOfAll 10 = .ok (.aload_n 3, 1) := dk_45 (dk_at dksX0_countedOfAll_0 10 rfl rfl)
theorem dX0_countedOfAll_11 : decode cX0_countedOfAll 11 = .ok (.arraylength, 1) := dk_190 (dk_at dksX0_countedOfAll_0 11 rfl rfl)
theorem dX0_countedOfAll_12 : decode cX0_countedOfAll 12 = .ok (.istore 4, 2) := dk_54 4 (dk_at dksX0_countedOfAll_0 12 rfl rfl)
theorem dX0_countedOfAll_14 : decode cX0_countedOfAll 14 = .ok (.iconst 0, 1) := dk_3 (dk_at dksX0_countedOfAll_0 14 rfl rfl)
theorem dX0_countedOfAll_15 : decode cX0_countedOfAll 15 = .ok (.istore 5, 2) := dk_54 5 (dk_at dksX0_countedOfAll_0 15 rfl rfl)
theorem dX0_countedOfAll_17 : decode cX0_countedOfAll 17 = .ok (.iload 5, 2) := dk_21 5 (dk_at dksX0_countedOfAll_0 17 rfl rfl)
theorem dX0_countedOfAll_19 : decode cX0_countedOfAll 19 = .ok (.iload 4, 2) := dk_21 4 (dk_at dksX0_countedOfAll_0 19 rfl rfl)
theorem dX0_countedOfAll_21 : decode cX0_countedOfAll 21 = .ok (.if_icmp .ge 47, 3) := dk_162 0 47 (dk_at dksX0_countedOfAll_0 21 rfl rfl)
theorem dX0_countedOfAll_24 : decode cX0_countedOfAll 24 = .ok (.aload_n 3, 1) := dk_45 (dk_at dksX0_countedOfAll_1 0 rfl rfl)
theorem dX0_countedOfAll_25 : decode cX0_countedOfAll 25 = .ok (.iload 5, 2) := dk_21 5 (dk_at dksX0_countedOfAll_1 1 rfl rfl)
theorem dX0_countedOfAll_27 : decode cX0_countedOfAll 27 = .ok (.aaload, 1) := dk_50 (dk_at dksX0_countedOfAll_1 3 rfl rfl)
theorem dX0_countedOfAll_28 : decode cX0_countedOfAll 28 = .ok (.astore 6, 2) := dk_58 6 (dk_at dksX0_countedOfAll_1 4 rfl rfl)
theorem dX0_countedOfAll_30 : decode cX0_countedOfAll 30 = .ok (.iload_n 2, 1) := dk_28 (dk_at dksX0_countedOfAll_1 6 rfl rfl)
theorem dX0_countedOfAll_31 : decode cX0_countedOfAll 31 = .ok (.aload 6, 2) := dk_25 6 (dk_at dksX0_countedOfAll_1 7 rfl rfl)
theorem dX0_countedOfAll_33 : decode cX0_countedOfAll 33 = .ok (.getfield 132, 3) := dk_180 0 132 (dk_at dksX0_countedOfAll_1 9 rfl rfl)
theorem dX0_countedOfAll_36 : decode cX0_countedOfAll 36 = .ok (.ifCond .ne 7, 3) := dk_154 0 7 (dk_at dksX0_countedOfAll_1 12 rfl rfl)
theorem dX0_countedOfAll_39 : decode cX0_countedOfAll 39 = .ok (.iconst 0, 1) := dk_3 (dk_at dksX0_countedOfAll_1 15 rfl rfl)
theorem dX0_countedOfAll_40 : decode cX0_countedOfAll 40 = .ok (.goto 20, 3) := dk_167 0 20 (dk_at dksX0_countedOfAll_1 16 rfl rfl)
theorem dX0_countedOfAll_43 : decode cX0_countedOfAll 43 = .ok (.iload_n 1, 1) := dk_27 (dk_at dksX0_countedOfAll_1 19 rfl rfl)
theorem dX0_countedOfAll_44 : decode cX0_countedOfAll 44 = .ok (.ifCond .eq 11, 3) := dk_153 0 11 (dk_at dksX0_countedOfAll_1 20 rfl rfl)
theorem dX0_countedOfAll_47 : decode cX0_countedOfAll 47 = .ok (.aload 6, 2) := dk_25 6 (dk_at dksX0_countedOfAll_2 0 rfl rfl)
theorem dX0_countedOfAll_49 : decode cX0_countedOfAll 49 = .ok (.getfield 150, 3) := dk_180 0 150 (dk_at dksX0_countedOfAll_2 2 rfl rfl)
theorem dX0_countedOfAll_52 : decode cX0_countedOfAll 52 = .ok (.goto 8, 3) := dk_167 0 8 (dk_at dksX0_countedOfAll_2 5 rfl rfl)
theorem dX0_countedOfAll_55 : decode cX0_countedOfAll 55 = .ok (.aload 6, 2) := dk_25 6 (dk_at dksX0_countedOfAll_2 8 rfl rfl)
theorem dX0_countedOfAll_57 : decode cX0_countedOfAll 57 = .ok (.getfield 153, 3) := dk_180 0 153 (dk_at dksX0_countedOfAll_2 10 rfl rfl)
theorem dX0_countedOfAll_60 : decode cX0_countedOfAll 60 = .ok (.iadd, 1) := dk_96 (dk_at dksX0_countedOfAll_2 13 rfl rfl)
theorem dX0_countedOfAll_61 : decode cX0_countedOfAll 61 = .ok (.istore_n 2, 1) := dk_61 (dk_at dksX0_countedOfAll_2 14 rfl rfl)
theorem dX0_countedOfAll_62 : decode cX0_countedOfAll 62 = .ok (.iinc 5 1, 3) := dk_132 5 1 (dk_at dksX0_countedOfAll_2 15 rfl rfl)
theorem dX0_countedOfAll_65 : decode cX0_countedOfAll 65 = .ok (.goto (-48), 3) := dk_167 255 208 (dk_at dksX0_countedOfAll_2 18 rfl rfl)
theorem dX0_countedOfAll_68 : decode cX0_countedOfAll 68 = .ok (.iload_n 2, 1) := dk_28 (dk_at dksX0_countedOfAll_2 21 rfl rfl)
theorem dX0_countedOfAll_69 : decode cX0_countedOfAll 69 = .ok (.ireturn, 1) := dk_172 (dk_at dksX0_countedOfAll_2 22 rfl rfl)
theorem q102 : (Jvm.Cond.initialized "MissedTrains") ∈ lw_all := lw_g (lw_at lw_m1 1 rfl) rfl
theorem q129 : (Jvm.Cond.instantiable "MissedTrains" (22 : Nat)) ∈ lw_all := lw_g (lw_at lw_m1 28 rfl) rfl
theorem q131 : (Jvm.Cond.instanceMethod ({ cls := "MissedTrains", name := "<init>", desc := "()V" } : Jvm.MethodName)) ∈ lw_all := lw_g (lw_at lw_m1 30 rfl) rfl
theorem q132 : (Jvm.Cond.code ({ cls := "MissedTrains", name := "<init>", desc := "()V" } : Jvm.MethodName) prog_1_method_11_code (2 : Nat) (Option.none : Option Jvm.ClassFile.FieldType)) ∈ lw_all := lw_g (lw_at lw_m1 31 rfl) rfl
theorem q133 : (Jvm.Cond.methodLink "MissedTrains" (65 : Nat) ({ cls := "java/lang/Object", name := "<init>", desc := "()V" } : Jvm.MethodName)) ∈ lw_all := lw_g (lw_at lw_m1 32 rfl) rfl
theorem q136 : (Jvm.Cond.classLink "MissedTrains" (33 : Nat) "MissedTrains$Train") ∈ lw_all := lw_g (lw_at lw_m1 35 rfl) rfl
theorem q138 : (Jvm.Cond.classLink "MissedTrains" (74 : Nat) "MissedTrains$Moment") ∈ lw_all := lw_g (lw_at lw_m1 37 rfl) rfl
theorem q140 : (Jvm.Cond.methodLinkNest "MissedTrains" (76 : Nat) ({ cls := "MissedTrains$Moment", name := "<init>", desc := "()V" } : Jvm.MethodName) "MissedTrains") ∈ lw_tbl := lw_at lw_m1 39 rfl
theorem q181 : (Jvm.Cond.classLink "MissedTrains" (77 : Nat) "MissedTrains$Platform") ∈ lw_all := lw_g (lw_at lw_m1 80 rfl) rfl
theorem q183 : (Jvm.Cond.methodLink "MissedTrains" (79 : Nat) ({ cls := "MissedTrains$Platform", name := "<init>", desc := "(LMissedTrains;)V" } : Jvm.MethodName)) ∈ lw_all := lw_g (lw_at lw_m1 82 rfl) rfl
theorem q196 : (Jvm.Cond.fieldLinkNest "MissedTrains" (141 : Nat) "MissedTrains$Person" "from" "I" "MissedTrains") ∈ lw_tbl := lw_at lw_m1 95 rfl
theorem q199 : (Jvm.Cond.fieldLinkNest "MissedTrains" (144 : Nat) "MissedTrains$Person" "to" "I" "MissedTrains") ∈ lw_tbl := lw_at lw_m1 98 rfl
theorem q202 : (Jvm.Cond.fieldLinkNest "MissedTrains" (147 : Nat) "MissedTrains$Person" "minute" "I" "MissedTrains") ∈ lw_tbl := lw_at lw_m1 101 rfl
theorem q205 : (Jvm.Cond.fieldLinkNest "MissedTrains" (150 : Nat) "MissedTrains$Person" "arrived" "I" "MissedTrains") ∈ lw_tbl := lw_at lw_m1 104 rfl
theorem q208 : (Jvm.Cond.fieldLinkNest "MissedTrains" (153 : Nat) "MissedTrains$Person" "missed" "I" "MissedTrains") ∈ lw_tbl := lw_at lw_m1 107 rfl
theorem q211 : (Jvm.Cond.fieldLinkNest "MissedTrains" (132 : Nat) "MissedTrains$Person" "isTold" "Z" "MissedTrains") ∈ lw_tbl := lw_at lw_m1 110 rfl
theorem q226 : (Jvm.Cond.fieldLinkNest "MissedTrains" (128 : Nat) "MissedTrains$Platform" "people" "[LMissedTrains$Person;" "MissedTrains") ∈ lw_tbl := lw_at lw_m1 125 rfl
theorem q230 : (Jvm.Cond.fieldLinkNest "MissedTrains" (297 : Nat) "MissedTrains$Platform" "day" "I" "MissedTrains") ∈ lw_tbl := lw_at lw_m1 129 rfl
theorem q232 : (Jvm.Cond.fieldLinkNest "MissedTrains" (125 : Nat) "MissedTrains$Platform" "x" "I" "MissedTrains") ∈ lw_tbl := lw_at lw_m1 131 rfl
theorem q234 : (Jvm.Cond.fieldLinkNest "MissedTrains" (199 : Nat) "MissedTrains$Platform" "arrivals" "I" "MissedTrains") ∈ lw_tbl := lw_at lw_m1 133 rfl
theorem q236 : (Jvm.Cond.fieldLinkNest "MissedTrains" (208 : Nat) "MissedTrains$Platform" "misses" "I" "MissedTrains") ∈ lw_tbl := lw_at lw_m1 135 rfl
theorem q238 : (Jvm.Cond.fieldLinkNest "MissedTrains" (211 : Nat) "MissedTrains$Platform" "worst" "I" "MissedTrains") ∈ lw_tbl := lw_at lw_m1 137 rfl
theorem q259 : (Jvm.Cond.classLink "MissedTrains" (57 : Nat) "MissedTrains$Text") ∈ lw_all := lw_g (lw_at lw_m1 158 rfl) rfl
theorem q261 : (Jvm.Cond.methodLinkNest "MissedTrains" (96 : Nat) ({ cls := "MissedTrains$Text", name := "<init>", desc := "()V" } : Jvm.MethodName) "MissedTrains") ∈ lw_tbl := lw_at lw_m1 160 rfl
theorem q277 : (Jvm.Cond.fieldLinkNest "MissedTrains" (307 : Nat) "MissedTrains$Text" "many" "I" "MissedTrains") ∈ lw_tbl := lw_at lw_m1 176 rfl
theorem q288 : (Jvm.Cond.classLink "MissedTrains" (116 : Nat) "[[I") ∈ lw_all := lw_g (lw_at lw_m1 187 rfl) rfl
theorem q291 : (Jvm.Cond.methodLinkNest "MissedTrains" (124 : Nat) ({ cls := "MissedTrains$Train", name := "<init>", desc := "()V" } : Jvm.MethodName) "MissedTrains") ∈ lw_tbl := lw_at lw_m1 190 rfl
theorem q298 : (Jvm.Cond.fieldLinkNest "MissedTrains" (232 : Nat) "MissedTrains$Train" "stations" "[I" "MissedTrains") ∈ lw_tbl := lw_at lw_m1 197 rfl
theorem q301 : (Jvm.Cond.fieldLinkNest "MissedTrains" (32 : Nat) "MissedTrains$Train" "minutes" "[I" "MissedTrains") ∈ lw_tbl := lw_at lw_m1 200 rfl
theorem q305 : (Jvm.Cond.fieldLinkNest "MissedTrains" (43 : Nat) "MissedTrains$Train" "many" "I" "MissedTrains") ∈ lw_tbl := lw_at lw_m1 204 rfl
theorem q309 : (Jvm.Cond.fieldLinkNest "MissedTrains" (220 : Nat) "MissedTrains$Train" "putLate" "I" "MissedTrains") ∈ lw_tbl := lw_at lw_m1 208 rfl
theorem q313 : (Jvm.Cond.fieldLinkNest "MissedTrains" (217 : Nat) "MissedTrains$Train" "runs" "Z" "MissedTrains") ∈ lw_tbl := lw_at lw_m1 212 rfl
theorem q328 : (Jvm.Cond.fieldLink "MissedTrains" (24 : Nat) "MissedTrains" "trains" "[LMissedTrains$Train;") ∈ lw_all := lw_g (lw_at lw_m1 227 rfl) rfl
theorem q330 : (Jvm.Cond.fieldLink "MissedTrains" (28 : Nat) "MissedTrains" "eventTrain" "[I") ∈ lw_all := lw_g (lw_at lw_m1 229 rfl) rfl
theorem q332 : (Jvm.Cond.fieldLink "MissedTrains" (37 : Nat) "MissedTrains" "eventStop" "[I") ∈ lw_all := lw_g (lw_at lw_m1 231 rfl) rfl
theorem q335 : (Jvm.Cond.fieldLink "MissedTrains" (10 : Nat) "MissedTrains" "many" "I") ∈ lw_all := lw_g (lw_at lw_m1 234 rfl) rfl
theorem q337 : (Jvm.Cond.fieldLink "MissedTrains" (40 : Nat) "MissedTrains" "events" "I") ∈ lw_all := lw_g (lw_at lw_m1 236 rfl) rfl
theorem q339 : (Jvm.Cond.fieldLink "MissedTrains" (71 : Nat) "MissedTrains" "changing" "I") ∈ lw_all := lw_g (lw_at lw_m1 238 rfl) rfl
theorem q341 : (Jvm.Cond.fieldLink "MissedTrains" (52 : Nat) "MissedTrains" "moment" "LMissedTrains$Moment;") ∈ lw_all := lw_g (lw_at lw_m2 0 rfl) rfl
theorem q342 : (Jvm.Cond.fieldLink "MissedTrains" (82 : Nat) "MissedTrains" "platform" "LMissedTrains$Platform;") ∈ lw_all := lw_g (lw_at lw_m2 1 rfl) rfl
theorem q343 : (Jvm.Cond.fieldLink "MissedTrains" (86 : Nat) "MissedTrains" "then" "LMissedTrains$Platform;") ∈ lw_all := lw_g (lw_at lw_m2 2 rfl) rfl
theorem q344 : (Jvm.Cond.fieldLink "MissedTrains" (89 : Nat) "MissedTrains" "kept" "LMissedTrains$Platform;") ∈ lw_all := lw_g (lw_at lw_m2 3 rfl) rfl
theorem q347 : (Jvm.Cond.fieldLink "MissedTrains" (92 : Nat) "MissedTrains" "tape" "[B") ∈ lw_all := lw_g (lw_at lw_m2 6 rfl) rfl
theorem q349 : (Jvm.Cond.fieldLink "MissedTrains" (48 : Nat) "MissedTrains" "law" "LMissedTrains$Text;") ∈ lw_all := lw_g (lw_at lw_m2 8 rfl) rfl
theorem q350 : (Jvm.Cond.fieldLink "MissedTrains" (160 : Nat) "MissedTrains" "taped" "I") ∈ lw_all := lw_g (lw_at lw_m2 9 rfl) rfl
theorem q351 : (Jvm.Cond.fieldLink "MissedTrains" (294 : Nat) "MissedTrains" "isKept" "Z") ∈ lw_all := lw_g (lw_at lw_m2 10 rfl) rfl
theorem q352 : (Jvm.Cond.fieldLink "MissedTrains" (97 : Nat) "MissedTrains" "there" "[I") ∈ lw_all := lw_g (lw_at lw_m2 11 rfl) rfl
theorem q353 : (Jvm.Cond.fieldLink "MissedTrains" (100 : Nat) "MissedTrains" "now" "[I") ∈ lw_all := lw_g (lw_at lw_m2 12 rfl) rfl
theorem q354 : (Jvm.Cond.fieldLink "MissedTrains" (103 : Nat) "MissedTrains" "leaving" "[I") ∈ lw_all := lw_g (lw_at lw_m2 13 rfl) rfl
theorem q355 : (Jvm.Cond.fieldLink "MissedTrains" (106 : Nat) "MissedTrains" "arriving" "[I") ∈ lw_all := lw_g (lw_at lw_m2 14 rfl) rfl
theorem q356 : (Jvm.Cond.fieldLink "MissedTrains" (109 : Nat) "MissedTrains" "behind" "[I") ∈ lw_all := lw_g (lw_at lw_m2 15 rfl) rfl
theorem q357 : (Jvm.Cond.fieldLink "MissedTrains" (112 : Nat) "MissedTrains" "isSeen" "[Z") ∈ lw_all := lw_g (lw_at lw_m2 16 rfl) rfl
theorem q358 : (Jvm.Cond.fieldLink "MissedTrains" (118 : Nat) "MissedTrains" "further" "[[I") ∈ lw_all := lw_g (lw_at lw_m2 17 rfl) rfl
theorem q359 : (Jvm.Cond.fieldLink "MissedTrains" (121 : Nat) "MissedTrains" "least" "[I") ∈ lw_all := lw_g (lw_at lw_m2 18 rfl) rfl
theorem q360 : (Jvm.Cond.laysFinal "MissedTrains" "MissedTrains" "trains" "[LMissedTrains$Train;") ∈ lw_all := lw_g (lw_at lw_m2 19 rfl) rfl
theorem q361 : (Jvm.Cond.soleField "MissedTrains" "trains") ∈ lw_all := lw_g (lw_at lw_m2 20 rfl) rfl
theorem q362 : (Jvm.Cond.laysFinal "MissedTrains" "MissedTrains" "eventTrain" "[I") ∈ lw_all := lw_g (lw_at lw_m2 21 rfl) rfl
theorem q363 : (Jvm.Cond.soleField "MissedTrains" "eventTrain") ∈ lw_all := lw_g (lw_at lw_m2 22 rfl) rfl
theorem q364 : (Jvm.Cond.laysFinal "MissedTrains" "MissedTrains" "eventStop" "[I") ∈ lw_all := lw_g (lw_at lw_m2 23 rfl) rfl
theorem q365 : (Jvm.Cond.soleField "MissedTrains" "eventStop") ∈ lw_all := lw_g (lw_at lw_m2 24 rfl) rfl
theorem q366 : (Jvm.Cond.lays "MissedTrains" "MissedTrains" "many" "I") ∈ lw_all := lw_g (lw_at lw_m2 25 rfl) rfl
theorem q367 : (Jvm.Cond.soleField "MissedTrains" "many") ∈ lw_all := lw_g (lw_at lw_m2 26 rfl) rfl
theorem q368 : (Jvm.Cond.lays "MissedTrains" "MissedTrains" "events" "I") ∈ lw_all := lw_g (lw_at lw_m2 27 rfl) rfl
theorem q369 : (Jvm.Cond.soleField "MissedTrains" "events") ∈ lw_all := lw_g (lw_at lw_m2 28 rfl) rfl
theorem q370 : (Jvm.Cond.lays "MissedTrains" "MissedTrains" "changing" "I") ∈ lw_all := lw_g (lw_at lw_m2 29 rfl) rfl
theorem q371 : (Jvm.Cond.soleField "MissedTrains" "changing") ∈ lw_all := lw_g (lw_at lw_m2 30 rfl) rfl
theorem q372 : (Jvm.Cond.laysFinal "MissedTrains" "MissedTrains" "moment" "LMissedTrains$Moment;") ∈ lw_all := lw_g (lw_at lw_m2 31 rfl) rfl
theorem q373 : (Jvm.Cond.soleField "MissedTrains" "moment") ∈ lw_all := lw_g (lw_at lw_m2 32 rfl) rfl
theorem q374 : (Jvm.Cond.laysFinal "MissedTrains" "MissedTrains" "platform" "LMissedTrains$Platform;") ∈ lw_all := lw_g (lw_at lw_m2 33 rfl) rfl
theorem q375 : (Jvm.Cond.soleField "MissedTrains" "platform") ∈ lw_all := lw_g (lw_at lw_m2 34 rfl) rfl
theorem q376 : (Jvm.Cond.laysFinal "MissedTrains" "MissedTrains" "then" "LMissedTrains$Platform;") ∈ lw_all := lw_g (lw_at lw_m2 35 rfl) rfl
theorem q377 : (Jvm.Cond.soleField "MissedTrains" "then") ∈ lw_all := lw_g (lw_at lw_m2 36 rfl) rfl
theorem q378 : (Jvm.Cond.laysFinal "MissedTrains" "MissedTrains" "kept" "LMissedTrains$Platform;") ∈ lw_all := lw_g (lw_at lw_m2 37 rfl) rfl
theorem q379 : (Jvm.Cond.soleField "MissedTrains" "kept") ∈ lw_all := lw_g (lw_at lw_m2 38 rfl) rfl
theorem q380 : (Jvm.Cond.laysFinal "MissedTrains" "MissedTrains" "tape" "[B") ∈ lw_all := lw_g (lw_at lw_m2 39 rfl) rfl
theorem q381 : (Jvm.Cond.soleField "MissedTrains" "tape") ∈ lw_all := lw_g (lw_at lw_m2 40 rfl) rfl
theorem q382 : (Jvm.Cond.lays "MissedTrains" "MissedTrains" "law" "LMissedTrains$Text;") ∈ lw_all := lw_g (lw_at lw_m2 41 rfl) rfl
theorem q383 : (Jvm.Cond.soleField "MissedTrains" "law") ∈ lw_all := lw_g (lw_at lw_m2 42 rfl) rfl
theorem q384 : (Jvm.Cond.lays "MissedTrains" "MissedTrains" "taped" "I") ∈ lw_all := lw_g (lw_at lw_m2 43 rfl) rfl
theorem q385 : (Jvm.Cond.soleField "MissedTrains" "taped") ∈ lw_all := lw_g (lw_at lw_m2 44 rfl) rfl
theorem q386 : (Jvm.Cond.lays "MissedTrains" "MissedTrains" "isKept" "Z") ∈ lw_all := lw_g (lw_at lw_m2 45 rfl) rfl
theorem q387 : (Jvm.Cond.soleField "MissedTrains" "isKept") ∈ lw_all := lw_g (lw_at lw_m2 46 rfl) rfl
theorem q388 : (Jvm.Cond.laysFinal "MissedTrains" "MissedTrains" "there" "[I") ∈ lw_all := lw_g (lw_at lw_m2 47 rfl) rfl
theorem q389 : (Jvm.Cond.soleField "MissedTrains" "there") ∈ lw_all := lw_g (lw_at lw_m2 48 rfl) rfl
theorem q390 : (Jvm.Cond.laysFinal "MissedTrains" "MissedTrains" "now" "[I") ∈ lw_all := lw_g (lw_at lw_m2 49 rfl) rfl
theorem q391 : (Jvm.Cond.soleField "MissedTrains" "now") ∈ lw_all := lw_g (lw_at lw_m2 50 rfl) rfl
theorem q392 : (Jvm.Cond.laysFinal "MissedTrains" "MissedTrains" "leaving" "[I") ∈ lw_all := lw_g (lw_at lw_m2 51 rfl) rfl
theorem q393 : (Jvm.Cond.soleField "MissedTrains" "leaving") ∈ lw_all := lw_g (lw_at lw_m2 52 rfl) rfl
theorem q394 : (Jvm.Cond.laysFinal "MissedTrains" "MissedTrains" "arriving" "[I") ∈ lw_all := lw_g (lw_at lw_m2 53 rfl) rfl
theorem q395 : (Jvm.Cond.soleField "MissedTrains" "arriving") ∈ lw_all := lw_g (lw_at lw_m2 54 rfl) rfl
theorem q396 : (Jvm.Cond.laysFinal "MissedTrains" "MissedTrains" "behind" "[I") ∈ lw_all := lw_g (lw_at lw_m2 55 rfl) rfl
theorem q397 : (Jvm.Cond.soleField "MissedTrains" "behind") ∈ lw_all := lw_g (lw_at lw_m2 56 rfl) rfl
theorem q398 : (Jvm.Cond.laysFinal "MissedTrains" "MissedTrains" "isSeen" "[Z") ∈ lw_all := lw_g (lw_at lw_m2 57 rfl) rfl
theorem q399 : (Jvm.Cond.soleField "MissedTrains" "isSeen") ∈ lw_all := lw_g (lw_at lw_m2 58 rfl) rfl
theorem q400 : (Jvm.Cond.laysFinal "MissedTrains" "MissedTrains" "further" "[[I") ∈ lw_all := lw_g (lw_at lw_m2 59 rfl) rfl
theorem q401 : (Jvm.Cond.soleField "MissedTrains" "further") ∈ lw_all := lw_g (lw_at lw_m2 60 rfl) rfl
theorem q402 : (Jvm.Cond.laysFinal "MissedTrains" "MissedTrains" "least" "[I") ∈ lw_all := lw_g (lw_at lw_m2 61 rfl) rfl
theorem q403 : (Jvm.Cond.soleField "MissedTrains" "least") ∈ lw_all := lw_g (lw_at lw_m2 62 rfl) rfl
theorem q404 : (Jvm.Cond.superclass "MissedTrains" "java/lang/Object") ∈ lw_all := lw_g (lw_at lw_m2 63 rfl) rfl
theorem q406 : (Jvm.Cond.instanceMethod ({ cls := "MissedTrains", name := "person", desc := "(IIII)Z" } : Jvm.MethodName)) ∈ lw_all := lw_g (lw_at lw_m2 65 rfl) rfl
theorem q407 : (Jvm.Cond.selects "MissedTrains" ({ cls := "MissedTrains", name := "person", desc := "(IIII)Z" } : Jvm.MethodName) ({ cls := "MissedTrains", name := "person", desc := "(IIII)Z" } : Jvm.MethodName)) ∈ lw_all := lw_g (lw_at lw_m2 66 rfl) rfl
theorem q408 : (Jvm.Cond.code ({ cls := "MissedTrains", name := "person", desc := "(IIII)Z" } : Jvm.MethodName) prog_1_method_13_code (6 : Nat) (Option.some Jvm.ClassFile.FieldType.boolean)) ∈ lw_all := lw_g (lw_at lw_m2 67 rfl) rfl
theorem q409 : (Jvm.Cond.methodLink "MissedTrains" (16 : Nat) ({ cls := "MissedTrains", name := "in", desc := "(II)Z" } : Jvm.MethodName)) ∈ lw_all := lw_g (lw_at lw_m2 68 rfl) rfl
theorem q410 : (Jvm.Cond.static ({ cls := "MissedTrains", name := "in", desc := "(II)Z" } : Jvm.MethodName)) ∈ lw_all := lw_g (lw_at lw_m2 69 rfl) rfl
theorem q411 : (Jvm.Cond.code ({ cls := "MissedTrains", name := "in", desc := "(II)Z" } : Jvm.MethodName) prog_1_method_1_code (2 : Nat) (Option.some Jvm.ClassFile.FieldType.boolean)) ∈ lw_all := lw_g (lw_at lw_m2 70 rfl) rfl
theorem q412 : (Jvm.Cond.methodLink "MissedTrains" (138 : Nat) ({ cls := "MissedTrains", name := "areTwo", desc := "(II)Z" } : Jvm.MethodName)) ∈ lw_all := lw_g (lw_at lw_m2 71 rfl) rfl
theorem q413 : (Jvm.Cond.static ({ cls := "MissedTrains", name := "areTwo", desc := "(II)Z" } : Jvm.MethodName)) ∈ lw_all := lw_g (lw_at lw_m2 72 rfl) rfl
theorem q414 : (Jvm.Cond.code ({ cls := "MissedTrains", name := "areTwo", desc := "(II)Z" } : Jvm.MethodName) prog_1_method_7_code (2 : Nat) (Option.some Jvm.ClassFile.FieldType.boolean)) ∈ lw_all := lw_g (lw_at lw_m2 73 rfl) rfl
theorem q415 : (Jvm.Cond.methodLink "MissedTrains" (20 : Nat) ({ cls := "MissedTrains", name := "isStation", desc := "(I)Z" } : Jvm.MethodName)) ∈ lw_all := lw_g (lw_at lw_m2 74 rfl) rfl
theorem q416 : (Jvm.Cond.static ({ cls := "MissedTrains", name := "isStation", desc := "(I)Z" } : Jvm.MethodName)) ∈ lw_all := lw_g (lw_at lw_m2 75 rfl) rfl
theorem q417 : (Jvm.Cond.code ({ cls := "MissedTrains", name := "isStation", desc := "(I)Z" } : Jvm.MethodName) prog_1_method_6_code (1 : Nat) (Option.some Jvm.ClassFile.FieldType.boolean)) ∈ lw_all := lw_g (lw_at lw_m2 76 rfl) rfl
theorem q419 : (Jvm.Cond.instanceMethod ({ cls := "MissedTrains", name := "changing", desc := "(I)Z" } : Jvm.MethodName)) ∈ lw_all := lw_g (lw_at lw_m2 78 rfl) rfl
theorem q420 : (Jvm.Cond.selects "MissedTrains" ({ cls := "MissedTrains", name := "changing", desc := "(I)Z" } : Jvm.MethodName) ({ cls := "MissedTrains", name := "changing", desc := "(I)Z" } : Jvm.MethodName)) ∈ lw_all := lw_g (lw_at lw_m2 79 rfl) rfl
theorem q421 : (Jvm.Cond.code ({ cls := "MissedTrains", name := "changing", desc := "(I)Z" } : Jvm.MethodName) prog_1_method_14_code (2 : Nat) (Option.some Jvm.ClassFile.FieldType.boolean)) ∈ lw_all := lw_g (lw_at lw_m2 80 rfl) rfl
theorem q422 : (Jvm.Cond.methodLink "MissedTrains" (156 : Nat) ({ cls := "MissedTrains", name := "within", desc := "(III)Z" } : Jvm.MethodName)) ∈ lw_all := lw_g (lw_at lw_m2 81 rfl) rfl
theorem q423 : (Jvm.Cond.static ({ cls := "MissedTrains", name := "within", desc := "(III)Z" } : Jvm.MethodName)) ∈ lw_all := lw_g (lw_at lw_m2 82 rfl) rfl
theorem q424 : (Jvm.Cond.code ({ cls := "MissedTrains", name := "within", desc := "(III)Z" } : Jvm.MethodName) prog_1_method_2_code (3 : Nat) (Option.some Jvm.ClassFile.FieldType.boolean)) ∈ lw_all := lw_g (lw_at lw_m2 83 rfl) rfl
theorem q426 : (Jvm.Cond.instanceMethod ({ cls := "MissedTrains", name := "feed", desc := "(IIIII)I" } : Jvm.MethodName)) ∈ lw_all := lw_g (lw_at lw_m2 85 rfl) rfl
theorem q427 : (Jvm.Cond.selects "MissedTrains" ({ cls := "MissedTrains", name := "feed", desc := "(IIIII)I" } : Jvm.MethodName) ({ cls := "MissedTrains", name := "feed", desc := "(IIIII)I" } : Jvm.MethodName)) ∈ lw_all := lw_g (lw_at lw_m2 86 rfl) rfl
theorem q428 : (Jvm.Cond.code ({ cls := "MissedTrains", name := "feed", desc := "(IIIII)I" } : Jvm.MethodName) prog_1_method_16_code (6 : Nat) (Option.some Jvm.ClassFile.FieldType.int)) ∈ lw_all := lw_g (lw_at lw_m2 87 rfl) rfl
theorem q429 : (Jvm.Cond.methodLink "MissedTrains" (163 : Nat) ({ cls := "MissedTrains", name := "push", desc := "(I)V" } : Jvm.MethodName)) ∈ lw_all := lw_g (lw_at lw_m2 88 rfl) rfl
theorem q430 : (Jvm.Cond.privateMethod ({ cls := "MissedTrains", name := "push", desc := "(I)V" } : Jvm.MethodName)) ∈ lw_tbl := lw_at lw_m2 89 rfl
theorem q431 : (Jvm.Cond.instanceMethod ({ cls := "MissedTrains", name := "push", desc := "(I)V" } : Jvm.MethodName)) ∈ lw_all := lw_g (lw_at lw_m2 90 rfl) rfl
theorem q432 : (Jvm.Cond.code ({ cls := "MissedTrains", name := "push", desc := "(I)V" } : Jvm.MethodName) prog_1_method_15_code (3 : Nat) (Option.none : Option Jvm.ClassFile.FieldType)) ∈ lw_all := lw_g (lw_at lw_m2 91 rfl) rfl
theorem q434 : (Jvm.Cond.instanceMethod ({ cls := "MissedTrains", name := "law", desc := "(I)I" } : Jvm.MethodName)) ∈ lw_all := lw_g (lw_at lw_m2 93 rfl) rfl
theorem q435 : (Jvm.Cond.selects "MissedTrains" ({ cls := "MissedTrains", name := "law", desc := "(I)I" } : Jvm.MethodName) ({ cls := "MissedTrains", name := "law", desc := "(I)I" } : Jvm.MethodName)) ∈ lw_all := lw_g (lw_at lw_m2 94 rfl) rfl
theorem q436 : (Jvm.Cond.code ({ cls := "MissedTrains", name := "law", desc := "(I)I" } : Jvm.MethodName) prog_1_method_17_code (4 : Nat) (Option.some Jvm.ClassFile.FieldType.int)) ∈ lw_all := lw_g (lw_at lw_m2 95 rfl) rfl
theorem q437 : (Jvm.Cond.classLink "MissedTrains" (167 : Nat) "MissedTrains$Reader") ∈ lw_all := lw_g (lw_at lw_m2 96 rfl) rfl
theorem q439 : (Jvm.Cond.methodLink "MissedTrains" (169 : Nat) ({ cls := "MissedTrains$Reader", name := "<init>", desc := "(LMissedTrains;I)V" } : Jvm.MethodName)) ∈ lw_all := lw_g (lw_at lw_m2 98 rfl) rfl
theorem q447 : (Jvm.Cond.fieldLinkNest "MissedTrains" (176 : Nat) "MissedTrains$Reader" "text" "LMissedTrains$Text;" "MissedTrains") ∈ lw_tbl := lw_at lw_m2 106 rfl
theorem q468 : (Jvm.Cond.methodLink "MissedTrains" (172 : Nat) ({ cls := "MissedTrains$Reader", name := "read", desc := "()I" } : Jvm.MethodName)) ∈ lw_all := lw_g (lw_at lw_m2 127 rfl) rfl
theorem q703 : (Jvm.Cond.instanceMethod ({ cls := "MissedTrains", name := "timetable", desc := "(I)I" } : Jvm.MethodName)) ∈ lw_all := lw_g (lw_at lw_m3 122 rfl) rfl
theorem q704 : (Jvm.Cond.selects "MissedTrains" ({ cls := "MissedTrains", name := "timetable", desc := "(I)I" } : Jvm.MethodName) ({ cls := "MissedTrains", name := "timetable", desc := "(I)I" } : Jvm.MethodName)) ∈ lw_all := lw_g (lw_at lw_m3 123 rfl) rfl
theorem q705 : (Jvm.Cond.code ({ cls := "MissedTrains", name := "timetable", desc := "(I)I" } : Jvm.MethodName) prog_1_method_18_code (4 : Nat) (Option.some Jvm.ClassFile.FieldType.int)) ∈ lw_all := lw_g (lw_at lw_m3 124 rfl) rfl
theorem q706 : (Jvm.Cond.classLink "MissedTrains" (179 : Nat) "MissedTrains$Clerk") ∈ lw_all := lw_g (lw_at lw_m3 125 rfl) rfl
theorem q708 : (Jvm.Cond.methodLink "MissedTrains" (181 : Nat) ({ cls := "MissedTrains$Clerk", name := "<init>", desc := "(LMissedTrains;I)V" } : Jvm.MethodName)) ∈ lw_all := lw_g (lw_at lw_m3 127 rfl) rfl
theorem q747 : (Jvm.Cond.methodLink "MissedTrains" (182 : Nat) ({ cls := "MissedTrains$Clerk", name := "read", desc := "()I" } : Jvm.MethodName)) ∈ lw_all := lw_g (lw_at lw_m3 166 rfl) rfl
theorem q849 : (Jvm.Cond.privateMethod ({ cls := "MissedTrains", name := "isTrain", desc := "(I)Z" } : Jvm.MethodName)) ∈ lw_tbl := lw_at lw_m4 28 rfl
theorem q850 : (Jvm.Cond.instanceMethod ({ cls := "MissedTrains", name := "isTrain", desc := "(I)Z" } : Jvm.MethodName)) ∈ lw_all := lw_g (lw_at lw_m4 29 rfl) rfl
theorem q851 : (Jvm.Cond.code ({ cls := "MissedTrains", name := "isTrain", desc := "(I)Z" } : Jvm.MethodName) prog_1_method_5_code (2 : Nat) (Option.some Jvm.ClassFile.FieldType.boolean)) ∈ lw_all := lw_g (lw_at lw_m4 30 rfl) rfl
theorem q858 : (Jvm.Cond.methodLink "MissedTrains" (183 : Nat) ({ cls := "MissedTrains$Clerk", name := "stands", desc := "(I)I" } : Jvm.MethodName)) ∈ lw_all := lw_g (lw_at lw_m4 37 rfl) rfl
theorem q866 : (Jvm.Cond.methodLink "MissedTrains" (186 : Nat) ({ cls := "MissedTrains", name := "laysEvents", desc := "()V" } : Jvm.MethodName)) ∈ lw_all := lw_g (lw_at lw_m4 45 rfl) rfl
theorem q867 : (Jvm.Cond.privateMethod ({ cls := "MissedTrains", name := "laysEvents", desc := "()V" } : Jvm.MethodName)) ∈ lw_tbl := lw_at lw_m4 46 rfl
theorem q868 : (Jvm.Cond.instanceMethod ({ cls := "MissedTrains", name := "laysEvents", desc := "()V" } : Jvm.MethodName)) ∈ lw_all := lw_g (lw_at lw_m4 47 rfl) rfl
theorem q869 : (Jvm.Cond.code ({ cls := "MissedTrains", name := "laysEvents", desc := "()V" } : Jvm.MethodName) prog_1_method_9_code (4 : Nat) (Option.none : Option Jvm.ClassFile.FieldType)) ∈ lw_all := lw_g (lw_at lw_m4 48 rfl) rfl
theorem q870 : (Jvm.Cond.methodLink "MissedTrains" (44 : Nat) ({ cls := "MissedTrains", name := "minuteOf", desc := "(I)I" } : Jvm.MethodName)) ∈ lw_all := lw_g (lw_at lw_m4 49 rfl) rfl
theorem q871 : (Jvm.Cond.privateMethod ({ cls := "MissedTrains", name := "minuteOf", desc := "(I)I" } : Jvm.MethodName)) ∈ lw_tbl := lw_at lw_m4 50 rfl
theorem q872 : (Jvm.Cond.instanceMethod ({ cls := "MissedTrains", name := "minuteOf", desc := "(I)I" } : Jvm.MethodName)) ∈ lw_all := lw_g (lw_at lw_m4 51 rfl) rfl
theorem q873 : (Jvm.Cond.code ({ cls := "MissedTrains", name := "minuteOf", desc := "(I)I" } : Jvm.MethodName) prog_1_method_8_code (2 : Nat) (Option.some Jvm.ClassFile.FieldType.int)) ∈ lw_all := lw_g (lw_at lw_m4 52 rfl) rfl
theorem q875 : (Jvm.Cond.instanceMethod ({ cls := "MissedTrains", name := "orders", desc := "(I)I" } : Jvm.MethodName)) ∈ lw_all := lw_g (lw_at lw_m4 54 rfl) rfl
theorem q876 : (Jvm.Cond.selects "MissedTrains" ({ cls := "MissedTrains", name := "orders", desc := "(I)I" } : Jvm.MethodName) ({ cls := "MissedTrains", name := "orders", desc := "(I)I" } : Jvm.MethodName)) ∈ lw_all := lw_g (lw_at lw_m4 55 rfl) rfl
theorem q877 : (Jvm.Cond.code ({ cls := "MissedTrains", name := "orders", desc := "(I)I" } : Jvm.MethodName) prog_1_method_19_code (4 : Nat) (Option.some Jvm.ClassFile.FieldType.int)) ∈ lw_all := lw_g (lw_at lw_m4 56 rfl) rfl
theorem q878 : (Jvm.Cond.classLink "MissedTrains" (189 : Nat) "MissedTrains$Porter") ∈ lw_all := lw_g (lw_at lw_m4 57 rfl) rfl
theorem q880 : (Jvm.Cond.methodLink "MissedTrains" (191 : Nat) ({ cls := "MissedTrains$Porter", name := "<init>", desc := "(LMissedTrains;I)V" } : Jvm.MethodName)) ∈ lw_all := lw_g (lw_at lw_m4 59 rfl) rfl
theorem q899 : (Jvm.Cond.methodLink "MissedTrains" (192 : Nat) ({ cls := "MissedTrains$Porter", name := "read", desc := "()I" } : Jvm.MethodName)) ∈ lw_all := lw_g (lw_at lw_m4 78 rfl) rfl
theorem q902 : (Jvm.Cond.methodLink "MissedTrains" (193 : Nat) ({ cls := "MissedTrains$Porter", name := "stands", desc := "()V" } : Jvm.MethodName)) ∈ lw_all := lw_g (lw_at lw_m4 81 rfl) rfl
theorem q907 : (Jvm.Cond.instanceMethod ({ cls := "MissedTrains", name := "days", desc := "(I)I" } : Jvm.MethodName)) ∈ lw_all := lw_g (lw_at lw_m4 86 rfl) rfl
theorem q908 : (Jvm.Cond.selects "MissedTrains" ({ cls := "MissedTrains", name := "days", desc := "(I)I" } : Jvm.MethodName) ({ cls := "MissedTrains", name := "days", desc := "(I)I" } : Jvm.MethodName)) ∈ lw_all := lw_g (lw_at lw_m4 87 rfl) rfl
theorem q909 : (Jvm.Cond.code ({ cls := "MissedTrains", name := "days", desc := "(I)I" } : Jvm.MethodName) prog_1_method_20_code (2 : Nat) (Option.some Jvm.ClassFile.FieldType.int)) ∈ lw_all := lw_g (lw_at lw_m4 88 rfl) rfl
theorem q910 : (Jvm.Cond.methodLink "MissedTrains" (195 : Nat) ({ cls := "MissedTrains$Platform", name := "goes", desc := "(I)LMissedTrains$Platform;" } : Jvm.MethodName)) ∈ lw_all := lw_g (lw_at lw_m4 89 rfl) rfl
theorem q936 : (Jvm.Cond.privateMethod ({ cls := "MissedTrains", name := "tells", desc := "(II)I" } : Jvm.MethodName)) ∈ lw_tbl := lw_at lw_m4 115 rfl
theorem q937 : (Jvm.Cond.instanceMethod ({ cls := "MissedTrains", name := "tells", desc := "(II)I" } : Jvm.MethodName)) ∈ lw_all := lw_g (lw_at lw_m4 116 rfl) rfl
theorem q938 : (Jvm.Cond.code ({ cls := "MissedTrains", name := "tells", desc := "(II)I" } : Jvm.MethodName) prog_1_method_10_code (3 : Nat) (Option.some Jvm.ClassFile.FieldType.int)) ∈ lw_all := lw_g (lw_at lw_m4 117 rfl) rfl
theorem q939 : (Jvm.Cond.methodLink "MissedTrains" (56 : Nat) ({ cls := "MissedTrains$Text", name := "tells", desc := "(ILMissedTrains$Asked;)I" } : Jvm.MethodName)) ∈ lw_all := lw_g (lw_at lw_m4 118 rfl) rfl
theorem q987 : (Jvm.Cond.methodLink "MissedTrains" (62 : Nat) ({ cls := "MissedTrains", name := "held", desc := "(II)I" } : Jvm.MethodName)) ∈ lw_all := lw_g (lw_at lw_m4 166 rfl) rfl
theorem q988 : (Jvm.Cond.static ({ cls := "MissedTrains", name := "held", desc := "(II)I" } : Jvm.MethodName)) ∈ lw_all := lw_g (lw_at lw_m4 167 rfl) rfl
theorem q989 : (Jvm.Cond.code ({ cls := "MissedTrains", name := "held", desc := "(II)I" } : Jvm.MethodName) prog_1_method_4_code (2 : Nat) (Option.some Jvm.ClassFile.FieldType.int)) ∈ lw_all := lw_g (lw_at lw_m4 168 rfl) rfl
theorem q990 : (Jvm.Cond.methodLink "MissedTrains" (1 : Nat) ({ cls := "java/lang/Math", name := "min", desc := "(II)I" } : Jvm.MethodName)) ∈ lw_all := lw_g (lw_at lw_m4 169 rfl) rfl
theorem q991 : (Jvm.Cond.methodLink "MissedTrains" (7 : Nat) ({ cls := "java/lang/Math", name := "max", desc := "(II)I" } : Jvm.MethodName)) ∈ lw_all := lw_g (lw_at lw_m4 170 rfl) rfl
theorem q1013 : (Jvm.Cond.instanceMethod ({ cls := "MissedTrains", name := "tried", desc := "(II)I" } : Jvm.MethodName)) ∈ lw_all := lw_g (lw_at lw_m4 192 rfl) rfl
theorem q1014 : (Jvm.Cond.selects "MissedTrains" ({ cls := "MissedTrains", name := "tried", desc := "(II)I" } : Jvm.MethodName) ({ cls := "MissedTrains", name := "tried", desc := "(II)I" } : Jvm.MethodName)) ∈ lw_all := lw_g (lw_at lw_m4 193 rfl) rfl
theorem q1015 : (Jvm.Cond.code ({ cls := "MissedTrains", name := "tried", desc := "(II)I" } : Jvm.MethodName) prog_1_method_21_code (3 : Nat) (Option.some Jvm.ClassFile.FieldType.int)) ∈ lw_all := lw_g (lw_at lw_m4 194 rfl) rfl
theorem q1016 : (Jvm.Cond.methodLink "MissedTrains" (202 : Nat) ({ cls := "MissedTrains", name := "isTold", desc := "(I)Z" } : Jvm.MethodName)) ∈ lw_all := lw_g (lw_at lw_m4 195 rfl) rfl
theorem q1017 : (Jvm.Cond.privateMethod ({ cls := "MissedTrains", name := "isTold", desc := "(I)Z" } : Jvm.MethodName)) ∈ lw_tbl := lw_at lw_m4 196 rfl
theorem q1018 : (Jvm.Cond.instanceMethod ({ cls := "MissedTrains", name := "isTold", desc := "(I)Z" } : Jvm.MethodName)) ∈ lw_all := lw_g (lw_at lw_m4 197 rfl) rfl
theorem q1019 : (Jvm.Cond.code ({ cls := "MissedTrains", name := "isTold", desc := "(I)Z" } : Jvm.MethodName) prog_1_method_12_code (2 : Nat) (Option.some Jvm.ClassFile.FieldType.boolean)) ∈ lw_all := lw_g (lw_at lw_m4 198 rfl) rfl
theorem q1020 : (Jvm.Cond.methodLink "MissedTrains" (204 : Nat) ({ cls := "MissedTrains$Platform", name := "takes", desc := "(LMissedTrains$Platform;)LMissedTrains$Platform;" } : Jvm.MethodName)) ∈ lw_all := lw_g (lw_at lw_m4 199 rfl) rfl
theorem q1029 : (Jvm.Cond.instanceMethod ({ cls := "MissedTrains", name := "personIs", desc := "(II)I" } : Jvm.MethodName)) ∈ lw_all := lw_g (lw_at lw_m4 208 rfl) rfl
theorem q1030 : (Jvm.Cond.selects "MissedTrains" ({ cls := "MissedTrains", name := "personIs", desc := "(II)I" } : Jvm.MethodName) ({ cls := "MissedTrains", name := "personIs", desc := "(II)I" } : Jvm.MethodName)) ∈ lw_all := lw_g (lw_at lw_m4 209 rfl) rfl
theorem q1031 : (Jvm.Cond.code ({ cls := "MissedTrains", name := "personIs", desc := "(II)I" } : Jvm.MethodName) prog_1_method_22_code (4 : Nat) (Option.some Jvm.ClassFile.FieldType.int)) ∈ lw_all := lw_g (lw_at lw_m4 210 rfl) rfl
theorem q1033 : (Jvm.Cond.instanceMethod ({ cls := "MissedTrains", name := "trainIs", desc := "(II)I" } : Jvm.MethodName)) ∈ lw_all := lw_g (lw_at lw_m4 212 rfl) rfl
theorem q1034 : (Jvm.Cond.selects "MissedTrains" ({ cls := "MissedTrains", name := "trainIs", desc := "(II)I" } : Jvm.MethodName) ({ cls := "MissedTrains", name := "trainIs", desc := "(II)I" } : Jvm.MethodName)) ∈ lw_all := lw_g (lw_at lw_m4 213 rfl) rfl
theorem q1035 : (Jvm.Cond.code ({ cls := "MissedTrains", name := "trainIs", desc := "(II)I" } : Jvm.MethodName) prog_1_method_23_code (4 : Nat) (Option.some Jvm.ClassFile.FieldType.int)) ∈ lw_all := lw_g (lw_at lw_m4 214 rfl) rfl
theorem q1036 : (Jvm.Cond.methodLink "MissedTrains" (214 : Nat) ({ cls := "MissedTrains", name := "isTrain", desc := "(I)Z" } : Jvm.MethodName)) ∈ lw_all := lw_g (lw_at lw_m4 215 rfl) rfl
theorem q1037 : (Jvm.Cond.methodLink "MissedTrains" (223 : Nat) ({ cls := "MissedTrains$Train", name := "first", desc := "()I" } : Jvm.MethodName)) ∈ lw_all := lw_g (lw_at lw_m4 216 rfl) rfl
theorem q1041 : (Jvm.Cond.methodLink "MissedTrains" (226 : Nat) ({ cls := "MissedTrains$Train", name := "last", desc := "()I" } : Jvm.MethodName)) ∈ lw_all := lw_g (lw_at lw_m4 220 rfl) rfl
theorem q1045 : (Jvm.Cond.methodLink "MissedTrains" (229 : Nat) ({ cls := "MissedTrains$Train", name := "ends", desc := "()I" } : Jvm.MethodName)) ∈ lw_all := lw_g (lw_at lw_m4 224 rfl) rfl
theorem q1047 : (Jvm.Cond.instanceMethod ({ cls := "MissedTrains", name := "stopIs", desc := "(III)I" } : Jvm.MethodName)) ∈ lw_all := lw_g (lw_at lw_m4 226 rfl) rfl
theorem q1048 : (Jvm.Cond.selects "MissedTrains" ({ cls := "MissedTrains", name := "stopIs", desc := "(III)I" } : Jvm.MethodName) ({ cls := "MissedTrains", name := "stopIs", desc := "(III)I" } : Jvm.MethodName)) ∈ lw_all := lw_g (lw_at lw_m4 227 rfl) rfl
theorem q1049 : (Jvm.Cond.code ({ cls := "MissedTrains", name := "stopIs", desc := "(III)I" } : Jvm.MethodName) prog_1_method_24_code (4 : Nat) (Option.some Jvm.ClassFile.FieldType.int)) ∈ lw_all := lw_g (lw_at lw_m4 228 rfl) rfl
theorem q1051 : (Jvm.Cond.instanceMethod ({ cls := "MissedTrains", name := "earliest", desc := "(IIII)I" } : Jvm.MethodName)) ∈ lw_all := lw_g (lw_at lw_m4 230 rfl) rfl
theorem q1052 : (Jvm.Cond.selects "MissedTrains" ({ cls := "MissedTrains", name := "earliest", desc := "(IIII)I" } : Jvm.MethodName) ({ cls := "MissedTrains", name := "earliest", desc := "(IIII)I" } : Jvm.MethodName)) ∈ lw_all := lw_g (lw_at lw_m4 231 rfl) rfl
theorem q1053 : (Jvm.Cond.code ({ cls := "MissedTrains", name := "earliest", desc := "(IIII)I" } : Jvm.MethodName) prog_1_method_27_code (6 : Nat) (Option.some Jvm.ClassFile.FieldType.int)) ∈ lw_all := lw_g (lw_at lw_m4 232 rfl) rfl
theorem q1054 : (Jvm.Cond.methodLink "MissedTrains" (240 : Nat) ({ cls := "MissedTrains", name := "laysThere", desc := "(III)I" } : Jvm.MethodName)) ∈ lw_all := lw_g (lw_at lw_m4 233 rfl) rfl
theorem q1055 : (Jvm.Cond.privateMethod ({ cls := "MissedTrains", name := "laysThere", desc := "(III)I" } : Jvm.MethodName)) ∈ lw_tbl := lw_at lw_m4 234 rfl
theorem q1056 : (Jvm.Cond.instanceMethod ({ cls := "MissedTrains", name := "laysThere", desc := "(III)I" } : Jvm.MethodName)) ∈ lw_all := lw_g (lw_at lw_m4 235 rfl) rfl
theorem q1057 : (Jvm.Cond.code ({ cls := "MissedTrains", name := "laysThere", desc := "(III)I" } : Jvm.MethodName) prog_1_method_26_code (7 : Nat) (Option.some Jvm.ClassFile.FieldType.int)) ∈ lw_all := lw_g (lw_at lw_m4 236 rfl) rfl
theorem q1058 : (Jvm.Cond.constant "MissedTrains" (235 : Nat) (268435456 : Int32)) ∈ lw_all := lw_g (lw_at lw_m4 237 rfl) rfl
theorem q1059 : (Jvm.Cond.methodLink "MissedTrains" (236 : Nat) ({ cls := "MissedTrains", name := "ridesIn", desc := "(LMissedTrains$Train;I)V" } : Jvm.MethodName)) ∈ lw_all := lw_g (lw_at lw_m4 238 rfl) rfl
theorem q1060 : (Jvm.Cond.privateMethod ({ cls := "MissedTrains", name := "ridesIn", desc := "(LMissedTrains$Train;I)V" } : Jvm.MethodName)) ∈ lw_tbl := lw_at lw_m4 239 rfl
theorem q1061 : (Jvm.Cond.instanceMethod ({ cls := "MissedTrains", name := "ridesIn", desc := "(LMissedTrains$Train;I)V" } : Jvm.MethodName)) ∈ lw_all := lw_g (lw_at lw_m5 0 rfl) rfl
theorem q1062 : (Jvm.Cond.code ({ cls := "MissedTrains", name := "ridesIn", desc := "(LMissedTrains$Train;I)V" } : Jvm.MethodName) prog_1_method_25_code (6 : Nat) (Option.none : Option Jvm.ClassFile.FieldType)) ∈ lw_all := lw_g (lw_at lw_m5 1 rfl) rfl
theorem q1064 : (Jvm.Cond.instanceMethod ({ cls := "MissedTrains", name := "latest", desc := "(III)I" } : Jvm.MethodName)) ∈ lw_all := lw_g (lw_at lw_m5 3 rfl) rfl
theorem q1065 : (Jvm.Cond.selects "MissedTrains" ({ cls := "MissedTrains", name := "latest", desc := "(III)I" } : Jvm.MethodName) ({ cls := "MissedTrains", name := "latest", desc := "(III)I" } : Jvm.MethodName)) ∈ lw_all := lw_g (lw_at lw_m5 4 rfl) rfl
theorem q1066 : (Jvm.Cond.code ({ cls := "MissedTrains", name := "latest", desc := "(III)I" } : Jvm.MethodName) prog_1_method_29_code (7 : Nat) (Option.some Jvm.ClassFile.FieldType.int)) ∈ lw_all := lw_g (lw_at lw_m5 5 rfl) rfl
theorem q1067 : (Jvm.Cond.methodLink "MissedTrains" (244 : Nat) ({ cls := "MissedTrains$Train", name := "leaves", desc := "(I)Z" } : Jvm.MethodName)) ∈ lw_all := lw_g (lw_at lw_m5 6 rfl) rfl
theorem q1072 : (Jvm.Cond.methodLink "MissedTrains" (247 : Nat) ({ cls := "MissedTrains$Train", name := "minuteAt", desc := "(I)I" } : Jvm.MethodName)) ∈ lw_all := lw_g (lw_at lw_m5 11 rfl) rfl
theorem q1076 : (Jvm.Cond.methodLink "MissedTrains" (250 : Nat) ({ cls := "MissedTrains", name := "arrivalFrom", desc := "(III)I" } : Jvm.MethodName)) ∈ lw_all := lw_g (lw_at lw_m5 15 rfl) rfl
theorem q1077 : (Jvm.Cond.privateMethod ({ cls := "MissedTrains", name := "arrivalFrom", desc := "(III)I" } : Jvm.MethodName)) ∈ lw_tbl := lw_at lw_m5 16 rfl
theorem q1078 : (Jvm.Cond.instanceMethod ({ cls := "MissedTrains", name := "arrivalFrom", desc := "(III)I" } : Jvm.MethodName)) ∈ lw_all := lw_g (lw_at lw_m5 17 rfl) rfl
theorem q1079 : (Jvm.Cond.code ({ cls := "MissedTrains", name := "arrivalFrom", desc := "(III)I" } : Jvm.MethodName) prog_1_method_28_code (5 : Nat) (Option.some Jvm.ClassFile.FieldType.int)) ∈ lw_all := lw_g (lw_at lw_m5 18 rfl) rfl
theorem q1081 : (Jvm.Cond.instanceMethod ({ cls := "MissedTrains", name := "fastest", desc := "(II)I" } : Jvm.MethodName)) ∈ lw_all := lw_g (lw_at lw_m5 20 rfl) rfl
theorem q1082 : (Jvm.Cond.selects "MissedTrains" ({ cls := "MissedTrains", name := "fastest", desc := "(II)I" } : Jvm.MethodName) ({ cls := "MissedTrains", name := "fastest", desc := "(II)I" } : Jvm.MethodName)) ∈ lw_all := lw_g (lw_at lw_m5 21 rfl) rfl
theorem q1083 : (Jvm.Cond.code ({ cls := "MissedTrains", name := "fastest", desc := "(II)I" } : Jvm.MethodName) prog_1_method_30_code (5 : Nat) (Option.some Jvm.ClassFile.FieldType.int)) ∈ lw_all := lw_g (lw_at lw_m5 22 rfl) rfl
theorem q1085 : (Jvm.Cond.instanceMethod ({ cls := "MissedTrains", name := "best", desc := "(III)I" } : Jvm.MethodName)) ∈ lw_all := lw_g (lw_at lw_m5 24 rfl) rfl
theorem q1086 : (Jvm.Cond.selects "MissedTrains" ({ cls := "MissedTrains", name := "best", desc := "(III)I" } : Jvm.MethodName) ({ cls := "MissedTrains", name := "best", desc := "(III)I" } : Jvm.MethodName)) ∈ lw_all := lw_g (lw_at lw_m5 25 rfl) rfl
theorem q1087 : (Jvm.Cond.code ({ cls := "MissedTrains", name := "best", desc := "(III)I" } : Jvm.MethodName) prog_1_method_32_code (6 : Nat) (Option.some Jvm.ClassFile.FieldType.int)) ∈ lw_all := lw_g (lw_at lw_m5 26 rfl) rfl
theorem q1088 : (Jvm.Cond.methodLink "MissedTrains" (253 : Nat) ({ cls := "MissedTrains", name := "laysBest", desc := "(II)I" } : Jvm.MethodName)) ∈ lw_all := lw_g (lw_at lw_m5 27 rfl) rfl
theorem q1089 : (Jvm.Cond.privateMethod ({ cls := "MissedTrains", name := "laysBest", desc := "(II)I" } : Jvm.MethodName)) ∈ lw_tbl := lw_at lw_m5 28 rfl
theorem q1090 : (Jvm.Cond.instanceMethod ({ cls := "MissedTrains", name := "laysBest", desc := "(II)I" } : Jvm.MethodName)) ∈ lw_all := lw_g (lw_at lw_m5 29 rfl) rfl
theorem q1091 : (Jvm.Cond.code ({ cls := "MissedTrains", name := "laysBest", desc := "(II)I" } : Jvm.MethodName) prog_1_method_31_code (8 : Nat) (Option.some Jvm.ClassFile.FieldType.int)) ∈ lw_all := lw_g (lw_at lw_m5 30 rfl) rfl
theorem q1093 : (Jvm.Cond.instanceMethod ({ cls := "MissedTrains", name := "comeTo", desc := "(II)I" } : Jvm.MethodName)) ∈ lw_all := lw_g (lw_at lw_m5 32 rfl) rfl
theorem q1094 : (Jvm.Cond.selects "MissedTrains" ({ cls := "MissedTrains", name := "comeTo", desc := "(II)I" } : Jvm.MethodName) ({ cls := "MissedTrains", name := "comeTo", desc := "(II)I" } : Jvm.MethodName)) ∈ lw_all := lw_g (lw_at lw_m5 33 rfl) rfl
theorem q1095 : (Jvm.Cond.code ({ cls := "MissedTrains", name := "comeTo", desc := "(II)I" } : Jvm.MethodName) prog_1_method_33_code (6 : Nat) (Option.some Jvm.ClassFile.FieldType.int)) ∈ lw_all := lw_g (lw_at lw_m5 34 rfl) rfl
theorem q1097 : (Jvm.Cond.instanceMethod ({ cls := "MissedTrains", name := "direct", desc := "(III)I" } : Jvm.MethodName)) ∈ lw_all := lw_g (lw_at lw_m5 36 rfl) rfl
theorem q1098 : (Jvm.Cond.selects "MissedTrains" ({ cls := "MissedTrains", name := "direct", desc := "(III)I" } : Jvm.MethodName) ({ cls := "MissedTrains", name := "direct", desc := "(III)I" } : Jvm.MethodName)) ∈ lw_all := lw_g (lw_at lw_m5 37 rfl) rfl
theorem q1099 : (Jvm.Cond.code ({ cls := "MissedTrains", name := "direct", desc := "(III)I" } : Jvm.MethodName) prog_1_method_34_code (9 : Nat) (Option.some Jvm.ClassFile.FieldType.int)) ∈ lw_all := lw_g (lw_at lw_m5 38 rfl) rfl
theorem q1100 : (Jvm.Cond.methodLink "MissedTrains" (256 : Nat) ({ cls := "MissedTrains$Train", name := "goes", desc := "(II)Z" } : Jvm.MethodName)) ∈ lw_all := lw_g (lw_at lw_m5 39 rfl) rfl
theorem q1105 : (Jvm.Cond.instanceMethod ({ cls := "MissedTrains", name := "justMissed", desc := "(II)I" } : Jvm.MethodName)) ∈ lw_all := lw_g (lw_at lw_m5 44 rfl) rfl
theorem q1106 : (Jvm.Cond.selects "MissedTrains" ({ cls := "MissedTrains", name := "justMissed", desc := "(II)I" } : Jvm.MethodName) ({ cls := "MissedTrains", name := "justMissed", desc := "(II)I" } : Jvm.MethodName)) ∈ lw_all := lw_g (lw_at lw_m5 45 rfl) rfl
theorem q1107 : (Jvm.Cond.code ({ cls := "MissedTrains", name := "justMissed", desc := "(II)I" } : Jvm.MethodName) prog_1_method_35_code (7 : Nat) (Option.some Jvm.ClassFile.FieldType.int)) ∈ lw_all := lw_g (lw_at lw_m5 46 rfl) rfl
theorem q1108 : (Jvm.Cond.methodLink "MissedTrains" (258 : Nat) ({ cls := "MissedTrains$Train", name := "comes", desc := "(I)Z" } : Jvm.MethodName)) ∈ lw_all := lw_g (lw_at lw_m5 47 rfl) rfl
theorem q1113 : (Jvm.Cond.instanceMethod ({ cls := "MissedTrains", name := "platforms", desc := "(II)I" } : Jvm.MethodName)) ∈ lw_all := lw_g (lw_at lw_m5 52 rfl) rfl
theorem q1114 : (Jvm.Cond.selects "MissedTrains" ({ cls := "MissedTrains", name := "platforms", desc := "(II)I" } : Jvm.MethodName) ({ cls := "MissedTrains", name := "platforms", desc := "(II)I" } : Jvm.MethodName)) ∈ lw_all := lw_g (lw_at lw_m5 53 rfl) rfl
theorem q1115 : (Jvm.Cond.code ({ cls := "MissedTrains", name := "platforms", desc := "(II)I" } : Jvm.MethodName) prog_1_method_37_code (7 : Nat) (Option.some Jvm.ClassFile.FieldType.int)) ∈ lw_all := lw_g (lw_at lw_m5 54 rfl) rfl
theorem q1116 : (Jvm.Cond.methodLink "MissedTrains" (264 : Nat) ({ cls := "MissedTrains", name := "isAt", desc := "(II)Z" } : Jvm.MethodName)) ∈ lw_all := lw_g (lw_at lw_m5 55 rfl) rfl
theorem q1117 : (Jvm.Cond.privateMethod ({ cls := "MissedTrains", name := "isAt", desc := "(II)Z" } : Jvm.MethodName)) ∈ lw_tbl := lw_at lw_m5 56 rfl
theorem q1118 : (Jvm.Cond.instanceMethod ({ cls := "MissedTrains", name := "isAt", desc := "(II)Z" } : Jvm.MethodName)) ∈ lw_all := lw_g (lw_at lw_m5 57 rfl) rfl
theorem q1119 : (Jvm.Cond.code ({ cls := "MissedTrains", name := "isAt", desc := "(II)Z" } : Jvm.MethodName) prog_1_method_36_code (3 : Nat) (Option.some Jvm.ClassFile.FieldType.boolean)) ∈ lw_all := lw_g (lw_at lw_m5 58 rfl) rfl
theorem q1120 : (Jvm.Cond.methodLink "MissedTrains" (261 : Nat) ({ cls := "MissedTrains$Train", name := "stopAt", desc := "(I)I" } : Jvm.MethodName)) ∈ lw_all := lw_g (lw_at lw_m5 59 rfl) rfl
theorem q1122 : (Jvm.Cond.instanceMethod ({ cls := "MissedTrains", name := "sets", desc := "()I" } : Jvm.MethodName)) ∈ lw_all := lw_g (lw_at lw_m5 61 rfl) rfl
theorem q1123 : (Jvm.Cond.selects "MissedTrains" ({ cls := "MissedTrains", name := "sets", desc := "()I" } : Jvm.MethodName) ({ cls := "MissedTrains", name := "sets", desc := "()I" } : Jvm.MethodName)) ∈ lw_all := lw_g (lw_at lw_m5 62 rfl) rfl
theorem q1124 : (Jvm.Cond.code ({ cls := "MissedTrains", name := "sets", desc := "()I" } : Jvm.MethodName) prog_1_method_41_code (4 : Nat) (Option.some Jvm.ClassFile.FieldType.int)) ∈ lw_all := lw_g (lw_at lw_m5 63 rfl) rfl
theorem q1125 : (Jvm.Cond.methodLink "MissedTrains" (273 : Nat) ({ cls := "MissedTrains", name := "running", desc := "()I" } : Jvm.MethodName)) ∈ lw_all := lw_g (lw_at lw_m5 64 rfl) rfl
theorem q1126 : (Jvm.Cond.privateMethod ({ cls := "MissedTrains", name := "running", desc := "()I" } : Jvm.MethodName)) ∈ lw_tbl := lw_at lw_m5 65 rfl
theorem q1127 : (Jvm.Cond.instanceMethod ({ cls := "MissedTrains", name := "running", desc := "()I" } : Jvm.MethodName)) ∈ lw_all := lw_g (lw_at lw_m5 66 rfl) rfl
theorem q1128 : (Jvm.Cond.code ({ cls := "MissedTrains", name := "running", desc := "()I" } : Jvm.MethodName) prog_1_method_40_code (3 : Nat) (Option.some Jvm.ClassFile.FieldType.int)) ∈ lw_all := lw_g (lw_at lw_m5 67 rfl) rfl
theorem q1129 : (Jvm.Cond.methodLink "MissedTrains" (270 : Nat) ({ cls := "MissedTrains", name := "finds", desc := "(I)Z" } : Jvm.MethodName)) ∈ lw_all := lw_g (lw_at lw_m5 68 rfl) rfl
theorem q1130 : (Jvm.Cond.privateMethod ({ cls := "MissedTrains", name := "finds", desc := "(I)Z" } : Jvm.MethodName)) ∈ lw_tbl := lw_at lw_m5 69 rfl
theorem q1131 : (Jvm.Cond.instanceMethod ({ cls := "MissedTrains", name := "finds", desc := "(I)Z" } : Jvm.MethodName)) ∈ lw_all := lw_g (lw_at lw_m5 70 rfl) rfl
theorem q1132 : (Jvm.Cond.code ({ cls := "MissedTrains", name := "finds", desc := "(I)Z" } : Jvm.MethodName) prog_1_method_39_code (3 : Nat) (Option.some Jvm.ClassFile.FieldType.boolean)) ∈ lw_all := lw_g (lw_at lw_m5 71 rfl) rfl
theorem q1133 : (Jvm.Cond.methodLink "MissedTrains" (267 : Nat) ({ cls := "MissedTrains", name := "canFollow", desc := "(II)Z" } : Jvm.MethodName)) ∈ lw_all := lw_g (lw_at lw_m5 72 rfl) rfl
theorem q1134 : (Jvm.Cond.privateMethod ({ cls := "MissedTrains", name := "canFollow", desc := "(II)Z" } : Jvm.MethodName)) ∈ lw_tbl := lw_at lw_m5 73 rfl
theorem q1135 : (Jvm.Cond.instanceMethod ({ cls := "MissedTrains", name := "canFollow", desc := "(II)Z" } : Jvm.MethodName)) ∈ lw_all := lw_g (lw_at lw_m5 74 rfl) rfl
theorem q1136 : (Jvm.Cond.code ({ cls := "MissedTrains", name := "canFollow", desc := "(II)Z" } : Jvm.MethodName) prog_1_method_38_code (3 : Nat) (Option.some Jvm.ClassFile.FieldType.boolean)) ∈ lw_all := lw_g (lw_at lw_m5 75 rfl) rfl
theorem q1138 : (Jvm.Cond.instanceMethod ({ cls := "MissedTrains", name := "meets", desc := "()I" } : Jvm.MethodName)) ∈ lw_all := lw_g (lw_at lw_m5 77 rfl) rfl
theorem q1139 : (Jvm.Cond.selects "MissedTrains" ({ cls := "MissedTrains", name := "meets", desc := "()I" } : Jvm.MethodName) ({ cls := "MissedTrains", name := "meets", desc := "()I" } : Jvm.MethodName)) ∈ lw_all := lw_g (lw_at lw_m5 78 rfl) rfl
theorem q1140 : (Jvm.Cond.code ({ cls := "MissedTrains", name := "meets", desc := "()I" } : Jvm.MethodName) prog_1_method_43_code (4 : Nat) (Option.some Jvm.ClassFile.FieldType.int)) ∈ lw_all := lw_g (lw_at lw_m5 79 rfl) rfl
theorem q1141 : (Jvm.Cond.methodLink "MissedTrains" (276 : Nat) ({ cls := "MissedTrains", name := "doMeet", desc := "(LMissedTrains$Train;LMissedTrains$Train;)Z" } : Jvm.MethodName)) ∈ lw_all := lw_g (lw_at lw_m5 80 rfl) rfl
theorem q1142 : (Jvm.Cond.privateMethod ({ cls := "MissedTrains", name := "doMeet", desc := "(LMissedTrains$Train;LMissedTrains$Train;)Z" } : Jvm.MethodName)) ∈ lw_tbl := lw_at lw_m5 81 rfl
theorem q1143 : (Jvm.Cond.instanceMethod ({ cls := "MissedTrains", name := "doMeet", desc := "(LMissedTrains$Train;LMissedTrains$Train;)Z" } : Jvm.MethodName)) ∈ lw_all := lw_g (lw_at lw_m5 82 rfl) rfl
theorem q1144 : (Jvm.Cond.code ({ cls := "MissedTrains", name := "doMeet", desc := "(LMissedTrains$Train;LMissedTrains$Train;)Z" } : Jvm.MethodName) prog_1_method_42_code (5 : Nat) (Option.some Jvm.ClassFile.FieldType.boolean)) ∈ lw_all := lw_g (lw_at lw_m5 83 rfl) rfl
theorem q1146 : (Jvm.Cond.instanceMethod ({ cls := "MissedTrains", name := "inspector", desc := "(I)I" } : Jvm.MethodName)) ∈ lw_all := lw_g (lw_at lw_m5 85 rfl) rfl
theorem q1147 : (Jvm.Cond.selects "MissedTrains" ({ cls := "MissedTrains", name := "inspector", desc := "(I)I" } : Jvm.MethodName) ({ cls := "MissedTrains", name := "inspector", desc := "(I)I" } : Jvm.MethodName)) ∈ lw_all := lw_g (lw_at lw_m5 86 rfl) rfl
theorem q1148 : (Jvm.Cond.code ({ cls := "MissedTrains", name := "inspector", desc := "(I)I" } : Jvm.MethodName) prog_1_method_45_code (3 : Nat) (Option.some Jvm.ClassFile.FieldType.int)) ∈ lw_all := lw_g (lw_at lw_m5 87 rfl) rfl
theorem q1149 : (Jvm.Cond.methodLink "MissedTrains" (280 : Nat) ({ cls := "MissedTrains", name := "ridesFrom", desc := "(III)I" } : Jvm.MethodName)) ∈ lw_all := lw_g (lw_at lw_m5 88 rfl) rfl
theorem q1150 : (Jvm.Cond.privateMethod ({ cls := "MissedTrains", name := "ridesFrom", desc := "(III)I" } : Jvm.MethodName)) ∈ lw_tbl := lw_at lw_m5 89 rfl
theorem q1151 : (Jvm.Cond.instanceMethod ({ cls := "MissedTrains", name := "ridesFrom", desc := "(III)I" } : Jvm.MethodName)) ∈ lw_all := lw_g (lw_at lw_m5 90 rfl) rfl
theorem q1152 : (Jvm.Cond.code ({ cls := "MissedTrains", name := "ridesFrom", desc := "(III)I" } : Jvm.MethodName) prog_1_method_44_code (7 : Nat) (Option.some Jvm.ClassFile.FieldType.int)) ∈ lw_all := lw_g (lw_at lw_m5 91 rfl) rfl
theorem q1154 : (Jvm.Cond.instanceMethod ({ cls := "MissedTrains", name := "longestWait", desc := "(I)I" } : Jvm.MethodName)) ∈ lw_all := lw_g (lw_at lw_m5 93 rfl) rfl
theorem q1155 : (Jvm.Cond.selects "MissedTrains" ({ cls := "MissedTrains", name := "longestWait", desc := "(I)I" } : Jvm.MethodName) ({ cls := "MissedTrains", name := "longestWait", desc := "(I)I" } : Jvm.MethodName)) ∈ lw_all := lw_g (lw_at lw_m5 94 rfl) rfl
theorem q1156 : (Jvm.Cond.code ({ cls := "MissedTrains", name := "longestWait", desc := "(I)I" } : Jvm.MethodName) prog_1_method_46_code (6 : Nat) (Option.some Jvm.ClassFile.FieldType.int)) ∈ lw_all := lw_g (lw_at lw_m5 95 rfl) rfl
theorem q1158 : (Jvm.Cond.instanceMethod ({ cls := "MissedTrains", name := "busiest", desc := "(I)I" } : Jvm.MethodName)) ∈ lw_all := lw_g (lw_at lw_m5 97 rfl) rfl
theorem q1159 : (Jvm.Cond.selects "MissedTrains" ({ cls := "MissedTrains", name := "busiest", desc := "(I)I" } : Jvm.MethodName) ({ cls := "MissedTrains", name := "busiest", desc := "(I)I" } : Jvm.MethodName)) ∈ lw_all := lw_g (lw_at lw_m5 98 rfl) rfl
theorem q1160 : (Jvm.Cond.code ({ cls := "MissedTrains", name := "busiest", desc := "(I)I" } : Jvm.MethodName) prog_1_method_48_code (4 : Nat) (Option.some Jvm.ClassFile.FieldType.int)) ∈ lw_all := lw_g (lw_at lw_m5 99 rfl) rfl
theorem q1161 : (Jvm.Cond.methodLink "MissedTrains" (283 : Nat) ({ cls := "MissedTrains", name := "stopping", desc := "(I)I" } : Jvm.MethodName)) ∈ lw_all := lw_g (lw_at lw_m5 100 rfl) rfl
theorem q1162 : (Jvm.Cond.privateMethod ({ cls := "MissedTrains", name := "stopping", desc := "(I)I" } : Jvm.MethodName)) ∈ lw_tbl := lw_at lw_m5 101 rfl
theorem q1163 : (Jvm.Cond.instanceMethod ({ cls := "MissedTrains", name := "stopping", desc := "(I)I" } : Jvm.MethodName)) ∈ lw_all := lw_g (lw_at lw_m5 102 rfl) rfl
theorem q1164 : (Jvm.Cond.code ({ cls := "MissedTrains", name := "stopping", desc := "(I)I" } : Jvm.MethodName) prog_1_method_47_code (4 : Nat) (Option.some Jvm.ClassFile.FieldType.int)) ∈ lw_all := lw_g (lw_at lw_m5 103 rfl) rfl
theorem q1166 : (Jvm.Cond.instanceMethod ({ cls := "MissedTrains", name := "onTheWay", desc := "(I)I" } : Jvm.MethodName)) ∈ lw_all := lw_g (lw_at lw_m5 105 rfl) rfl
theorem q1167 : (Jvm.Cond.selects "MissedTrains" ({ cls := "MissedTrains", name := "onTheWay", desc := "(I)I" } : Jvm.MethodName) ({ cls := "MissedTrains", name := "onTheWay", desc := "(I)I" } : Jvm.MethodName)) ∈ lw_all := lw_g (lw_at lw_m5 106 rfl) rfl
theorem q1168 : (Jvm.Cond.code ({ cls := "MissedTrains", name := "onTheWay", desc := "(I)I" } : Jvm.MethodName) prog_1_method_49_code (4 : Nat) (Option.some Jvm.ClassFile.FieldType.int)) ∈ lw_all := lw_g (lw_at lw_m5 107 rfl) rfl
theorem q1170 : (Jvm.Cond.instanceMethod ({ cls := "MissedTrains", name := "regular", desc := "(II)I" } : Jvm.MethodName)) ∈ lw_all := lw_g (lw_at lw_m5 109 rfl) rfl
theorem q1171 : (Jvm.Cond.selects "MissedTrains" ({ cls := "MissedTrains", name := "regular", desc := "(II)I" } : Jvm.MethodName) ({ cls := "MissedTrains", name := "regular", desc := "(II)I" } : Jvm.MethodName)) ∈ lw_all := lw_g (lw_at lw_m5 110 rfl) rfl
theorem q1172 : (Jvm.Cond.code ({ cls := "MissedTrains", name := "regular", desc := "(II)I" } : Jvm.MethodName) prog_1_method_51_code (6 : Nat) (Option.some Jvm.ClassFile.FieldType.int)) ∈ lw_all := lw_g (lw_at lw_m5 111 rfl) rfl
theorem q1173 : (Jvm.Cond.methodLink "MissedTrains" (286 : Nat) ({ cls := "MissedTrains", name := "leavesAt", desc := "(II)I" } : Jvm.MethodName)) ∈ lw_all := lw_g (lw_at lw_m5 112 rfl) rfl
theorem q1174 : (Jvm.Cond.privateMethod ({ cls := "MissedTrains", name := "leavesAt", desc := "(II)I" } : Jvm.MethodName)) ∈ lw_tbl := lw_at lw_m5 113 rfl
theorem q1175 : (Jvm.Cond.instanceMethod ({ cls := "MissedTrains", name := "leavesAt", desc := "(II)I" } : Jvm.MethodName)) ∈ lw_all := lw_g (lw_at lw_m5 114 rfl) rfl
theorem q1176 : (Jvm.Cond.code ({ cls := "MissedTrains", name := "leavesAt", desc := "(II)I" } : Jvm.MethodName) prog_1_method_50_code (5 : Nat) (Option.some Jvm.ClassFile.FieldType.int)) ∈ lw_all := lw_g (lw_at lw_m5 115 rfl) rfl
theorem q1178 : (Jvm.Cond.instanceMethod ({ cls := "MissedTrains", name := "fares", desc := "(II)I" } : Jvm.MethodName)) ∈ lw_all := lw_g (lw_at lw_m5 117 rfl) rfl
theorem q1179 : (Jvm.Cond.selects "MissedTrains" ({ cls := "MissedTrains", name := "fares", desc := "(II)I" } : Jvm.MethodName) ({ cls := "MissedTrains", name := "fares", desc := "(II)I" } : Jvm.MethodName)) ∈ lw_all := lw_g (lw_at lw_m5 118 rfl) rfl
theorem q1180 : (Jvm.Cond.code ({ cls := "MissedTrains", name := "fares", desc := "(II)I" } : Jvm.MethodName) prog_1_method_52_code (5 : Nat) (Option.some Jvm.ClassFile.FieldType.int)) ∈ lw_all := lw_g (lw_at lw_m5 119 rfl) rfl
theorem q1181 : (Jvm.Cond.constant "MissedTrains" (289 : Nat) (1073741824 : Int32)) ∈ lw_all := lw_g (lw_at lw_m5 120 rfl) rfl
theorem q1182 : (Jvm.Cond.methodLink "MissedTrains" (290 : Nat) ({ cls := "MissedTrains", name := "has", desc := "(II)Z" } : Jvm.MethodName)) ∈ lw_all := lw_g (lw_at lw_m5 121 rfl) rfl
theorem q1183 : (Jvm.Cond.static ({ cls := "MissedTrains", name := "has", desc := "(II)Z" } : Jvm.MethodName)) ∈ lw_all := lw_g (lw_at lw_m5 122 rfl) rfl
theorem q1184 : (Jvm.Cond.code ({ cls := "MissedTrains", name := "has", desc := "(II)Z" } : Jvm.MethodName) prog_1_method_3_code (2 : Nat) (Option.some Jvm.ClassFile.FieldType.boolean)) ∈ lw_all := lw_g (lw_at lw_m5 123 rfl) rfl
theorem q1186 : (Jvm.Cond.instanceMethod ({ cls := "MissedTrains", name := "seed", desc := "(I)Z" } : Jvm.MethodName)) ∈ lw_all := lw_g (lw_at lw_m5 125 rfl) rfl
theorem q1187 : (Jvm.Cond.selects "MissedTrains" ({ cls := "MissedTrains", name := "seed", desc := "(I)Z" } : Jvm.MethodName) ({ cls := "MissedTrains", name := "seed", desc := "(I)Z" } : Jvm.MethodName)) ∈ lw_all := lw_g (lw_at lw_m5 126 rfl) rfl
theorem q1188 : (Jvm.Cond.code ({ cls := "MissedTrains", name := "seed", desc := "(I)Z" } : Jvm.MethodName) prog_1_method_53_code (2 : Nat) (Option.some Jvm.ClassFile.FieldType.boolean)) ∈ lw_all := lw_g (lw_at lw_m5 127 rfl) rfl
theorem q1189 : (Jvm.Cond.constant "MissedTrains" (293 : Nat) (65536 : Int32)) ∈ lw_all := lw_g (lw_at lw_m5 128 rfl) rfl
theorem q1191 : (Jvm.Cond.instanceMethod ({ cls := "MissedTrains", name := "keep", desc := "()I" } : Jvm.MethodName)) ∈ lw_all := lw_g (lw_at lw_m5 130 rfl) rfl
theorem q1192 : (Jvm.Cond.selects "MissedTrains" ({ cls := "MissedTrains", name := "keep", desc := "()I" } : Jvm.MethodName) ({ cls := "MissedTrains", name := "keep", desc := "()I" } : Jvm.MethodName)) ∈ lw_all := lw_g (lw_at lw_m5 131 rfl) rfl
theorem q1193 : (Jvm.Cond.code ({ cls := "MissedTrains", name := "keep", desc := "()I" } : Jvm.MethodName) prog_1_method_54_code (1 : Nat) (Option.some Jvm.ClassFile.FieldType.int)) ∈ lw_all := lw_g (lw_at lw_m5 132 rfl) rfl
theorem q1195 : (Jvm.Cond.instanceMethod ({ cls := "MissedTrains", name := "undo", desc := "()Z" } : Jvm.MethodName)) ∈ lw_all := lw_g (lw_at lw_m5 134 rfl) rfl
theorem q1196 : (Jvm.Cond.selects "MissedTrains" ({ cls := "MissedTrains", name := "undo", desc := "()Z" } : Jvm.MethodName) ({ cls := "MissedTrains", name := "undo", desc := "()Z" } : Jvm.MethodName)) ∈ lw_all := lw_g (lw_at lw_m5 135 rfl) rfl
theorem q1197 : (Jvm.Cond.code ({ cls := "MissedTrains", name := "undo", desc := "()Z" } : Jvm.MethodName) prog_1_method_55_code (1 : Nat) (Option.some Jvm.ClassFile.FieldType.boolean)) ∈ lw_all := lw_g (lw_at lw_m5 136 rfl) rfl
theorem q1198 : (Jvm.Cond.methodLink "MissedTrains" (300 : Nat) ({ cls := "MissedTrains$Platform", name := "isAgain", desc := "(LMissedTrains$Platform;)V" } : Jvm.MethodName)) ∈ lw_all := lw_g (lw_at lw_m5 137 rfl) rfl
theorem q1203 : (Jvm.Cond.instanceMethod ({ cls := "MissedTrains", name := "check", desc := "(I)I" } : Jvm.MethodName)) ∈ lw_all := lw_g (lw_at lw_m5 142 rfl) rfl
theorem q1204 : (Jvm.Cond.selects "MissedTrains" ({ cls := "MissedTrains", name := "check", desc := "(I)I" } : Jvm.MethodName) ({ cls := "MissedTrains", name := "check", desc := "(I)I" } : Jvm.MethodName)) ∈ lw_all := lw_g (lw_at lw_m5 143 rfl) rfl
theorem q1205 : (Jvm.Cond.code ({ cls := "MissedTrains", name := "check", desc := "(I)I" } : Jvm.MethodName) prog_1_method_56_code (3 : Nat) (Option.some Jvm.ClassFile.FieldType.int)) ∈ lw_all := lw_g (lw_at lw_m5 144 rfl) rfl
theorem q1207 : (Jvm.Cond.instanceMethod ({ cls := "MissedTrains", name := "count", desc := "(I)I" } : Jvm.MethodName)) ∈ lw_all := lw_g (lw_at lw_m5 146 rfl) rfl
theorem q1208 : (Jvm.Cond.selects "MissedTrains" ({ cls := "MissedTrains", name := "count", desc := "(I)I" } : Jvm.MethodName) ({ cls := "MissedTrains", name := "count", desc := "(I)I" } : Jvm.MethodName)) ∈ lw_all := lw_g (lw_at lw_m5 147 rfl) rfl
theorem q1209 : (Jvm.Cond.code ({ cls := "MissedTrains", name := "count", desc := "(I)I" } : Jvm.MethodName) prog_1_method_59_code (2 : Nat) (Option.some Jvm.ClassFile.FieldType.int)) ∈ lw_all := lw_g (lw_at lw_m5 148 rfl) rfl
theorem q1210 : (Jvm.Cond.methodLink "MissedTrains" (304 : Nat) ({ cls := "MissedTrains", name := "told", desc := "()I" } : Jvm.MethodName)) ∈ lw_all := lw_g (lw_at lw_m5 149 rfl) rfl
theorem q1211 : (Jvm.Cond.privateMethod ({ cls := "MissedTrains", name := "told", desc := "()I" } : Jvm.MethodName)) ∈ lw_tbl := lw_at lw_m5 150 rfl
theorem q1212 : (Jvm.Cond.instanceMethod ({ cls := "MissedTrains", name := "told", desc := "()I" } : Jvm.MethodName)) ∈ lw_all := lw_g (lw_at lw_m5 151 rfl) rfl
theorem q1213 : (Jvm.Cond.code ({ cls := "MissedTrains", name := "told", desc := "()I" } : Jvm.MethodName) prog_1_method_57_code (3 : Nat) (Option.some Jvm.ClassFile.FieldType.int)) ∈ lw_all := lw_g (lw_at lw_m5 152 rfl) rfl
theorem q1214 : (Jvm.Cond.methodLink "MissedTrains" (308 : Nat) ({ cls := "MissedTrains", name := "countedOfAll", desc := "(Z)I" } : Jvm.MethodName)) ∈ lw_all := lw_g (lw_at lw_m5 153 rfl) rfl
theorem q1215 : (Jvm.Cond.privateMethod ({ cls := "MissedTrains", name := "countedOfAll", desc := "(Z)I" } : Jvm.MethodName)) ∈ lw_tbl := lw_at lw_m5 154 rfl
theorem q1216 : (Jvm.Cond.instanceMethod ({ cls := "MissedTrains", name := "countedOfAll", desc := "(Z)I" } : Jvm.MethodName)) ∈ lw_all := lw_g (lw_at lw_m5 155 rfl) rfl
theorem q1217 : (Jvm.Cond.code ({ cls := "MissedTrains", name := "countedOfAll", desc := "(Z)I" } : Jvm.MethodName) prog_1_method_58_code (7 : Nat) (Option.some Jvm.ClassFile.FieldType.int)) ∈ lw_all := lw_g (lw_at lw_m5 156 rfl) rfl
theorem in_X0 : ∀ w ∈ wsX00, w ∈ lw_all := lw_in wsX00 [360, 362, 364, 366, 368, 370, 372, 374, 376, 378, 380, 382, 384, 386, 388, 390, 392, 394, 396, 398, 400, 402] (by decide +kernel) (by decide +kernel)

/-! MissedTrainsModel -/
set_option maxRecDepth 100000
def RX7 : String := "MissedTrainsModel"
def TX7 : u_T := fun k => match k with
  | 0 => ("MissedTrainsModel", "now", "[I", true)
  | 1 => ("MissedTrainsModel", "aside", "[I", true)
  | 2 => ("MissedTrainsModel", "kept", "[I", true)
  | 3 => ("MissedTrainsModel", "fromOf", "[I", true)
  | 4 => ("MissedTrainsModel", "toOf", "[I", true)
  | 5 => ("MissedTrainsModel", "comesAt", "[I", true)
  | 6 => ("MissedTrainsModel", "stopMany", "[I", true)
  | 7 => ("MissedTrainsModel", "stationOf", "[I", true)
  | 8 => ("MissedTrainsModel", "minuteOf", "[I", true)
  | 9 => ("MissedTrainsModel", "putLate", "[I", true)
  | 10 => ("MissedTrainsModel", "eventOf", "[I", true)
  | 11 => ("MissedTrainsModel", "isTold", "[Z", true)
  | 12 => ("MissedTrainsModel", "isOut", "[Z", true)
  | 13 => ("MissedTrainsModel", "changingNow", "I", false)
  | 14 => ("MissedTrainsModel", "trainMany", "I", false)
  | 15 => ("MissedTrainsModel", "eventMany", "I", false)
  | 16 => ("MissedTrainsModel", "tape", "[B", true)
  | 17 => ("MissedTrainsModel", "taped", "I", false)
  | 18 => ("MissedTrainsModel", "place0", "I", false)
  | 19 => ("MissedTrainsModel", "length0", "I", false)
  | 20 => ("MissedTrainsModel", "fault", "I", false)
  | 21 => ("MissedTrainsModel", "number0", "I", false)
  | 22 => ("MissedTrainsModel", "open", "I", false)
  | 23 => ("MissedTrainsModel", "codeMany", "I", false)
  | 24 => ("MissedTrainsModel", "waiting", "I", false)
  | 25 => ("MissedTrainsModel", "saidMany", "I", false)
  | 26 => ("MissedTrainsModel", "clauses", "I", false)
  | 27 => ("MissedTrainsModel", "said", "[I", true)
  | 28 => ("MissedTrainsModel", "waitsAt", "[I", true)
  | 29 => ("MissedTrainsModel", "saidLetter", "[I", true)
  | 30 => ("MissedTrainsModel", "saidFrom", "[I", true)
  | 31 => ("MissedTrainsModel", "saidHalf", "[I", true)
  | 32 => ("MissedTrainsModel", "saidTo", "[I", true)
  | 33 => ("MissedTrainsModel", "codes", "[I", true)
  | 34 => ("MissedTrainsModel", "clauseOf", "[I", true)
  | 35 => ("MissedTrainsModel", "codeFrom", "[I", true)
  | 36 => ("MissedTrainsModel", "codeHalf", "[I", true)
  | 37 => ("MissedTrainsModel", "codeTo", "[I", true)
  | 38 => ("MissedTrainsModel", "stack", "[I", true)
  | 39 => ("MissedTrainsModel", "facts", "[I", true)
  | 40 => ("MissedTrainsModel", "newStops", "[I", true)
  | 41 => ("MissedTrainsModel", "newStation", "[I", true)
  | 42 => ("MissedTrainsModel", "newMinute", "[I", true)
  | 43 => ("MissedTrainsModel", "newTrains", "I", false)
  | 44 => ("MissedTrainsModel", "newServices", "I", false)
  | 45 => ("MissedTrainsModel", "rowStation", "[I", true)
  | 46 => ("MissedTrainsModel", "rowMinute", "[I", true)
  | 47 => ("MissedTrainsModel", "wasLate", "[I", true)
  | 48 => ("MissedTrainsModel", "wasOut", "[Z", true)
  | 49 => ("MissedTrainsModel", "lines", "I", false)
  | 50 => ("MissedTrainsModel", "ridesIn", "[I", true)
  | 51 => ("MissedTrainsModel", "lateNow", "[I", true)
  | 52 => ("MissedTrainsModel", "arrivedNow", "I", false)
  | 53 => ("MissedTrainsModel", "missedNow", "I", false)
  | 54 => ("MissedTrainsModel", "latestNow", "I", false)
  | 55 => ("MissedTrainsModel", "thereBy", "[I", true)
  | 56 => ("MissedTrainsModel", "thenBy", "[I", true)
  | 57 => ("MissedTrainsModel", "bestLeaves", "[I", true)
  | 58 => ("MissedTrainsModel", "bestThere", "[I", true)
  | 59 => ("MissedTrainsModel", "isMinute", "[Z", true)
  | 60 => ("MissedTrainsModel", "aheadOf", "[I", true)
  | 61 => ("MissedTrainsModel", "cameBy", "[I", true)
  | 62 => ("MissedTrainsModel", "queue", "[I", true)
  | 63 => ("MissedTrainsModel", "mostTo", "[I", true)
  | 64 => ("MissedTrainsModel", "leastFrom", "[I", true)
  | _ => ("MissedTrainsModel", "isKept", "Z", false)
def tyX7 : Nat → FieldType := fun k => match k with
  | 0 => .array .int
  | 1 => .array .int
  | 2 => .array .int
  | 3 => .array .int
  | 4 => .array .int
  | 5 => .array .int
  | 6 => .array .int
  | 7 => .array .int
  | 8 => .array .int
  | 9 => .array .int
  | 10 => .array .int
  | 11 => .array .boolean
  | 12 => .array .boolean
  | 13 => .int
  | 14 => .int
  | 15 => .int
  | 16 => .array .byte
  | 17 => .int
  | 18 => .int
  | 19 => .int
  | 20 => .int
  | 21 => .int
  | 22 => .int
  | 23 => .int
  | 24 => .int
  | 25 => .int
  | 26 => .int
  | 27 => .array .int
  | 28 => .array .int
  | 29 => .array .int
  | 30 => .array .int
  | 31 => .array .int
  | 32 => .array .int
  | 33 => .array .int
  | 34 => .array .int
  | 35 => .array .int
  | 36 => .array .int
  | 37 => .array .int
  | 38 => .array .int
  | 39 => .array .int
  | 40 => .array .int
  | 41 => .array .int
  | 42 => .array .int
  | 43 => .int
  | 44 => .int
  | 45 => .array .int
  | 46 => .array .int
  | 47 => .array .int
  | 48 => .array .boolean
  | 49 => .int
  | 50 => .array .int
  | 51 => .array .int
  | 52 => .int
  | 53 => .int
  | 54 => .int
  | 55 => .array .int
  | 56 => .array .int
  | 57 => .array .int
  | 58 => .array .int
  | 59 => .array .boolean
  | 60 => .array .int
  | 61 => .array .int
  | 62 => .array .int
  | 63 => .array .int
  | 64 => .array .int
  | _ => .boolean
abbrev wsX70 : List Cond := u_ws RX7 TX7 66
set_option maxRecDepth 100000 in
theorem nmX7 : ∀ a, a < 66 → ∀ b, b < 66 → a ≠ b → (TX7 a).2.1 ≠ (TX7 b).2.1 := by decide +kernel
set_option maxRecDepth 100000 in
theorem tyX7_ok : ∀ k, k < 66 → parseFieldDescriptor (TX7 k).2.2.1 = some (tyX7 k) := by decide +kernel
abbrev cX7_init : ByteArray := prog_21_method_1_code
def yX7_init : MethodName := ⟨RX7, "<init>", "()V"⟩
def dkwX7_init_16 : List UInt8 := [42, 16, 61, 188, 10, 181, 0, 147, 42, 180, 0, 7, 16, 25, 4, 79, 42, 8, 181, 0, 150, 177]
abbrev dktX7_init_16 : List UInt8 := dkwX7_init_16 ++ []
def dkwX7_init_15 : List UInt8 := [16, 48, 188, 10, 181, 0, 138, 42, 16, 48, 188, 10, 181, 0, 141, 42, 17, 1, 128, 188, 10, 181, 0, 144]
abbrev dktX7_init_15 : List UInt8 := dkwX7_init_15 ++ dktX7_init_16
def dkwX7_init_14 : List UInt8 := [188, 10, 181, 0, 129, 42, 17, 5, 160, 188, 4, 181, 0, 132, 42, 16, 48, 188, 10, 181, 0, 135, 42]
abbrev dktX7_init_14 : List UInt8 := dkwX7_init_14 ++ dktX7_init_15
def dkwX7_init_13 : List UInt8 := [188, 10, 181, 0, 120, 42, 16, 10, 188, 10, 181, 0, 123, 42, 16, 48, 188, 10, 181, 0, 126, 42, 16, 48]
abbrev dktX7_init_13 : List UInt8 := dkwX7_init_13 ++ dktX7_init_14
def dkwX7_init_12 : List UInt8 := [188, 4, 181, 0, 111, 42, 16, 12, 188, 10, 181, 0, 114, 42, 16, 48, 188, 10, 181, 0, 117, 42, 16, 10]
abbrev dktX7_init_12 : List UInt8 := dkwX7_init_12 ++ dktX7_init_13
def dkwX7_init_11 : List UInt8 := [188, 10, 181, 0, 102, 42, 16, 8, 188, 10, 181, 0, 105, 42, 16, 48, 188, 10, 181, 0, 108, 42, 16, 48]
abbrev dktX7_init_11 : List UInt8 := dkwX7_init_11 ++ dktX7_init_12
def dkwX7_init_10 : List UInt8 := [181, 0, 93, 42, 17, 1, 128, 188, 10, 181, 0, 96, 42, 17, 1, 128, 188, 10, 181, 0, 99, 42, 16, 8]
abbrev dktX7_init_10 : List UInt8 := dkwX7_init_10 ++ dktX7_init_11
def dkwX7_init_9 : List UInt8 := [42, 17, 1, 4, 188, 10, 181, 0, 87, 42, 16, 9, 188, 10, 181, 0, 90, 42, 16, 48, 188, 10]
abbrev dktX7_init_9 : List UInt8 := dkwX7_init_9 ++ dktX7_init_10
def dkwX7_init_8 : List UInt8 := [42, 16, 16, 188, 10, 181, 0, 78, 42, 16, 16, 188, 10, 181, 0, 81, 42, 16, 16, 188, 10, 181, 0, 84]
abbrev dktX7_init_8 : List UInt8 := dkwX7_init_8 ++ dktX7_init_9
def dkwX7_init_7 : List UInt8 := [16, 16, 188, 10, 181, 0, 69, 42, 17, 1, 4, 188, 10, 181, 0, 72, 42, 16, 16, 188, 10, 181, 0, 75]
abbrev dktX7_init_7 : List UInt8 := dkwX7_init_7 ++ dktX7_init_8
def dkwX7_init_6 : List UInt8 := [16, 16, 188, 10, 181, 0, 60, 42, 16, 16, 188, 10, 181, 0, 63, 42, 16, 16, 188, 10, 181, 0, 66, 42]
abbrev dktX7_init_6 : List UInt8 := dkwX7_init_6 ++ dktX7_init_7
def dkwX7_init_5 : List UInt8 := [188, 8, 181, 0, 50, 42, 17, 1, 4, 188, 10, 181, 0, 54, 42, 17, 1, 4, 188, 10, 181, 0, 57, 42]
abbrev dktX7_init_5 : List UInt8 := dkwX7_init_5 ++ dktX7_init_6
def dkwX7_init_4 : List UInt8 := [181, 0, 40, 42, 16, 12, 188, 4, 181, 0, 43, 42, 16, 48, 188, 4, 181, 0, 47, 42, 17, 1, 4]
abbrev dktX7_init_4 : List UInt8 := dkwX7_init_4 ++ dktX7_init_5
def dkwX7_init_3 : List UInt8 := [17, 1, 128, 188, 10, 181, 0, 34, 42, 16, 48, 188, 10, 181, 0, 37, 42, 17, 1, 128, 188, 10]
abbrev dktX7_init_3 : List UInt8 := dkwX7_init_3 ++ dktX7_init_4
def dkwX7_init_2 : List UInt8 := [188, 10, 181, 0, 25, 42, 16, 48, 188, 10, 181, 0, 28, 42, 17, 1, 128, 188, 10, 181, 0, 31, 42]
abbrev dktX7_init_2 : List UInt8 := dkwX7_init_2 ++ dktX7_init_3
def dkwX7_init_1 : List UInt8 := [188, 10, 181, 0, 16, 42, 16, 12, 188, 10, 181, 0, 19, 42, 16, 12, 188, 10, 181, 0, 22, 42, 16, 12]
abbrev dktX7_init_1 : List UInt8 := dkwX7_init_1 ++ dktX7_init_2
def dkwX7_init_0 : List UInt8 := [42, 183, 0, 1, 42, 16, 26, 188, 10, 181, 0, 7, 42, 16, 26, 188, 10, 181, 0, 13, 42, 16, 26]
abbrev dktX7_init_0 : List UInt8 := dkwX7_init_0 ++ dktX7_init_1
theorem dksX7_init_0 : cX7_init.data.toList.drop 0 = dktX7_init_0 := by decide +kernel
theorem dksX7_init_1 : cX7_init.data.toList.drop 23 = dktX7_init_1 := dk_seg dksX7_init_0 23 rfl rfl
theorem dksX7_init_2 : cX7_init.data.toList.drop 47 = dktX7_init_2 := dk_seg dksX7_init_1 24 rfl rfl
theorem dksX7_init_3 : cX7_init.data.toList.drop 70 = dktX7_init_3 := dk_seg dksX7_init_2 23 rfl rfl
theorem dksX7_init_4 : cX7_init.data.toList.drop 92 = dktX7_init_4 := dk_seg dksX7_init_3 22 rfl rfl
theorem dksX7_init_5 : cX7_init.data.toList.drop 115 = dktX7_init_5 := dk_seg dksX7_init_4 23 rfl rfl
theorem dksX7_init_6 : cX7_init.data.toList.drop 139 = dktX7_init_6 := dk_seg dksX7_init_5 24 rfl rfl
theorem dksX7_init_7 : cX7_init.data.toList.drop 163 = dktX7_init_7 := dk_seg dksX7_init_6 24 rfl rfl
theorem dksX7_init_8 : cX7_init.data.toList.drop 187 = dktX7_init_8 := dk_seg dksX7_init_7 24 rfl rfl
theorem dksX7_init_9 : cX7_init.data.toList.drop 211 = dktX7_init_9 := dk_seg dksX7_init_8 24 rfl rfl
theorem dksX7_init_10 : cX7_init.data.toList.drop 233 = dktX7_init_10 := dk_seg dksX7_init_9 22 rfl rfl
theorem dksX7_init_11 : cX7_init.data.toList.drop 257 = dktX7_init_11 := dk_seg dksX7_init_10 24 rfl rfl
theorem dksX7_init_12 : cX7_init.data.toList.drop 281 = dktX7_init_12 := dk_seg dksX7_init_11 24 rfl rfl
theorem dksX7_init_13 : cX7_init.data.toList.drop 305 = dktX7_init_13 := dk_seg dksX7_init_12 24 rfl rfl
theorem dksX7_init_14 : cX7_init.data.toList.drop 329 = dktX7_init_14 := dk_seg dksX7_init_13 24 rfl rfl
theorem dksX7_init_15 : cX7_init.data.toList.drop 352 = dktX7_init_15 := dk_seg dksX7_init_14 23 rfl rfl
theorem dksX7_init_16 : cX7_init.data.toList.drop 376 = dktX7_init_16 := dk_seg dksX7_init_15 24 rfl rfl
theorem dX7_init_0 : decode cX7_init 0 = .ok (.aload_n 0, 1) := dk_42 (dk_at dksX7_init_0 0 rfl rfl)
theorem dX7_init_1 : decode cX7_init 1 = .ok (.invokespecial 1, 3) := dk_183 0 1 (dk_at dksX7_init_0 1 rfl rfl)
theorem dX7_init_4 : decode cX7_init 4 = .ok (.aload_n 0, 1) := dk_42 (dk_at dksX7_init_0 4 rfl rfl)
theorem dX7_init_5 : decode cX7_init 5 = .ok (.bipush 26, 2) := dk_16 26 (dk_at dksX7_init_0 5 rfl rfl)
theorem dX7_init_7 : decode cX7_init 7 = .ok (.newarray .int, 2) := dk_188_10 (dk_at dksX7_init_0 7 rfl rfl)
theorem dX7_init_9 : decode cX7_init 9 = .ok (.putfield 7, 3) := dk_181 0 7 (dk_at dksX7_init_0 9 rfl rfl)
theorem dX7_init_12 : decode cX7_init 12 = .ok (.aload_n 0, 1) := dk_42 (dk_at dksX7_init_0 12 rfl rfl)
theorem dX7_init_13 : decode cX7_init 13 = .ok (.bipush 26, 2) := dk_16 26 (dk_at dksX7_init_0 13 rfl rfl)
theorem dX7_init_15 : decode cX7_init 15 = .ok (.newarray .int, 2) := dk_188_10 (dk_at dksX7_init_0 15 rfl rfl)
theorem dX7_init_17 : decode cX7_init 17 = .ok (.putfield 13, 3) := dk_181 0 13 (dk_at dksX7_init_0 17 rfl rfl)
theorem dX7_init_20 : decode cX7_init 20 = .ok (.aload_n 0, 1) := dk_42 (dk_at dksX7_init_0 20 rfl rfl)
theorem dX7_init_21 : decode cX7_init 21 = .ok (.bipush 26, 2) := dk_16 26 (dk_at dksX7_init_0 21 rfl rfl)
theorem dX7_init_23 : decode cX7_init 23 = .ok (.newarray .int, 2) := dk_188_10 (dk_at dksX7_init_1 0 rfl rfl)
theorem dX7_init_25 : decode cX7_init 25 = .ok (.putfield 16, 3) := dk_181 0 16 (dk_at dksX7_init_1 2 rfl rfl)
theorem dX7_init_28 : decode cX7_init 28 = .ok (.aload_n 0, 1) := dk_42 (dk_at dksX7_init_1 5 rfl rfl)
theorem dX7_init_29 : decode cX7_init 29 = .ok (.bipush 12, 2) := dk_16 12 (dk_at dksX7_init_1 6 rfl rfl)
theorem dX7_init_31 : decode cX7_init 31 = .ok (.newarray .int, 2) := dk_188_10 (dk_at dksX7_init_1 8 rfl rfl)
theorem dX7_init_33 : decode cX7_init 33 = .ok (.putfield 19, 3) := dk_181 0 19 (dk_at dksX7_init_1 10 rfl rfl)
theorem dX7_init_36 : decode cX7_init 36 = .ok (.aload_n 0, 1) := dk_42 (dk_at dksX7_init_1 13 rfl rfl)
theorem dX7_init_37 : decode cX7_init 37 = .ok (.bipush 12, 2) := dk_16 12 (dk_at dksX7_init_1 14 rfl rfl)
theorem dX7_init_39 : decode cX7_init 39 = .ok (.newarray .int, 2) := dk_188_10 (dk_at dksX7_init_1 16 rfl rfl)
theorem dX7_init_41 : decode cX7_init 41 = .ok (.putfield 22, 3) := dk_181 0 22 (dk_at dksX7_init_1 18 rfl rfl)
theorem dX7_init_44 : decode cX7_init 44 = .ok (.aload_n 0, 1) := dk_42 (dk_at dksX7_init_1 21 rfl rfl)
theorem dX7_init_45 : decode cX7_init 45 = .ok (.bipush 12, 2) := dk_16 12 (dk_at dksX7_init_1 22 rfl rfl)
theorem dX7_init_47 : decode cX7_init 47 = .ok (.newarray .int, 2) := dk_188_10 (dk_at dksX7_init_2 0 rfl rfl)
theorem dX7_init_49 : decode cX7_init 49 = .ok (.putfield 25, 3) := dk_181 0 25 (dk_at dksX7_init_2 2 rfl rfl)
theorem dX7_init_52 : decode cX7_init 52 = .ok (.aload_n 0, 1) := dk_42 (dk_at dksX7_init_2 5 rfl rfl)
theorem dX7_init_53 : decode cX7_init 53 = .ok (.bipush 48, 2) := dk_16 48 (dk_at dksX7_init_2 6 rfl rfl)
theorem dX7_init_55 : decode cX7_init 55 = .ok (.newarray .int, 2) := dk_188_10 (dk_at dksX7_init_2 8 rfl rfl)
theorem dX7_init_57 : decode cX7_init 57 = .ok (.putfield 28, 3) := dk_181 0 28 (dk_at dksX7_init_2 10 rfl rfl)
theorem dX7_init_60 : decode cX7_init 60 = .ok (.aload_n 0, 1) := dk_42 (dk_at dksX7_init_2 13 rfl rfl)
theorem dX7_init_61 : decode cX7_init 61 = .ok (.sipush 384, 3) := dk_17 1 128 (dk_at dksX7_init_2 14 rfl rfl)
theorem dX7_init_64 : decode cX7_init 64 = .ok (.newarray .int, 2) := dk_188_10 (dk_at dksX7_init_2 17 rfl rfl)
theorem dX7_init_66 : decode cX7_init 66 = .ok (.putfield 31, 3) := dk_181 0 31 (dk_at dksX7_init_2 19 rfl rfl)
theorem dX7_init_69 : decode cX7_init 69 = .ok (.aload_n 0, 1) := dk_42 (dk_at dksX7_init_2 22 rfl rfl)
theorem dX7_init_70 : decode cX7_init 70 = .ok (.sipush 384, 3) := dk_17 1 128 (dk_at dksX7_init_3 0 rfl rfl)
theorem dX7_init_73 : decode cX7_init 73 = .ok (.newarray .int, 2) := dk_188_10 (dk_at dksX7_init_3 3 rfl rfl)
theorem dX7_init_75 : decode cX7_init 75 = .ok (.putfield 34, 3) := dk_181 0 34 (dk_at dksX7_init_3 5 rfl rfl)
theorem dX7_init_78 : decode cX7_init 78 = .ok (.aload_n 0, 1) := dk_42 (dk_at dksX7_init_3 8 rfl rfl)
theorem dX7_init_79 : decode cX7_init 79 = .ok (.bipush 48, 2) := dk_16 48 (dk_at dksX7_init_3 9 rfl rfl)
theorem dX7_init_81 : decode cX7_init 81 = .ok (.newarray .int, 2) := dk_188_10 (dk_at dksX7_init_3 11 rfl rfl)
theorem dX7_init_83 : decode cX7_init 83 = .ok (.putfield 37, 3) := dk_181 0 37 (dk_at dksX7_init_3 13 rfl rfl)
theorem dX7_init_86 : decode cX7_init 86 = .ok (.aload_n 0, 1) := dk_42 (dk_at dksX7_init_3 16 rfl rfl)
theorem dX7_init_87 : decode cX7_init 87 = .ok (.sipush 384, 3) := dk_17 1 128 (dk_at dksX7_init_3 17 rfl rfl)
theorem dX7_init_90 : decode cX7_init 90 = .ok (.newarray .int, 2) := dk_188_10 (dk_at dksX7_init_3 20 rfl rfl)
theorem dX7_init_92 : decode cX7_init 92 = .ok (.putfield 40, 3) := dk_181 0 40 (dk_at dksX7_init_4 0 rfl rfl)
theorem dX7_init_95 : decode cX7_init 95 = .ok (.aload_n 0, 1) := dk_42 (dk_at dksX7_init_4 3 rfl rfl)
theorem dX7_init_96 : decode cX7_init 96 = .ok (.bipush 12, 2) := dk_16 12 (dk_at dksX7_init_4 4 rfl rfl)
theorem dX7_init_98 : decode cX7_init 98 = .ok (.newarray .boolean, 2) := dk_188_4 (dk_at dksX7_init_4 6 rfl rfl)
theorem dX7_init_100 : decode cX7_init 100 = .ok (.putfield 43, 3) := dk_181 0 43 (dk_at dksX7_init_4 8 rfl rfl)
theorem dX7_init_103 : decode cX7_init 103 = .ok (.aload_n 0, 1) := dk_42 (dk_at dksX7_init_4 11 rfl rfl)
theorem dX7_init_104 : decode cX7_init 104 = .ok (.bipush 48, 2) := dk_16 48 (dk_at dksX7_init_4 12 rfl rfl)
theorem dX7_init_106 : decode cX7_init 106 = .ok (.newarray .boolean, 2) := dk_188_4 (dk_at dksX7_init_4 14 rfl rfl)
theorem dX7_init_108 : decode cX7_init 108 = .ok (.putfield 47, 3) := dk_181 0 47 (dk_at dksX7_init_4 16 rfl rfl)
theorem dX7_init_111 : decode cX7_init 111 = .ok (.aload_n 0, 1) := dk_42 (dk_at dksX7_init_4 19 rfl rfl)
theorem dX7_init_112 : decode cX7_init 112 = .ok (.sipush 260, 3) := dk_17 1 4 (dk_at dksX7_init_4 20 rfl rfl)
theorem dX7_init_115 : decode cX7_init 115 = .ok (.newarray .byte, 2) := dk_188_8 (dk_at dksX7_init_5 0 rfl rfl)
theorem dX7_init_117 : decode cX7_init 117 = .ok (.putfield 50, 3) := dk_181 0 50 (dk_at dksX7_init_5 2 rfl rfl)
theorem dX7_init_120 : decode cX7_init 120 = .ok (.aload_n 0, 1) := dk_42 (dk_at dksX7_init_5 5 rfl rfl)
theorem dX7_init_121 : decode cX7_init 121 = .ok (.sipush 260, 3) := dk_17 1 4 (dk_at dksX7_init_5 6 rfl rfl)
theorem dX7_init_124 : decode cX7_init 124 = .ok (.newarray .int, 2) := dk_188_10 (dk_at dksX7_init_5 9 rfl rfl)
theorem dX7_init_126 : decode cX7_init 126 = .ok (.putfield 54, 3) := dk_181 0 54 (dk_at dksX7_init_5 11 rfl rfl)
theorem dX7_init_129 : decode cX7_init 129 = .ok (.aload_n 0, 1) := dk_42 (dk_at dksX7_init_5 14 rfl rfl)
theorem dX7_init_130 : decode cX7_init 130 = .ok (.sipush 260, 3) := dk_17 1 4 (dk_at dksX7_init_5 15 rfl rfl)
theorem dX7_init_133 : decode cX7_init 133 = .ok (.newarray .int, 2) := dk_188_10 (dk_at dksX7_init_5 18 rfl rfl)
theorem dX7_init_135 : decode cX7_init 135 = .ok (.putfield 57, 3) := dk_181 0 57 (dk_at dksX7_init_5 20 rfl rfl)
theorem dX7_init_138 : decode cX7_init 138 = .ok (.aload_n 0, 1) := dk_42 (dk_at dksX7_init_5 23 rfl rfl)
theorem dX7_init_139 : decode cX7_init 139 = .ok (.bipush 16, 2) := dk_16 16 (dk_at dksX7_init_6 0 rfl rfl)
theorem dX7_init_141 : decode cX7_init 141 = .ok (.newarray .int, 2) := dk_188_10 (dk_at dksX7_init_6 2 rfl rfl)
theorem dX7_init_143 : decode cX7_init 143 = .ok (.putfield 60, 3) := dk_181 0 60 (dk_at dksX7_init_6 4 rfl rfl)
theorem dX7_init_146 : decode cX7_init 146 = .ok (.aload_n 0, 1) := dk_42 (dk_at dksX7_init_6 7 rfl rfl)
theorem dX7_init_147 : decode cX7_init 147 = .ok (.bipush 16, 2) := dk_16 16 (dk_at dksX7_init_6 8 rfl rfl)
theorem dX7_init_149 : decode cX7_init 149 = .ok (.newarray .int, 2) := dk_188_10 (dk_at dksX7_init_6 10 rfl rfl)
theorem dX7_init_151 : decode cX7_init 151 = .ok (.putfield 63, 3) := dk_181 0 63 (dk_at dksX7_init_6 12 rfl rfl)
theorem dX7_init_154 : decode cX7_init 154 = .ok (.aload_n 0, 1) := dk_42 (dk_at dksX7_init_6 15 rfl rfl)
theorem dX7_init_155 : decode cX7_init 155 = .ok (.bipush 16, 2) := dk_16 16 (dk_at dksX7_init_6 16 rfl rfl)
theorem dX7_init_157 : decode cX7_init 157 = .ok (.newarray .int, 2) := dk_188_10 (dk_at dksX7_init_6 18 rfl rfl)
theorem dX7_init_159 : decode cX7_init 159 = .ok (.putfield 66, 3) := dk_181 0 66 (dk_at dksX7_init_6 20 rfl rfl)
theorem dX7_init_162 : decode cX7_init 162 = .ok (.aload_n 0, 1) := dk_42 (dk_at dksX7_init_6 23 rfl rfl)
theorem dX7_init_163 : decode cX7_init 163 = .ok (.bipush 16, 2) := dk_16 16 (dk_at dksX7_init_7 0 rfl rfl)
theorem dX7_init_165 : decode cX7_init 165 = .ok (.newarray .int, 2) := dk_188_10 (dk_at dksX7_init_7 2 rfl rfl)
theorem dX7_init_167 : decode cX7_init 167 = .ok (.putfield 69, 3) := dk_181 0 69 (dk_at dksX7_init_7 4 rfl rfl)
theorem dX7_init_170 : decode cX7_init 170 = .ok (.aload_n 0, 1) := dk_42 (dk_at dksX7_init_7 7 rfl rfl)
theorem dX7_init_171 : decode cX7_init 171 = .ok (.sipush 260, 3) := dk_17 1 4 (dk_at dksX7_init_7 8 rfl rfl)
theorem dX7_init_174 : decode cX7_init 174 = .ok (.newarray .int, 2) := dk_188_10 (dk_at dksX7_init_7 11 rfl rfl)
theorem dX7_init_176 : decode cX7_init 176 = .ok (.putfield 72, 3) := dk_181 0 72 (dk_at dksX7_init_7 13 rfl rfl)
theorem dX7_init_179 : decode cX7_init 179 = .ok (.aload_n 0, 1) := dk_42 (dk_at dksX7_init_7 16 rfl rfl)
theorem dX7_init_180 : decode cX7_init 180 = .ok (.bipush 16, 2) := dk_16 16 (dk_at dksX7_init_7 17 rfl rfl)
theorem dX7_init_182 : decode cX7_init 182 = .ok (.newarray .int, 2) := dk_188_10 (dk_at dksX7_init_7 19 rfl rfl)
theorem dX7_init_184 : decode cX7_init 184 = .ok (.putfield 75, 3) := dk_181 0 75 (dk_at dksX7_init_7 21 rfl rfl)
theorem dX7_init_187 : decode cX7_init 187 = .ok (.aload_n 0, 1) := dk_42 (dk_at dksX7_init_8 0 rfl rfl)
theorem dX7_init_188 : decode cX7_init 188 = .ok (.bipush 16, 2) := dk_16 16 (dk_at dksX7_init_8 1 rfl rfl)
theorem dX7_init_190 : decode cX7_init 190 = .ok (.newarray .int, 2) := dk_188_10 (dk_at dksX7_init_8 3 rfl rfl)
theorem dX7_init_192 : decode cX7_init 192 = .ok (.putfield 78, 3) := dk_181 0 78 (dk_at dksX7_init_8 5 rfl rfl)
theorem dX7_init_195 : decode cX7_init 195 = .ok (.aload_n 0, 1) := dk_42 (dk_at dksX7_init_8 8 rfl rfl)
theorem dX7_init_196 : decode cX7_init 196 = .ok (.bipush 16, 2) := dk_16 16 (dk_at dksX7_init_8 9 rfl rfl)
theorem dX7_init_198 : decode cX7_init 198 = .ok (.newarray .int, 2) := dk_188_10 (dk_at dksX7_init_8 11 rfl rfl)
theorem dX7_init_200 : decode cX7_init 200 = .ok (.putfield 81, 3) := dk_181 0 81 (dk_at dksX7_init_8 13 rfl rfl)
theorem dX7_init_203 : decode cX7_init 203 = .ok (.aload_n 0, 1) := dk_42 (dk_at dksX7_init_8 16 rfl rfl)
theorem dX7_init_204 : decode cX7_init 204 = .ok (.bipush 16, 2) := dk_16 16 (dk_at dksX7_init_8 17 rfl rfl)
theorem dX7_init_206 : decode cX7_init 206 = .ok (.newarray .int, 2) := dk_188_10 (dk_at dksX7_init_8 19 rfl rfl)
theorem dX7_init_208 : decode cX7_init 208 = .ok (.putfield 84, 3) := dk_181 0 84 (dk_at dksX7_init_8 21 rfl rfl)
theorem dX7_init_211 : decode cX7_init 211 = .ok (.aload_n 0, 1) := dk_42 (dk_at dksX7_init_9 0 rfl rfl)
theorem dX7_init_212 : decode cX7_init 212 = .ok (.sipush 260, 3) := dk_17 1 4 (dk_at dksX7_init_9 1 rfl rfl)
theorem dX7_init_215 : decode cX7_init 215 = .ok (.newarray .int, 2) := dk_188_10 (dk_at dksX7_init_9 4 rfl rfl)
theorem dX7_init_217 : decode cX7_init 217 = .ok (.putfield 87, 3) := dk_181 0 87 (dk_at dksX7_init_9 6 rfl rfl)
theorem dX7_init_220 : decode cX7_init 220 = .ok (.aload_n 0, 1) := dk_42 (dk_at dksX7_init_9 9 rfl rfl)
theorem dX7_init_221 : decode cX7_init 221 = .ok (.bipush 9, 2) := dk_16 9 (dk_at dksX7_init_9 10 rfl rfl)
theorem dX7_init_223 : decode cX7_init 223 = .ok (.newarray .int, 2) := dk_188_10 (dk_at dksX7_init_9 12 rfl rfl)
theorem dX7_init_225 : decode cX7_init 225 = .ok (.putfield 90, 3) := dk_181 0 90 (dk_at dksX7_init_9 14 rfl rfl)
theorem dX7_init_228 : decode cX7_init 228 = .ok (.aload_n 0, 1) := dk_42 (dk_at dksX7_init_9 17 rfl rfl)
theorem dX7_init_229 : decode cX7_init 229 = .ok (.bipush 48, 2) := dk_16 48 (dk_at dksX7_init_9 18 rfl rfl)
theorem dX7_init_231 : decode cX7_init 231 = .ok (.newarray .int, 2) := dk_188_10 (dk_at dksX7_init_9 20 rfl rfl)
theorem dX7_init_233 : decode cX7_init 233 = .ok (.putfield 93, 3) := dk_181 0 93 (dk_at dksX7_init_10 0 rfl rfl)
theorem dX7_init_236 : decode cX7_init 236 = .ok (.aload_n 0, 1) := dk_42 (dk_at dksX7_init_10 3 rfl rfl)
theorem dX7_init_237 : decode cX7_init 237 = .ok (.sipush 384, 3) := dk_17 1 128 (dk_at dksX7_init_10 4 rfl rfl)
theorem dX7_init_240 : decode cX7_init 240 = .ok (.newarray .int, 2) := dk_188_10 (dk_at dksX7_init_10 7 rfl rfl)
theorem dX7_init_242 : decode cX7_init 242 = .ok (.putfield 96, 3) := dk_181 0 96 (dk_at dksX7_init_10 9 rfl rfl)
theorem dX7_init_245 : decode cX7_init 245 = .ok (.aload_n 0, 1) := dk_42 (dk_at dksX7_init_10 12 rfl rfl)
theorem dX7_init_246 : decode cX7_init 246 = .ok (.sipush 384, 3) := dk_17 1 128 (dk_at dksX7_init_10 13 rfl rfl)
theorem dX7_init_249 : decode cX7_init 249 = .ok (.newarray .int, 2) := dk_188_10 (dk_at dksX7_init_10 16 rfl rfl)
theorem dX7_init_251 : decode cX7_init 251 = .ok (.putfield 99, 3) := dk_181 0 99 (dk_at dksX7_init_10 18 rfl rfl)
theorem dX7_init_254 : decode cX7_init 254 = .ok (.aload_n 0, 1) := dk_42 (dk_at dksX7_init_10 21 rfl rfl)
theorem dX7_init_255 : decode cX7_init 255 = .ok (.bipush 8, 2) := dk_16 8 (dk_at dksX7_init_10 22 rfl rfl)
theorem dX7_init_257 : decode cX7_init 257 = .ok (.newarray .int, 2) := dk_188_10 (dk_at dksX7_init_11 0 rfl rfl)
theorem dX7_init_259 : decode cX7_init 259 = .ok (.putfield 102, 3) := dk_181 0 102 (dk_at dksX7_init_11 2 rfl rfl)
theorem dX7_init_262 : decode cX7_init 262 = .ok (.aload_n 0, 1) := dk_42 (dk_at dksX7_init_11 5 rfl rfl)
theorem dX7_init_263 : decode cX7_init 263 = .ok (.bipush 8, 2) := dk_16 8 (dk_at dksX7_init_11 6 rfl rfl)
theorem dX7_init_265 : decode cX7_init 265 = .ok (.newarray .int, 2) := dk_188_10 (dk_at dksX7_init_11 8 rfl rfl)
theorem dX7_init_267 : decode cX7_init 267 = .ok (.putfield 105, 3) := dk_181 0 105 (dk_at dksX7_init_11 10 rfl rfl)
theorem dX7_init_270 : decode cX7_init 270 = .ok (.aload_n 0, 1) := dk_42 (dk_at dksX7_init_11 13 rfl rfl)
theorem dX7_init_271 : decode cX7_init 271 = .ok (.bipush 48, 2) := dk_16 48 (dk_at dksX7_init_11 14 rfl rfl)
theorem dX7_init_273 : decode cX7_init 273 = .ok (.newarray .int, 2) := dk_188_10 (dk_at dksX7_init_11 16 rfl rfl)
theorem dX7_init_275 : decode cX7_init 275 = .ok (.putfield 108, 3) := dk_181 0 108 (dk_at dksX7_init_11 18 rfl rfl)
theorem dX7_init_278 : decode cX7_init 278 = .ok (.aload_n 0, 1) := dk_42 (dk_at dksX7_init_11 21 rfl rfl)
theorem dX7_init_279 : decode cX7_init 279 = .ok (.bipush 48, 2) := dk_16 48 (dk_at dksX7_init_11 22 rfl rfl)
theorem dX7_init_281 : decode cX7_init 281 = .ok (.newarray .boolean, 2) := dk_188_4 (dk_at dksX7_init_12 0 rfl rfl)
theorem dX7_init_283 : decode cX7_init 283 = .ok (.putfield 111, 3) := dk_181 0 111 (dk_at dksX7_init_12 2 rfl rfl)
theorem dX7_init_286 : decode cX7_init 286 = .ok (.aload_n 0, 1) := dk_42 (dk_at dksX7_init_12 5 rfl rfl)
theorem dX7_init_287 : decode cX7_init 287 = .ok (.bipush 12, 2) := dk_16 12 (dk_at dksX7_init_12 6 rfl rfl)
theorem dX7_init_289 : decode cX7_init 289 = .ok (.newarray .int, 2) := dk_188_10 (dk_at dksX7_init_12 8 rfl rfl)
theorem dX7_init_291 : decode cX7_init 291 = .ok (.putfield 114, 3) := dk_181 0 114 (dk_at dksX7_init_12 10 rfl rfl)
theorem dX7_init_294 : decode cX7_init 294 = .ok (.aload_n 0, 1) := dk_42 (dk_at dksX7_init_12 13 rfl rfl)
theorem dX7_init_295 : decode cX7_init 295 = .ok (.bipush 48, 2) := dk_16 48 (dk_at dksX7_init_12 14 rfl rfl)
theorem dX7_init_297 : decode cX7_init 297 = .ok (.newarray .int, 2) := dk_188_10 (dk_at dksX7_init_12 16 rfl rfl)
theorem dX7_init_299 : decode cX7_init 299 = .ok (.putfield 117, 3) := dk_181 0 117 (dk_at dksX7_init_12 18 rfl rfl)
theorem dX7_init_302 : decode cX7_init 302 = .ok (.aload_n 0, 1) := dk_42 (dk_at dksX7_init_12 21 rfl rfl)
theorem dX7_init_303 : decode cX7_init 303 = .ok (.bipush 10, 2) := dk_16 10 (dk_at dksX7_init_12 22 rfl rfl)
theorem dX7_init_305 : decode cX7_init 305 = .ok (.newarray .int, 2) := dk_188_10 (dk_at dksX7_init_13 0 rfl rfl)
theorem dX7_init_307 : decode cX7_init 307 = .ok (.putfield 120, 3) := dk_181 0 120 (dk_at dksX7_init_13 2 rfl rfl)
theorem dX7_init_310 : decode cX7_init 310 = .ok (.aload_n 0, 1) := dk_42 (dk_at dksX7_init_13 5 rfl rfl)
theorem dX7_init_311 : decode cX7_init 311 = .ok (.bipush 10, 2) := dk_16 10 (dk_at dksX7_init_13 6 rfl rfl)
theorem dX7_init_313 : decode cX7_init 313 = .ok (.newarray .int, 2) := dk_188_10 (dk_at dksX7_init_13 8 rfl rfl)
theorem dX7_init_315 : decode cX7_init 315 = .ok (.putfield 123, 3) := dk_181 0 123 (dk_at dksX7_init_13 10 rfl rfl)
theorem dX7_init_318 : decode cX7_init 318 = .ok (.aload_n 0, 1) := dk_42 (dk_at dksX7_init_13 13 rfl rfl)
theorem dX7_init_319 : decode cX7_init 319 = .ok (.bipush 48, 2) := dk_16 48 (dk_at dksX7_init_13 14 rfl rfl)
theorem dX7_init_321 : decode cX7_init 321 = .ok (.newarray .int, 2) := dk_188_10 (dk_at dksX7_init_13 16 rfl rfl)
theorem dX7_init_323 : decode cX7_init 323 = .ok (.putfield 126, 3) := dk_181 0 126 (dk_at dksX7_init_13 18 rfl rfl)
theorem dX7_init_326 : decode cX7_init 326 = .ok (.aload_n 0, 1) := dk_42 (dk_at dksX7_init_13 21 rfl rfl)
theorem dX7_init_327 : decode cX7_init 327 = .ok (.bipush 48, 2) := dk_16 48 (dk_at dksX7_init_13 22 rfl rfl)
theorem dX7_init_329 : decode cX7_init 329 = .ok (.newarray .int, 2) := dk_188_10 (dk_at dksX7_init_14 0 rfl rfl)
theorem dX7_init_331 : decode cX7_init 331 = .ok (.putfield 129, 3) := dk_181 0 129 (dk_at dksX7_init_14 2 rfl rfl)
theorem dX7_init_334 : decode cX7_init 334 = .ok (.aload_n 0, 1) := dk_42 (dk_at dksX7_init_14 5 rfl rfl)
theorem dX7_init_335 : decode cX7_init 335 = .ok (.sipush 1440, 3) := dk_17 5 160 (dk_at dksX7_init_14 6 rfl rfl)
theorem dX7_init_338 : decode cX7_init 338 = .ok (.newarray .boolean, 2) := dk_188_4 (dk_at dksX7_init_14 9 rfl rfl)
theorem dX7_init_340 : decode cX7_init 340 = .ok (.putfield 132, 3) := dk_181 0 132 (dk_at dksX7_init_14 11 rfl rfl)
theorem dX7_init_343 : decode cX7_init 343 = .ok (.aload_n 0, 1) := dk_42 (dk_at dksX7_init_14 14 rfl rfl)
theorem dX7_init_344 : decode cX7_init 344 = .ok (.bipush 48, 2) := dk_16 48 (dk_at dksX7_init_14 15 rfl rfl)
theorem dX7_init_346 : decode cX7_init 346 = .ok (.newarray .int, 2) := dk_188_10 (dk_at dksX7_init_14 17 rfl rfl)
theorem dX7_init_348 : decode cX7_init 348 = .ok (.putfield 135, 3) := dk_181 0 135 (dk_at dksX7_init_14 19 rfl rfl)
theorem dX7_init_351 : decode cX7_init 351 = .ok (.aload_n 0, 1) := dk_42 (dk_at dksX7_init_14 22 rfl rfl)
theorem dX7_init_352 : decode cX7_init 352 = .ok (.bipush 48, 2) := dk_16 48 (dk_at dksX7_init_15 0 rfl rfl)
theorem dX7_init_354 : decode cX7_init 354 = .ok (.newarray .int, 2) := dk_188_10 (dk_at dksX7_init_15 2 rfl rfl)
theorem dX7_init_356 : decode cX7_init 356 = .ok (.putfield 138, 3) := dk_181 0 138 (dk_at dksX7_init_15 4 rfl rfl)
theorem dX7_init_359 : decode cX7_init 359 = .ok (.aload_n 0, 1) := dk_42 (dk_at dksX7_init_15 7 rfl rfl)
theorem dX7_init_360 : decode cX7_init 360 = .ok (.bipush 48, 2) := dk_16 48 (dk_at dksX7_init_15 8 rfl rfl)
theorem dX7_init_362 : decode cX7_init 362 = .ok (.newarray .int, 2) := dk_188_10 (dk_at dksX7_init_15 10 rfl rfl)
theorem dX7_init_364 : decode cX7_init 364 = .ok (.putfield 141, 3) := dk_181 0 141 (dk_at dksX7_init_15 12 rfl rfl)
theorem dX7_init_367 : decode cX7_init 367 = .ok (.aload_n 0, 1) := dk_42 (dk_at dksX7_init_15 15 rfl rfl)
theorem dX7_init_368 : decode cX7_init 368 = .ok (.sipush 384, 3) := dk_17 1 128 (dk_at dksX7_init_15 16 rfl rfl)
theorem dX7_init_371 : decode cX7_init 371 = .ok (.newarray .int, 2) := dk_188_10 (dk_at dksX7_init_15 19 rfl rfl)
theorem dX7_init_373 : decode cX7_init 373 = .ok (.putfield 144, 3) := dk_181 0 144 (dk_at dksX7_init_15 21 rfl rfl)
theorem dX7_init_376 : decode cX7_init 376 = .ok (.aload_n 0, 1) := dk_42 (dk_at dksX7_init_16 0 rfl rfl)
theorem dX7_init_377 : decode cX7_init 377 = .ok (.bipush 61, 2) := dk_16 61 (dk_at dksX7_init_16 1 rfl rfl)
theorem dX7_init_379 : decode cX7_init 379 = .ok (.newarray .int, 2) := dk_188_10 (dk_at dksX7_init_16 3 rfl rfl)
theorem dX7_init_381 : decode cX7_init 381 = .ok (.putfield 147, 3) := dk_181 0 147 (dk_at dksX7_init_16 5 rfl rfl)
theorem dX7_init_384 : decode cX7_init 384 = .ok (.aload_n 0, 1) := dk_42 (dk_at dksX7_init_16 8 rfl rfl)
theorem dX7_init_385 : decode cX7_init 385 = .ok (.getfield 7, 3) := dk_180 0 7 (dk_at dksX7_init_16 9 rfl rfl)
theorem dX7_init_388 : decode cX7_init 388 = .ok (.bipush 25, 2) := dk_16 25 (dk_at dksX7_init_16 12 rfl rfl)
theorem dX7_init_390 : decode cX7_init 390 = .ok (.iconst 1, 1) := dk_4 (dk_at dksX7_init_16 14 rfl rfl)
theorem dX7_init_391 : decode cX7_init 391 = .ok (.iastore, 1) := dk_79 (dk_at dksX7_init_16 15 rfl rfl)
theorem dX7_init_392 : decode cX7_init 392 = .ok (.aload_n 0, 1) := dk_42 (dk_at dksX7_init_16 16 rfl rfl)
theorem dX7_init_393 : decode cX7_init 393 = .ok (.iconst 5, 1) := dk_8 (dk_at dksX7_init_16 17 rfl rfl)
theorem dX7_init_394 : decode cX7_init 394 = .ok (.putfield 150, 3) := dk_181 0 150 (dk_at dksX7_init_16 18 rfl rfl)
theorem dX7_init_397 : decode cX7_init 397 = .ok (.return_, 1) := dk_177 (dk_at dksX7_init_16 21 rfl rfl)
abbrev cX7_person : ByteArray := prog_21_method_16_code
def yX7_person : MethodName := ⟨RX7, "person", "(IIII)Z"⟩
def dkwX7_person_3 : List UInt8 := [180, 0, 7, 16, 12, 27, 96, 3, 79, 4, 172]
abbrev dktX7_person_3 : List UInt8 := dkwX7_person_3 ++ []
def dkwX7_person_2 : List UInt8 := [180, 0, 22, 27, 29, 79, 42, 180, 0, 25, 27, 21, 4, 79, 42, 180, 0, 7, 3, 27, 96, 3, 79, 42]
abbrev dktX7_person_2 : List UInt8 := dkwX7_person_2 ++ dktX7_person_3
def dkwX7_person_1 : List UInt8 := [184, 0, 154, 154, 0, 5, 3, 172, 42, 180, 0, 43, 27, 4, 84, 42, 180, 0, 19, 27, 28, 79, 42]
abbrev dktX7_person_1 : List UInt8 := dkwX7_person_1 ++ dktX7_person_2
def dkwX7_person_0 : List UInt8 := [27, 3, 16, 11, 184, 0, 154, 153, 0, 23, 28, 29, 184, 0, 175, 153, 0, 15, 21, 4, 3, 17, 5, 159]
abbrev dktX7_person_0 : List UInt8 := dkwX7_person_0 ++ dktX7_person_1
theorem dksX7_person_0 : cX7_person.data.toList.drop 0 = dktX7_person_0 := by decide +kernel
theorem dksX7_person_1 : cX7_person.data.toList.drop 24 = dktX7_person_1 := dk_seg dksX7_person_0 24 rfl rfl
theorem dksX7_person_2 : cX7_person.data.toList.drop 47 = dktX7_person_2 := dk_seg dksX7_person_1 23 rfl rfl
theorem dksX7_person_3 : cX7_person.data.toList.drop 71 = dktX7_person_3 := dk_seg dksX7_person_2 24 rfl rfl
theorem dX7_person_0 : decode cX7_person 0 = .ok (.iload_n 1, 1) := dk_27 (dk_at dksX7_person_0 0 rfl rfl)
theorem dX7_person_1 : decode cX7_person 1 = .ok (.iconst 0, 1) := dk_3 (dk_at dksX7_person_0 1 rfl rfl)
theorem dX7_person_2 : decode cX7_person 2 = .ok (.bipush 11, 2) := dk_16 11 (dk_at dksX7_person_0 2 rfl rfl)
theorem dX7_person_4 : decode cX7_person 4 = .ok (.invokestatic 154, 3) := dk_184 0 154 (dk_at dksX7_person_0 4 rfl rfl)
theorem dX7_person_7 : decode cX7_person 7 = .ok (.ifCond .eq 23, 3) := dk_153 0 23 (dk_at dksX7_person_0 7 rfl rfl)
theorem dX7_person_10 : decode cX7_person 10 = .ok (.iload_n 2, 1) := dk_28 (dk_at dksX7_person_0 10 rfl rfl)
theorem dX7_person_11 : decode cX7_person 11 = .ok (.iload_n 3, 1) := dk_29 (dk_at dksX7_person_0 11 rfl rfl)
theorem dX7_person_12 : decode cX7_person 12 = .ok (.invokestatic 175, 3) := dk_184 0 175 (dk_at dksX7_person_0 12 rfl rfl)
theorem dX7_person_15 : decode cX7_person 15 = .ok (.ifCond .eq 15, 3) := dk_153 0 15 (dk_at dksX7_person_0 15 rfl rfl)
theorem dX7_person_18 : decode cX7_person 18 = .ok (.iload 4, 2) := dk_21 4 (dk_at dksX7_person_0 18 rfl rfl)
theorem dX7_person_20 : decode cX7_person 20 = .ok (.iconst 0, 1) := dk_3 (dk_at dksX7_person_0 20 rfl rfl)
theorem dX7_person_21 : decode cX7_person 21 = .ok (.sipush 1439, 3) := dk_17 5 159 (dk_at dksX7_person_0 21 rfl rfl)
theorem dX7_person_24 : decode cX7_person 24 = .ok (.invokestatic 154, 3) := dk_184 0 154 (dk_at dksX7_person_1 0 rfl rfl)
theorem dX7_person_27 : decode cX7_person 27 = .ok (.ifCond .ne 5, 3) := dk_154 0 5 (dk_at dksX7_person_1 3 rfl rfl)
theorem dX7_person_30 : decode cX7_person 30 = .ok (.iconst 0, 1) := dk_3 (dk_at dksX7_person_1 6 rfl rfl)
theorem dX7_person_31 : decode cX7_person 31 = .ok (.ireturn, 1) := dk_172 (dk_at dksX7_person_1 7 rfl rfl)
theorem dX7_person_32 : decode cX7_person 32 = .ok (.aload_n 0, 1) := dk_42 (dk_at dksX7_person_1 8 rfl rfl)
theorem dX7_person_33 : decode cX7_person 33 = .ok (.getfield 43, 3) := dk_180 0 43 (dk_at dksX7_person_1 9 rfl rfl)
theorem dX7_person_36 : decode cX7_person 36 = .ok (.iload_n 1, 1) := dk_27 (dk_at dksX7_person_1 12 rfl rfl)
theorem dX7_person_37 : decode cX7_person 37 = .ok (.iconst 1, 1) := dk_4 (dk_at dksX7_person_1 13 rfl rfl)
theorem dX7_person_38 : decode cX7_person 38 = .ok (.bastore, 1) := dk_84 (dk_at dksX7_person_1 14 rfl rfl)
theorem dX7_person_39 : decode cX7_person 39 = .ok (.aload_n 0, 1) := dk_42 (dk_at dksX7_person_1 15 rfl rfl)
theorem dX7_person_40 : decode cX7_person 40 = .ok (.getfield 19, 3) := dk_180 0 19 (dk_at dksX7_person_1 16 rfl rfl)
theorem dX7_person_43 : decode cX7_person 43 = .ok (.iload_n 1, 1) := dk_27 (dk_at dksX7_person_1 19 rfl rfl)
theorem dX7_person_44 : decode cX7_person 44 = .ok (.iload_n 2, 1) := dk_28 (dk_at dksX7_person_1 20 rfl rfl)
theorem dX7_person_45 : decode cX7_person 45 = .ok (.iastore, 1) := dk_79 (dk_at dksX7_person_1 21 rfl rfl)
theorem dX7_person_46 : decode cX7_person 46 = .ok (.aload_n 0, 1) := dk_42 (dk_at dksX7_person_1 22 rfl rfl)
theorem dX7_person_47 : decode cX7_person 47 = .ok (.getfield 22, 3) := dk_180 0 22 (dk_at dksX7_person_2 0 rfl rfl)
theorem dX7_person_50 : decode cX7_person 50 = .ok (.iload_n 1, 1) := dk_27 (dk_at dksX7_person_2 3 rfl rfl)
theorem dX7_person_51 : decode cX7_person 51 = .ok (.iload_n 3, 1) := dk_29 (dk_at dksX7_person_2 4 rfl rfl)
theorem dX7_person_52 : decode cX7_person 52 = .ok (.iastore, 1) := dk_79 (dk_at dksX7_person_2 5 rfl rfl)
theorem dX7_person_53 : decode cX7_person 53 = .ok (.aload_n 0, 1) := dk_42 (dk_at dksX7_person_2 6 rfl rfl)
theorem dX7_person_54 : decode cX7_person 54 = .ok (.getfield 25, 3) := dk_180 0 25 (dk_at dksX7_person_2 7 rfl rfl)
theorem dX7_person_57 : decode cX7_person 57 = .ok (.iload_n 1, 1) := dk_27 (dk_at dksX7_person_2 10 rfl rfl)
theorem dX7_person_58 : decode cX7_person 58 = .ok (.iload 4, 2) := dk_21 4 (dk_at dksX7_person_2 11 rfl rfl)
theorem dX7_person_60 : decode cX7_person 60 = .ok (.iastore, 1) := dk_79 (dk_at dksX7_person_2 13 rfl rfl)
theorem dX7_person_61 : decode cX7_person 61 = .ok (.aload_n 0, 1) := dk_42 (dk_at dksX7_person_2 14 rfl rfl)
theorem dX7_person_62 : decode cX7_person 62 = .ok (.getfield 7, 3) := dk_180 0 7 (dk_at dksX7_person_2 15 rfl rfl)
theorem dX7_person_65 : decode cX7_person 65 = .ok (.iconst 0, 1) := dk_3 (dk_at dksX7_person_2 18 rfl rfl)
theorem dX7_person_66 : decode cX7_person 66 = .ok (.iload_n 1, 1) := dk_27 (dk_at dksX7_person_2 19 rfl rfl)
theorem dX7_person_67 : decode cX7_person 67 = .ok (.iadd, 1) := dk_96 (dk_at dksX7_person_2 20 rfl rfl)
theorem dX7_person_68 : decode cX7_person 68 = .ok (.iconst 0, 1) := dk_3 (dk_at dksX7_person_2 21 rfl rfl)
theorem dX7_person_69 : decode cX7_person 69 = .ok (.iastore, 1) := dk_79 (dk_at dksX7_person_2 22 rfl rfl)
theorem dX7_person_70 : decode cX7_person 70 = .ok (.aload_n 0, 1) := dk_42 (dk_at dksX7_person_2 23 rfl rfl)
theorem dX7_person_71 : decode cX7_person 71 = .ok (.getfield 7, 3) := dk_180 0 7 (dk_at dksX7_person_3 0 rfl rfl)
theorem dX7_person_74 : decode cX7_person 74 = .ok (.bipush 12, 2) := dk_16 12 (dk_at dksX7_person_3 3 rfl rfl)
theorem dX7_person_76 : decode cX7_person 76 = .ok (.iload_n 1, 1) := dk_27 (dk_at dksX7_person_3 5 rfl rfl)
theorem dX7_person_77 : decode cX7_person 77 = .ok (.iadd, 1) := dk_96 (dk_at dksX7_person_3 6 rfl rfl)
theorem dX7_person_78 : decode cX7_person 78 = .ok (.iconst 0, 1) := dk_3 (dk_at dksX7_person_3 7 rfl rfl)
theorem dX7_person_79 : decode cX7_person 79 = .ok (.iastore, 1) := dk_79 (dk_at dksX7_person_3 8 rfl rfl)
theorem dX7_person_80 : decode cX7_person 80 = .ok (.iconst 1, 1) := dk_4 (dk_at dksX7_person_3 9 rfl rfl)
theorem dX7_person_81 : decode cX7_person 81 = .ok (.ireturn, 1) := dk_172 (dk_at dksX7_person_3 10 rfl rfl)
abbrev cX7_in : ByteArray := prog_21_method_2_code
def yX7_in : MethodName := ⟨RX7, "in", "(III)Z"⟩
def dkwX7_in_0 : List UInt8 := [26, 27, 161, 0, 12, 26, 28, 163, 0, 7, 4, 167, 0, 4, 3, 172]
abbrev dktX7_in_0 : List UInt8 := dkwX7_in_0 ++ []
theorem dksX7_in_0 : cX7_in.data.toList.drop 0 = dktX7_in_0 := by decide +kernel
theorem dX7_in_0 : decode cX7_in 0 = .ok (.iload_n 0, 1) := dk_26 (dk_at dksX7_in_0 0 rfl rfl)
theorem dX7_in_1 : decode cX7_in 1 = .ok (.iload_n 1, 1) := dk_27 (dk_at dksX7_in_0 1 rfl rfl)
theorem dX7_in_2 : decode cX7_in 2 = .ok (.if_icmp .lt 12, 3) := dk_161 0 12 (dk_at dksX7_in_0 2 rfl rfl)
theorem dX7_in_5 : decode cX7_in 5 = .ok (.iload_n 0, 1) := dk_26 (dk_at dksX7_in_0 5 rfl rfl)
theorem dX7_in_6 : decode cX7_in 6 = .ok (.iload_n 2, 1) := dk_28 (dk_at dksX7_in_0 6 rfl rfl)
theorem dX7_in_7 : decode cX7_in 7 = .ok (.if_icmp .gt 7, 3) := dk_163 0 7 (dk_at dksX7_in_0 7 rfl rfl)
theorem dX7_in_10 : decode cX7_in 10 = .ok (.iconst 1, 1) := dk_4 (dk_at dksX7_in_0 10 rfl rfl)
theorem dX7_in_11 : decode cX7_in 11 = .ok (.goto 4, 3) := dk_167 0 4 (dk_at dksX7_in_0 11 rfl rfl)
theorem dX7_in_14 : decode cX7_in 14 = .ok (.iconst 0, 1) := dk_3 (dk_at dksX7_in_0 14 rfl rfl)
theorem dX7_in_15 : decode cX7_in 15 = .ok (.ireturn, 1) := dk_172 (dk_at dksX7_in_0 15 rfl rfl)
abbrev cX7_areTwo : ByteArray := prog_21_method_9_code
def yX7_areTwo : MethodName := ⟨RX7, "areTwo", "(II)Z"⟩
def dkwX7_areTwo_1 : List UInt8 := [172]
abbrev dktX7_areTwo_1 : List UInt8 := dkwX7_areTwo_1 ++ []
def dkwX7_areTwo_0 : List UInt8 := [26, 184, 0, 158, 153, 0, 19, 27, 184, 0, 158, 153, 0, 12, 26, 27, 159, 0, 7, 4, 167, 0, 4, 3]
abbrev dktX7_areTwo_0 : List UInt8 := dkwX7_areTwo_0 ++ dktX7_areTwo_1
theorem dksX7_areTwo_0 : cX7_areTwo.data.toList.drop 0 = dktX7_areTwo_0 := by decide +kernel
theorem dksX7_areTwo_1 : cX7_areTwo.data.toList.drop 24 = dktX7_areTwo_1 := dk_seg dksX7_areTwo_0 24 rfl rfl
theorem dX7_areTwo_0 : decode cX7_areTwo 0 = .ok (.iload_n 0, 1) := dk_26 (dk_at dksX7_areTwo_0 0 rfl rfl)
theorem dX7_areTwo_1 : decode cX7_areTwo 1 = .ok (.invokestatic 158, 3) := dk_184 0 158 (dk_at dksX7_areTwo_0 1 rfl rfl)
theorem dX7_areTwo_4 : decode cX7_areTwo 4 = .ok (.ifCond .eq 19, 3) := dk_153 0 19 (dk_at dksX7_areTwo_0 4 rfl rfl)
theorem dX7_areTwo_7 : decode cX7_areTwo 7 = .ok (.iload_n 1, 1) := dk_27 (dk_at dksX7_areTwo_0 7 rfl rfl)
theorem dX7_areTwo_8 : decode cX7_areTwo 8 = .ok (.invokestatic 158, 3) := dk_184 0 158 (dk_at dksX7_areTwo_0 8 rfl rfl)
theorem dX7_areTwo_11 : decode cX7_areTwo 11 = .ok (.ifCond .eq 12, 3) := dk_153 0 12 (dk_at dksX7_areTwo_0 11 rfl rfl)
theorem dX7_areTwo_14 : decode cX7_areTwo 14 = .ok (.iload_n 0, 1) := dk_26 (dk_at dksX7_areTwo_0 14 rfl rfl)
theorem dX7_areTwo_15 : decode cX7_areTwo 15 = .ok (.iload_n 1, 1) := dk_27 (dk_at dksX7_areTwo_0 15 rfl rfl)
theorem dX7_areTwo_16 : decode cX7_areTwo 16 = .ok (.if_icmp .eq 7, 3) := dk_159 0 7 (dk_at dksX7_areTwo_0 16 rfl rfl)
theorem dX7_areTwo_19 : decode cX7_areTwo 19 = .ok (.iconst 1, 1) := dk_4 (dk_at dksX7_areTwo_0 19 rfl rfl)
theorem dX7_areTwo_20 : decode cX7_areTwo 20 = .ok (.goto 4, 3) := dk_167 0 4 (dk_at dksX7_areTwo_0 20 rfl rfl)
theorem dX7_areTwo_23 : decode cX7_areTwo 23 = .ok (.iconst 0, 1) := dk_3 (dk_at dksX7_areTwo_0 23 rfl rfl)
theorem dX7_areTwo_24 : decode cX7_areTwo 24 = .ok (.ireturn, 1) := dk_172 (dk_at dksX7_areTwo_1 0 rfl rfl)
abbrev cX7_isStation : ByteArray := prog_21_method_8_code
def yX7_isStation : MethodName := ⟨RX7, "isStation", "(I)Z"⟩
def dkwX7_isStation_0 : List UInt8 := [26, 3, 16, 9, 184, 0, 154, 172]
abbrev dktX7_isStation_0 : List UInt8 := dkwX7_isStation_0 ++ []
theorem dksX7_isStation_0 : cX7_isStation.data.toList.drop 0 = dktX7_isStation_0 := by decide +kernel
theorem dX7_isStation_0 : decode cX7_isStation 0 = .ok (.iload_n 0, 1) := dk_26 (dk_at dksX7_isStation_0 0 rfl rfl)
theorem dX7_isStation_1 : decode cX7_isStation 1 = .ok (.iconst 0, 1) := dk_3 (dk_at dksX7_isStation_0 1 rfl rfl)
theorem dX7_isStation_2 : decode cX7_isStation 2 = .ok (.bipush 9, 2) := dk_16 9 (dk_at dksX7_isStation_0 2 rfl rfl)
theorem dX7_isStation_4 : decode cX7_isStation 4 = .ok (.invokestatic 154, 3) := dk_184 0 154 (dk_at dksX7_isStation_0 4 rfl rfl)
theorem dX7_isStation_7 : decode cX7_isStation 7 = .ok (.ireturn, 1) := dk_172 (dk_at dksX7_isStation_0 7 rfl rfl)
abbrev cX7_changing : ByteArray := prog_21_method_17_code
def yX7_changing : MethodName := ⟨RX7, "changing", "(I)Z"⟩
def dkwX7_changing_0 : List UInt8 := [27, 3, 16, 60, 184, 0, 154, 154, 0, 5, 3, 172, 42, 27, 181, 0, 150, 4, 172]
abbrev dktX7_changing_0 : List UInt8 := dkwX7_changing_0 ++ []
theorem dksX7_changing_0 : cX7_changing.data.toList.drop 0 = dktX7_changing_0 := by decide +kernel
theorem dX7_changing_0 : decode cX7_changing 0 = .ok (.iload_n 1, 1) := dk_27 (dk_at dksX7_changing_0 0 rfl rfl)
theorem dX7_changing_1 : decode cX7_changing 1 = .ok (.iconst 0, 1) := dk_3 (dk_at dksX7_changing_0 1 rfl rfl)
theorem dX7_changing_2 : decode cX7_changing 2 = .ok (.bipush 60, 2) := dk_16 60 (dk_at dksX7_changing_0 2 rfl rfl)
theorem dX7_changing_4 : decode cX7_changing 4 = .ok (.invokestatic 154, 3) := dk_184 0 154 (dk_at dksX7_changing_0 4 rfl rfl)
theorem dX7_changing_7 : decode cX7_changing 7 = .ok (.ifCond .ne 5, 3) := dk_154 0 5 (dk_at dksX7_changing_0 7 rfl rfl)
theorem dX7_changing_10 : decode cX7_changing 10 = .ok (.iconst 0, 1) := dk_3 (dk_at dksX7_changing_0 10 rfl rfl)
theorem dX7_changing_11 : decode cX7_changing 11 = .ok (.ireturn, 1) := dk_172 (dk_at dksX7_changing_0 11 rfl rfl)
theorem dX7_changing_12 : decode cX7_changing 12 = .ok (.aload_n 0, 1) := dk_42 (dk_at dksX7_changing_0 12 rfl rfl)
theorem dX7_changing_13 : decode cX7_changing 13 = .ok (.iload_n 1, 1) := dk_27 (dk_at dksX7_changing_0 13 rfl rfl)
theorem dX7_changing_14 : decode cX7_changing 14 = .ok (.putfield 150, 3) := dk_181 0 150 (dk_at dksX7_changing_0 14 rfl rfl)
theorem dX7_changing_17 : decode cX7_changing 17 = .ok (.iconst 1, 1) := dk_4 (dk_at dksX7_changing_0 17 rfl rfl)
theorem dX7_changing_18 : decode cX7_changing 18 = .ok (.ireturn, 1) := dk_172 (dk_at dksX7_changing_0 18 rfl rfl)
abbrev cX7_feed : ByteArray := prog_21_method_19_code
def yX7_feed : MethodName := ⟨RX7, "feed", "(IIIII)I"⟩
def dkwX7_feed_2 : List UInt8 := [172]
abbrev dktX7_feed_2 : List UInt8 := dkwX7_feed_2 ++ []
def dkwX7_feed_1 : List UInt8 := [182, 0, 182, 42, 29, 182, 0, 182, 42, 21, 4, 182, 0, 182, 42, 21, 5, 182, 0, 182, 42, 180, 0, 179]
abbrev dktX7_feed_1 : List UInt8 := dkwX7_feed_1 ++ dktX7_feed_2
def dkwX7_feed_0 : List UInt8 := [42, 180, 0, 179, 16, 20, 96, 17, 1, 4, 164, 0, 5, 2, 172, 42, 27, 182, 0, 182, 42, 28]
abbrev dktX7_feed_0 : List UInt8 := dkwX7_feed_0 ++ dktX7_feed_1
theorem dksX7_feed_0 : cX7_feed.data.toList.drop 0 = dktX7_feed_0 := by decide +kernel
theorem dksX7_feed_1 : cX7_feed.data.toList.drop 22 = dktX7_feed_1 := dk_seg dksX7_feed_0 22 rfl rfl
theorem dksX7_feed_2 : cX7_feed.data.toList.drop 46 = dktX7_feed_2 := dk_seg dksX7_feed_1 24 rfl rfl
theorem dX7_feed_0 : decode cX7_feed 0 = .ok (.aload_n 0, 1) := dk_42 (dk_at dksX7_feed_0 0 rfl rfl)
theorem dX7_feed_1 : decode cX7_feed 1 = .ok (.getfield 179, 3) := dk_180 0 179 (dk_at dksX7_feed_0 1 rfl rfl)
theorem dX7_feed_4 : decode cX7_feed 4 = .ok (.bipush 20, 2) := dk_16 20 (dk_at dksX7_feed_0 4 rfl rfl)
theorem dX7_feed_6 : decode cX7_feed 6 = .ok (.iadd, 1) := dk_96 (dk_at dksX7_feed_0 6 rfl rfl)
theorem dX7_feed_7 : decode cX7_feed 7 = .ok (.sipush 260, 3) := dk_17 1 4 (dk_at dksX7_feed_0 7 rfl rfl)
theorem dX7_feed_10 : decode cX7_feed 10 = .ok (.if_icmp .le 5, 3) := dk_164 0 5 (dk_at dksX7_feed_0 10 rfl rfl)
theorem dX7_feed_13 : decode cX7_feed 13 = .ok (.iconst (-1), 1) := dk_2 (dk_at dksX7_feed_0 13 rfl rfl)
theorem dX7_feed_14 : decode cX7_feed 14 = .ok (.ireturn, 1) := dk_172 (dk_at dksX7_feed_0 14 rfl rfl)
theorem dX7_feed_15 : decode cX7_feed 15 = .ok (.aload_n 0, 1) := dk_42 (dk_at dksX7_feed_0 15 rfl rfl)
theorem dX7_feed_16 : decode cX7_feed 16 = .ok (.iload_n 1, 1) := dk_27 (dk_at dksX7_feed_0 16 rfl rfl)
theorem dX7_feed_17 : decode cX7_feed 17 = .ok (.invokevirtual 182, 3) := dk_182 0 182 (dk_at dksX7_feed_0 17 rfl rfl)
theorem dX7_feed_20 : decode cX7_feed 20 = .ok (.aload_n 0, 1) := dk_42 (dk_at dksX7_feed_0 20 rfl rfl)
theorem dX7_feed_21 : decode cX7_feed 21 = .ok (.iload_n 2, 1) := dk_28 (dk_at dksX7_feed_0 21 rfl rfl)
theorem dX7_feed_22 : decode cX7_feed 22 = .ok (.invokevirtual 182, 3) := dk_182 0 182 (dk_at dksX7_feed_1 0 rfl rfl)
theorem dX7_feed_25 : decode cX7_feed 25 = .ok (.aload_n 0, 1) := dk_42 (dk_at dksX7_feed_1 3 rfl rfl)
theorem dX7_feed_26 : decode cX7_feed 26 = .ok (.iload_n 3, 1) := dk_29 (dk_at dksX7_feed_1 4 rfl rfl)
theorem dX7_feed_27 : decode cX7_feed 27 = .ok (.invokevirtual 182, 3) := dk_182 0 182 (dk_at dksX7_feed_1 5 rfl rfl)
theorem dX7_feed_30 : decode cX7_feed 30 = .ok (.aload_n 0, 1) := dk_42 (dk_at dksX7_feed_1 8 rfl rfl)
theorem dX7_feed_31 : decode cX7_feed 31 = .ok (.iload 4, 2) := dk_21 4 (dk_at dksX7_feed_1 9 rfl rfl)
theorem dX7_feed_33 : decode cX7_feed 33 = .ok (.invokevirtual 182, 3) := dk_182 0 182 (dk_at dksX7_feed_1 11 rfl rfl)
theorem dX7_feed_36 : decode cX7_feed 36 = .ok (.aload_n 0, 1) := dk_42 (dk_at dksX7_feed_1 14 rfl rfl)
theorem dX7_feed_37 : decode cX7_feed 37 = .ok (.iload 5, 2) := dk_21 5 (dk_at dksX7_feed_1 15 rfl rfl)
theorem dX7_feed_39 : decode cX7_feed 39 = .ok (.invokevirtual 182, 3) := dk_182 0 182 (dk_at dksX7_feed_1 17 rfl rfl)
theorem dX7_feed_42 : decode cX7_feed 42 = .ok (.aload_n 0, 1) := dk_42 (dk_at dksX7_feed_1 20 rfl rfl)
theorem dX7_feed_43 : decode cX7_feed 43 = .ok (.getfield 179, 3) := dk_180 0 179 (dk_at dksX7_feed_1 21 rfl rfl)
theorem dX7_feed_46 : decode cX7_feed 46 = .ok (.ireturn, 1) := dk_172 (dk_at dksX7_feed_2 0 rfl rfl)
abbrev cX7_types : ByteArray := prog_21_method_18_code
def yX7_types : MethodName := ⟨RX7, "types", "(I)V"⟩
def dkwX7_types_1 : List UInt8 := [180, 0, 179, 4, 96, 181, 0, 179, 132, 2, 255, 167, 255, 223, 177]
abbrev dktX7_types_1 : List UInt8 := dkwX7_types_1 ++ []
def dkwX7_types_0 : List UInt8 := [6, 61, 28, 155, 0, 35, 42, 180, 0, 50, 42, 180, 0, 179, 27, 16, 8, 28, 104, 122, 145, 84, 42, 42]
abbrev dktX7_types_0 : List UInt8 := dkwX7_types_0 ++ dktX7_types_1
theorem dksX7_types_0 : cX7_types.data.toList.drop 0 = dktX7_types_0 := by decide +kernel
theorem dksX7_types_1 : cX7_types.data.toList.drop 24 = dktX7_types_1 := dk_seg dksX7_types_0 24 rfl rfl
theorem dX7_types_0 : decode cX7_types 0 = .ok (.iconst 3, 1) := dk_6 (dk_at dksX7_types_0 0 rfl rfl)
theorem dX7_types_1 : decode cX7_types 1 = .ok (.istore_n 2, 1) := dk_61 (dk_at dksX7_types_0 1 rfl rfl)
theorem dX7_types_2 : decode cX7_types 2 = .ok (.iload_n 2, 1) := dk_28 (dk_at dksX7_types_0 2 rfl rfl)
theorem dX7_types_3 : decode cX7_types 3 = .ok (.ifCond .lt 35, 3) := dk_155 0 35 (dk_at dksX7_types_0 3 rfl rfl)
theorem dX7_types_6 : decode cX7_types 6 = .ok (.aload_n 0, 1) := dk_42 (dk_at dksX7_types_0 6 rfl rfl)
theorem dX7_types_7 : decode cX7_types 7 = .ok (.getfield 50, 3) := dk_180 0 50 (dk_at dksX7_types_0 7 rfl rfl)
theorem dX7_types_10 : decode cX7_types 10 = .ok (.aload_n 0, 1) := dk_42 (dk_at dksX7_types_0 10 rfl rfl)
theorem dX7_types_11 : decode cX7_types 11 = .ok (.getfield 179, 3) := dk_180 0 179 (dk_at dksX7_types_0 11 rfl rfl)
theorem dX7_types_14 : decode cX7_types 14 = .ok (.iload_n 1, 1) := dk_27 (dk_at dksX7_types_0 14 rfl rfl)
theorem dX7_types_15 : decode cX7_types 15 = .ok (.bipush 8, 2) := dk_16 8 (dk_at dksX7_types_0 15 rfl rfl)
theorem dX7_types_17 : decode cX7_types 17 = .ok (.iload_n 2, 1) := dk_28 (dk_at dksX7_types_0 17 rfl rfl)
theorem dX7_types_18 : decode cX7_types 18 = .ok (.imul, 1) := dk_104 (dk_at dksX7_types_0 18 rfl rfl)
theorem dX7_types_19 : decode cX7_types 19 = .ok (.ishr, 1) := dk_122 (dk_at dksX7_types_0 19 rfl rfl)
theorem dX7_types_20 : decode cX7_types 20 = .ok (.i2b, 1) := dk_145 (dk_at dksX7_types_0 20 rfl rfl)
theorem dX7_types_21 : decode cX7_types 21 = .ok (.bastore, 1) := dk_84 (dk_at dksX7_types_0 21 rfl rfl)
theorem dX7_types_22 : decode cX7_types 22 = .ok (.aload_n 0, 1) := dk_42 (dk_at dksX7_types_0 22 rfl rfl)
theorem dX7_types_23 : decode cX7_types 23 = .ok (.aload_n 0, 1) := dk_42 (dk_at dksX7_types_0 23 rfl rfl)
theorem dX7_types_24 : decode cX7_types 24 = .ok (.getfield 179, 3) := dk_180 0 179 (dk_at dksX7_types_1 0 rfl rfl)
theorem dX7_types_27 : decode cX7_types 27 = .ok (.iconst 1, 1) := dk_4 (dk_at dksX7_types_1 3 rfl rfl)
theorem dX7_types_28 : decode cX7_types 28 = .ok (.iadd, 1) := dk_96 (dk_at dksX7_types_1 4 rfl rfl)
theorem dX7_types_29 : decode cX7_types 29 = .ok (.putfield 179, 3) := dk_181 0 179 (dk_at dksX7_types_1 5 rfl rfl)
theorem dX7_types_32 : decode cX7_types 32 = .ok (.iinc 2 (-1), 3) := dk_132 2 255 (dk_at dksX7_types_1 8 rfl rfl)
theorem dX7_types_35 : decode cX7_types 35 = .ok (.goto (-33), 3) := dk_167 255 223 (dk_at dksX7_types_1 11 rfl rfl)
theorem dX7_types_38 : decode cX7_types 38 = .ok (.return_, 1) := dk_177 (dk_at dksX7_types_1 14 rfl rfl)
abbrev cX7_law : ByteArray := prog_21_method_42_code
def yX7_law : MethodName := ⟨RX7, "law", "(I)I"⟩
def dkwX7_law_7 : List UInt8 := [79, 42, 180, 0, 84, 29, 42, 180, 0, 69, 29, 46, 79, 132, 3, 1, 167, 255, 197, 42, 180, 1, 8, 172]
abbrev dktX7_law_7 : List UInt8 := dkwX7_law_7 ++ []
def dkwX7_law_6 : List UInt8 := [79, 42, 180, 0, 78, 29, 42, 180, 0, 63, 29, 46, 79, 42, 180, 0, 81, 29, 42, 180, 0, 66, 29, 46]
abbrev dktX7_law_6 : List UInt8 := dkwX7_law_6 ++ dktX7_law_7
def dkwX7_law_5 : List UInt8 := [167, 255, 233, 3, 62, 29, 42, 180, 1, 8, 162, 0, 57, 42, 180, 0, 75, 29, 42, 180, 0, 60, 29, 46]
abbrev dktX7_law_5 : List UInt8 := dkwX7_law_5 ++ dktX7_law_6
def dkwX7_law_4 : List UInt8 := [29, 42, 180, 0, 209, 162, 0, 21, 42, 180, 0, 72, 29, 42, 180, 0, 54, 29, 46, 79, 132, 3, 1]
abbrev dktX7_law_4 : List UInt8 := dkwX7_law_4 ++ dktX7_law_5
def dkwX7_law_3 : List UInt8 := [42, 3, 181, 0, 179, 28, 154, 0, 8, 42, 180, 0, 196, 172, 42, 42, 180, 1, 8, 181, 1, 23, 3, 62]
abbrev dktX7_law_3 : List UInt8 := dkwX7_law_3 ++ dktX7_law_4
def dkwX7_law_2 : List UInt8 := [16, 59, 182, 1, 20, 153, 0, 14, 42, 182, 1, 17, 153, 0, 7, 4, 167, 0, 4, 3, 61, 167, 255, 219]
abbrev dktX7_law_2 : List UInt8 := dkwX7_law_2 ++ dktX7_law_3
def dkwX7_law_1 : List UInt8 := [182, 1, 14, 42, 182, 1, 17, 61, 28, 153, 0, 39, 42, 180, 0, 186, 42, 180, 0, 189, 162, 0, 28, 42]
abbrev dktX7_law_1 : List UInt8 := dkwX7_law_1 ++ dktX7_law_2
def dkwX7_law_0 : List UInt8 := [27, 4, 17, 0, 240, 184, 0, 154, 153, 0, 11, 27, 42, 180, 0, 179, 164, 0, 5, 2, 172, 42, 27]
abbrev dktX7_law_0 : List UInt8 := dkwX7_law_0 ++ dktX7_law_1
theorem dksX7_law_0 : cX7_law.data.toList.drop 0 = dktX7_law_0 := by decide +kernel
theorem dksX7_law_1 : cX7_law.data.toList.drop 23 = dktX7_law_1 := dk_seg dksX7_law_0 23 rfl rfl
theorem dksX7_law_2 : cX7_law.data.toList.drop 47 = dktX7_law_2 := dk_seg dksX7_law_1 24 rfl rfl
theorem dksX7_law_3 : cX7_law.data.toList.drop 71 = dktX7_law_3 := dk_seg dksX7_law_2 24 rfl rfl
theorem dksX7_law_4 : cX7_law.data.toList.drop 95 = dktX7_law_4 := dk_seg dksX7_law_3 24 rfl rfl
theorem dksX7_law_5 : cX7_law.data.toList.drop 118 = dktX7_law_5 := dk_seg dksX7_law_4 23 rfl rfl
theorem dksX7_law_6 : cX7_law.data.toList.drop 142 = dktX7_law_6 := dk_seg dksX7_law_5 24 rfl rfl
theorem dksX7_law_7 : cX7_law.data.toList.drop 166 = dktX7_law_7 := dk_seg dksX7_law_6 24 rfl rfl
theorem dX7_law_0 : decode cX7_law 0 = .ok (.iload_n 1, 1) := dk_27 (dk_at dksX7_law_0 0 rfl rfl)
theorem dX7_law_1 : decode cX7_law 1 = .ok (.iconst 1, 1) := dk_4 (dk_at dksX7_law_0 1 rfl rfl)
theorem dX7_law_2 : decode cX7_law 2 = .ok (.sipush 240, 3) := dk_17 0 240 (dk_at dksX7_law_0 2 rfl rfl)
theorem dX7_law_5 : decode cX7_law 5 = .ok (.invokestatic 154, 3) := dk_184 0 154 (dk_at dksX7_law_0 5 rfl rfl)
theorem dX7_law_8 : decode cX7_law 8 = .ok (.ifCond .eq 11, 3) := dk_153 0 11 (dk_at dksX7_law_0 8 rfl rfl)
theorem dX7_law_11 : decode cX7_law 11 = .ok (.iload_n 1, 1) := dk_27 (dk_at dksX7_law_0 11 rfl rfl)
theorem dX7_law_12 : decode cX7_law 12 = .ok (.aload_n 0, 1) := dk_42 (dk_at dksX7_law_0 12 rfl rfl)
theorem dX7_law_13 : decode cX7_law 13 = .ok (.getfield 179, 3) := dk_180 0 179 (dk_at dksX7_law_0 13 rfl rfl)
theorem dX7_law_16 : decode cX7_law 16 = .ok (.if_icmp .le 5, 3) := dk_164 0 5 (dk_at dksX7_law_0 16 rfl rfl)
theorem dX7_law_19 : decode cX7_law 19 = .ok (.iconst (-1), 1) := dk_2 (dk_at dksX7_law_0 19 rfl rfl)
theorem dX7_law_20 : decode cX7_law 20 = .ok (.ireturn, 1) := dk_172 (dk_at dksX7_law_0 20 rfl rfl)
theorem dX7_law_21 : decode cX7_law 21 = .ok (.aload_n 0, 1) := dk_42 (dk_at dksX7_law_0 21 rfl rfl)
theorem dX7_law_22 : decode cX7_law 22 = .ok (.iload_n 1, 1) := dk_27 (dk_at dksX7_law_0 22 rfl rfl)
theorem dX7_law_23 : decode cX7_law 23 = .ok (.invokevirtual 270, 3) := dk_182 1 14 (dk_at dksX7_law_1 0 rfl rfl)
theorem dX7_law_26 : decode cX7_law 26 = .ok (.aload_n 0, 1) := dk_42 (dk_at dksX7_law_1 3 rfl rfl)
theorem dX7_law_27 : decode cX7_law 27 = .ok (.invokevirtual 273, 3) := dk_182 1 17 (dk_at dksX7_law_1 4 rfl rfl)
theorem dX7_law_30 : decode cX7_law 30 = .ok (.istore_n 2, 1) := dk_61 (dk_at dksX7_law_1 7 rfl rfl)
theorem dX7_law_31 : decode cX7_law 31 = .ok (.iload_n 2, 1) := dk_28 (dk_at dksX7_law_1 8 rfl rfl)
theorem dX7_law_32 : decode cX7_law 32 = .ok (.ifCond .eq 39, 3) := dk_153 0 39 (dk_at dksX7_law_1 9 rfl rfl)
theorem dX7_law_35 : decode cX7_law 35 = .ok (.aload_n 0, 1) := dk_42 (dk_at dksX7_law_1 12 rfl rfl)
theorem dX7_law_36 : decode cX7_law 36 = .ok (.getfield 186, 3) := dk_180 0 186 (dk_at dksX7_law_1 13 rfl rfl)
theorem dX7_law_39 : decode cX7_law 39 = .ok (.aload_n 0, 1) := dk_42 (dk_at dksX7_law_1 16 rfl rfl)
theorem dX7_law_40 : decode cX7_law 40 = .ok (.getfield 189, 3) := dk_180 0 189 (dk_at dksX7_law_1 17 rfl rfl)
theorem dX7_law_43 : decode cX7_law 43 = .ok (.if_icmp .ge 28, 3) := dk_162 0 28 (dk_at dksX7_law_1 20 rfl rfl)
theorem dX7_law_46 : decode cX7_law 46 = .ok (.aload_n 0, 1) := dk_42 (dk_at dksX7_law_1 23 rfl rfl)
theorem dX7_law_47 : decode cX7_law 47 = .ok (.bipush 59, 2) := dk_16 59 (dk_at dksX7_law_2 0 rfl rfl)
theorem dX7_law_49 : decode cX7_law 49 = .ok (.invokevirtual 276, 3) := dk_182 1 20 (dk_at dksX7_law_2 2 rfl rfl)
theorem dX7_law_52 : decode cX7_law 52 = .ok (.ifCond .eq 14, 3) := dk_153 0 14 (dk_at dksX7_law_2 5 rfl rfl)
theorem dX7_law_55 : decode cX7_law 55 = .ok (.aload_n 0, 1) := dk_42 (dk_at dksX7_law_2 8 rfl rfl)
theorem dX7_law_56 : decode cX7_law 56 = .ok (.invokevirtual 273, 3) := dk_182 1 17 (dk_at dksX7_law_2 9 rfl rfl)
theorem dX7_law_59 : decode cX7_law 59 = .ok (.ifCond .eq 7, 3) := dk_153 0 7 (dk_at dksX7_law_2 12 rfl rfl)
theorem dX7_law_62 : decode cX7_law 62 = .ok (.iconst 1, 1) := dk_4 (dk_at dksX7_law_2 15 rfl rfl)
theorem dX7_law_63 : decode cX7_law 63 = .ok (.goto 4, 3) := dk_167 0 4 (dk_at dksX7_law_2 16 rfl rfl)
theorem dX7_law_66 : decode cX7_law 66 = .ok (.iconst 0, 1) := dk_3 (dk_at dksX7_law_2 19 rfl rfl)
theorem dX7_law_67 : decode cX7_law 67 = .ok (.istore_n 2, 1) := dk_61 (dk_at dksX7_law_2 20 rfl rfl)
theorem dX7_law_68 : decode cX7_law 68 = .ok (.goto (-37), 3) := dk_167 255 219 (dk_at dksX7_law_2 21 rfl rfl)
theorem dX7_law_71 : decode cX7_law 71 = .ok (.aload_n 0, 1) := dk_42 (dk_at dksX7_law_3 0 rfl rfl)
theorem dX7_law_72 : decode cX7_law 72 = .ok (.iconst 0, 1) := dk_3 (dk_at dksX7_law_3 1 rfl rfl)
theorem dX7_law_73 : decode cX7_law 73 = .ok (.putfield 179, 3) := dk_181 0 179 (dk_at dksX7_law_3 2 rfl rfl)
theorem dX7_law_76 : decode cX7_law 76 = .ok (.iload_n 2, 1) := dk_28 (dk_at dksX7_law_3 5 rfl rfl)
theorem dX7_law_77 : decode cX7_law 77 = .ok (.ifCond .ne 8, 3) := dk_154 0 8 (dk_at dksX7_law_3 6 rfl rfl)
theorem dX7_law_80 : decode cX7_law 80 = .ok (.aload_n 0, 1) := dk_42 (dk_at dksX7_law_3 9 rfl rfl)
theorem dX7_law_81 : decode cX7_law 81 = .ok (.getfield 196, 3) := dk_180 0 196 (dk_at dksX7_law_3 10 rfl rfl)
theorem dX7_law_84 : decode cX7_law 84 = .ok (.ireturn, 1) := dk_172 (dk_at dksX7_law_3 13 rfl rfl)
theorem dX7_law_85 : decode cX7_law 85 = .ok (.aload_n 0, 1) := dk_42 (dk_at dksX7_law_3 14 rfl rfl)
theorem dX7_law_86 : decode cX7_law 86 = .ok (.aload_n 0, 1) := dk_42 (dk_at dksX7_law_3 15 rfl rfl)
theorem dX7_law_87 : decode cX7_law 87 = .ok (.getfield 264, 3) := dk_180 1 8 (dk_at dksX7_law_3 16 rfl rfl)
theorem dX7_law_90 : decode cX7_law 90 = .ok (.putfield 279, 3) := dk_181 1 23 (dk_at dksX7_law_3 19 rfl rfl)
theorem dX7_law_93 : decode cX7_law 93 = .ok (.iconst 0, 1) := dk_3 (dk_at dksX7_law_3 22 rfl rfl)
theorem dX7_law_94 : decode cX7_law 94 = .ok (.istore_n 3, 1) := dk_62 (dk_at dksX7_law_3 23 rfl rfl)
theorem dX7_law_95 : decode cX7_law 95 = .ok (.iload_n 3, 1) := dk_29 (dk_at dksX7_law_4 0 rfl rfl)
theorem dX7_law_96 : decode cX7_law 96 = .ok (.aload_n 0, 1) := dk_42 (dk_at dksX7_law_4 1 rfl rfl)
theorem dX7_law_97 : decode cX7_law 97 = .ok (.getfield 209, 3) := dk_180 0 209 (dk_at dksX7_law_4 2 rfl rfl)
theorem dX7_law_100 : decode cX7_law 100 = .ok (.if_icmp .ge 21, 3) := dk_162 0 21 (dk_at dksX7_law_4 5 rfl rfl)
theorem dX7_law_103 : decode cX7_law 103 = .ok (.aload_n 0, 1) := dk_42 (dk_at dksX7_law_4 8 rfl rfl)
theorem dX7_law_104 : decode cX7_law 104 = .ok (.getfield 72, 3) := dk_180 0 72 (dk_at dksX7_law_4 9 rfl rfl)
theorem dX7_law_107 : decode cX7_law 107 = .ok (.iload_n 3, 1) := dk_29 (dk_at dksX7_law_4 12 rfl rfl)
theorem dX7_law_108 : decode cX7_law 108 = .ok (.aload_n 0, 1) := dk_42 (dk_at dksX7_law_4 13 rfl rfl)
theorem dX7_law_109 : decode cX7_law 109 = .ok (.getfield 54, 3) := dk_180 0 54 (dk_at dksX7_law_4 14 rfl rfl)
theorem dX7_law_112 : decode cX7_law 112 = .ok (.iload_n 3, 1) := dk_29 (dk_at dksX7_law_4 17 rfl rfl)
theorem dX7_law_113 : decode cX7_law 113 = .ok (.iaload, 1) := dk_46 (dk_at dksX7_law_4 18 rfl rfl)
theorem dX7_law_114 : decode cX7_law 114 = .ok (.iastore, 1) := dk_79 (dk_at dksX7_law_4 19 rfl rfl)
theorem dX7_law_115 : decode cX7_law 115 = .ok (.iinc 3 1, 3) := dk_132 3 1 (dk_at dksX7_law_4 20 rfl rfl)
theorem dX7_law_118 : decode cX7_law 118 = .ok (.goto (-23), 3) := dk_167 255 233 (dk_at dksX7_law_5 0 rfl rfl)
theorem dX7_law_121 : decode cX7_law 121 = .ok (.iconst 0, 1) := dk_3 (dk_at dksX7_law_5 3 rfl rfl)
theorem dX7_law_122 : decode cX7_law 122 = .ok (.istore_n 3, 1) := dk_62 (dk_at dksX7_law_5 4 rfl rfl)
theorem dX7_law_123 : decode cX7_law 123 = .ok (.iload_n 3, 1) := dk_29 (dk_at dksX7_law_5 5 rfl rfl)
theorem dX7_law_124 : decode cX7_law 124 = .ok (.aload_n 0, 1) := dk_42 (dk_at dksX7_law_5 6 rfl rfl)
theorem dX7_law_125 : decode cX7_law 125 = .ok (.getfield 264, 3) := dk_180 1 8 (dk_at dksX7_law_5 7 rfl rfl)
theorem dX7_law_128 : decode cX7_law 128 = .ok (.if_icmp .ge 57, 3) := dk_162 0 57 (dk_at dksX7_law_5 10 rfl rfl)
theorem dX7_law_131 : decode cX7_law 131 = .ok (.aload_n 0, 1) := dk_42 (dk_at dksX7_law_5 13 rfl rfl)
theorem dX7_law_132 : decode cX7_law 132 = .ok (.getfield 75, 3) := dk_180 0 75 (dk_at dksX7_law_5 14 rfl rfl)
theorem dX7_law_135 : decode cX7_law 135 = .ok (.iload_n 3, 1) := dk_29 (dk_at dksX7_law_5 17 rfl rfl)
theorem dX7_law_136 : decode cX7_law 136 = .ok (.aload_n 0, 1) := dk_42 (dk_at dksX7_law_5 18 rfl rfl)
theorem dX7_law_137 : decode cX7_law 137 = .ok (.getfield 60, 3) := dk_180 0 60 (dk_at dksX7_law_5 19 rfl rfl)
theorem dX7_law_140 : decode cX7_law 140 = .ok (.iload_n 3, 1) := dk_29 (dk_at dksX7_law_5 22 rfl rfl)
theorem dX7_law_141 : decode cX7_law 141 = .ok (.iaload, 1) := dk_46 (dk_at dksX7_law_5 23 rfl rfl)
theorem dX7_law_142 : decode cX7_law 142 = .ok (.iastore, 1) := dk_79 (dk_at dksX7_law_6 0 rfl rfl)
theorem dX7_law_143 : decode cX7_law 143 = .ok (.aload_n 0, 1) := dk_42 (dk_at dksX7_law_6 1 rfl rfl)
theorem dX7_law_144 : decode cX7_law 144 = .ok (.getfield 78, 3) := dk_180 0 78 (dk_at dksX7_law_6 2 rfl rfl)
theorem dX7_law_147 : decode cX7_law 147 = .ok (.iload_n 3, 1) := dk_29 (dk_at dksX7_law_6 5 rfl rfl)
theorem dX7_law_148 : decode cX7_law 148 = .ok (.aload_n 0, 1) := dk_42 (dk_at dksX7_law_6 6 rfl rfl)
theorem dX7_law_149 : decode cX7_law 149 = .ok (.getfield 63, 3) := dk_180 0 63 (dk_at dksX7_law_6 7 rfl rfl)
theorem dX7_law_152 : decode cX7_law 152 = .ok (.iload_n 3, 1) := dk_29 (dk_at dksX7_law_6 10 rfl rfl)
theorem dX7_law_153 : decode cX7_law 153 = .ok (.iaload, 1) := dk_46 (dk_at dksX7_law_6 11 rfl rfl)
theorem dX7_law_154 : decode cX7_law 154 = .ok (.iastore, 1) := dk_79 (dk_at dksX7_law_6 12 rfl rfl)
theorem dX7_law_155 : decode cX7_law 155 = .ok (.aload_n 0, 1) := dk_42 (dk_at dksX7_law_6 13 rfl rfl)
theorem dX7_law_156 : decode cX7_law 156 = .ok (.getfield 81, 3) := dk_180 0 81 (dk_at dksX7_law_6 14 rfl rfl)
theorem dX7_law_159 : decode cX7_law 159 = .ok (.iload_n 3, 1) := dk_29 (dk_at dksX7_law_6 17 rfl rfl)
theorem dX7_law_160 : decode cX7_law 160 = .ok (.aload_n 0, 1) := dk_42 (dk_at dksX7_law_6 18 rfl rfl)
theorem dX7_law_161 : decode cX7_law 161 = .ok (.getfield 66, 3) := dk_180 0 66 (dk_at dksX7_law_6 19 rfl rfl)
theorem dX7_law_164 : decode cX7_law 164 = .ok (.iload_n 3, 1) := dk_29 (dk_at dksX7_law_6 22 rfl rfl)
theorem dX7_law_165 : decode cX7_law 165 = .ok (.iaload, 1) := dk_46 (dk_at dksX7_law_6 23 rfl rfl)
theorem dX7_law_166 : decode cX7_law 166 = .ok (.iastore, 1) := dk_79 (dk_at dksX7_law_7 0 rfl rfl)
theorem dX7_law_167 : decode cX7_law 167 = .ok (.aload_n 0, 1) := dk_42 (dk_at dksX7_law_7 1 rfl rfl)
theorem dX7_law_168 : decode cX7_law 168 = .ok (.getfield 84, 3) := dk_180 0 84 (dk_at dksX7_law_7 2 rfl rfl)
theorem dX7_law_171 : decode cX7_law 171 = .ok (.iload_n 3, 1) := dk_29 (dk_at dksX7_law_7 5 rfl rfl)
theorem dX7_law_172 : decode cX7_law 172 = .ok (.aload_n 0, 1) := dk_42 (dk_at dksX7_law_7 6 rfl rfl)
theorem dX7_law_173 : decode cX7_law 173 = .ok (.getfield 69, 3) := dk_180 0 69 (dk_at dksX7_law_7 7 rfl rfl)
theorem dX7_law_176 : decode cX7_law 176 = .ok (.iload_n 3, 1) := dk_29 (dk_at dksX7_law_7 10 rfl rfl)
theorem dX7_law_177 : decode cX7_law 177 = .ok (.iaload, 1) := dk_46 (dk_at dksX7_law_7 11 rfl rfl)
theorem dX7_law_178 : decode cX7_law 178 = .ok (.iastore, 1) := dk_79 (dk_at dksX7_law_7 12 rfl rfl)
theorem dX7_law_179 : decode cX7_law 179 = .ok (.iinc 3 1, 3) := dk_132 3 1 (dk_at dksX7_law_7 13 rfl rfl)
theorem dX7_law_182 : decode cX7_law 182 = .ok (.goto (-59), 3) := dk_167 255 197 (dk_at dksX7_law_7 16 rfl rfl)
theorem dX7_law_185 : decode cX7_law 185 = .ok (.aload_n 0, 1) := dk_42 (dk_at dksX7_law_7 19 rfl rfl)
theorem dX7_law_186 : decode cX7_law 186 = .ok (.getfield 264, 3) := dk_180 1 8 (dk_at dksX7_law_7 20 rfl rfl)
theorem dX7_law_189 : decode cX7_law 189 = .ok (.ireturn, 1) := dk_172 (dk_at dksX7_law_7 23 rfl rfl)
abbrev cX7_beginsText : ByteArray := prog_21_method_41_code
def yX7_beginsText : MethodName := ⟨RX7, "beginsText", "(I)V"⟩
def dkwX7_beginsText_0 : List UInt8 := [42, 3, 181, 0, 186, 42, 27, 181, 0, 189, 42, 3, 181, 0, 209, 42, 3, 181, 1, 8, 177]
abbrev dktX7_beginsText_0 : List UInt8 := dkwX7_beginsText_0 ++ []
theorem dksX7_beginsText_0 : cX7_beginsText.data.toList.drop 0 = dktX7_beginsText_0 := by decide +kernel
theorem dX7_beginsText_0 : decode cX7_beginsText 0 = .ok (.aload_n 0, 1) := dk_42 (dk_at dksX7_beginsText_0 0 rfl rfl)
theorem dX7_beginsText_1 : decode cX7_beginsText 1 = .ok (.iconst 0, 1) := dk_3 (dk_at dksX7_beginsText_0 1 rfl rfl)
theorem dX7_beginsText_2 : decode cX7_beginsText 2 = .ok (.putfield 186, 3) := dk_181 0 186 (dk_at dksX7_beginsText_0 2 rfl rfl)
theorem dX7_beginsText_5 : decode cX7_beginsText 5 = .ok (.aload_n 0, 1) := dk_42 (dk_at dksX7_beginsText_0 5 rfl rfl)
theorem dX7_beginsText_6 : decode cX7_beginsText 6 = .ok (.iload_n 1, 1) := dk_27 (dk_at dksX7_beginsText_0 6 rfl rfl)
theorem dX7_beginsText_7 : decode cX7_beginsText 7 = .ok (.putfield 189, 3) := dk_181 0 189 (dk_at dksX7_beginsText_0 7 rfl rfl)
theorem dX7_beginsText_10 : decode cX7_beginsText 10 = .ok (.aload_n 0, 1) := dk_42 (dk_at dksX7_beginsText_0 10 rfl rfl)
theorem dX7_beginsText_11 : decode cX7_beginsText 11 = .ok (.iconst 0, 1) := dk_3 (dk_at dksX7_beginsText_0 11 rfl rfl)
theorem dX7_beginsText_12 : decode cX7_beginsText 12 = .ok (.putfield 209, 3) := dk_181 0 209 (dk_at dksX7_beginsText_0 12 rfl rfl)
theorem dX7_beginsText_15 : decode cX7_beginsText 15 = .ok (.aload_n 0, 1) := dk_42 (dk_at dksX7_beginsText_0 15 rfl rfl)
theorem dX7_beginsText_16 : decode cX7_beginsText 16 = .ok (.iconst 0, 1) := dk_3 (dk_at dksX7_beginsText_0 16 rfl rfl)
theorem dX7_beginsText_17 : decode cX7_beginsText 17 = .ok (.putfield 264, 3) := dk_181 1 8 (dk_at dksX7_beginsText_0 17 rfl rfl)
theorem dX7_beginsText_20 : decode cX7_beginsText 20 = .ok (.return_, 1) := dk_177 (dk_at dksX7_beginsText_0 20 rfl rfl)
abbrev cX7_readsRule : ByteArray := prog_21_method_40_code
def yX7_readsRule : MethodName := ⟨RX7, "readsRule", "()Z"⟩
def dkwX7_readsRule_6 : List UInt8 := [180, 0, 209, 79, 42, 42, 180, 1, 8, 4, 96, 181, 1, 8, 4, 172]
abbrev dktX7_readsRule_6 : List UInt8 := dkwX7_readsRule_6 ++ []
def dkwX7_readsRule_5 : List UInt8 := [180, 0, 209, 79, 42, 182, 1, 11, 154, 0, 5, 3, 172, 42, 180, 0, 69, 42, 180, 1, 8, 42]
abbrev dktX7_readsRule_5 : List UInt8 := dkwX7_readsRule_5 ++ dktX7_readsRule_6
def dkwX7_readsRule_4 : List UInt8 := [16, 109, 159, 0, 12, 42, 182, 0, 249, 154, 0, 5, 3, 172, 42, 180, 0, 66, 42, 180, 1, 8, 42]
abbrev dktX7_readsRule_4 : List UInt8 := dkwX7_readsRule_4 ++ dktX7_readsRule_5
def dkwX7_readsRule_3 : List UInt8 := [42, 180, 0, 63, 42, 180, 1, 8, 42, 180, 0, 209, 79, 42, 3, 181, 0, 213, 42, 3, 181, 0, 216, 27]
abbrev dktX7_readsRule_3 : List UInt8 := dkwX7_readsRule_3 ++ dktX7_readsRule_4
def dkwX7_readsRule_2 : List UInt8 := [182, 0, 199, 172, 42, 180, 0, 60, 42, 180, 1, 8, 27, 79, 42, 42, 180, 0, 186, 4, 96, 181, 0, 186]
abbrev dktX7_readsRule_2 : List UInt8 := dkwX7_readsRule_2 ++ dktX7_readsRule_3
def dkwX7_readsRule_1 : List UInt8 := [4, 42, 180, 0, 186, 182, 0, 199, 172, 42, 180, 1, 8, 16, 16, 160, 0, 13, 42, 7, 42, 180, 0, 186]
abbrev dktX7_readsRule_1 : List UInt8 := dkwX7_readsRule_1 ++ dktX7_readsRule_2
def dkwX7_readsRule_0 : List UInt8 := [42, 182, 0, 192, 60, 27, 16, 100, 159, 0, 25, 27, 16, 99, 159, 0, 19, 27, 16, 109, 159, 0, 13, 42]
abbrev dktX7_readsRule_0 : List UInt8 := dkwX7_readsRule_0 ++ dktX7_readsRule_1
theorem dksX7_readsRule_0 : cX7_readsRule.data.toList.drop 0 = dktX7_readsRule_0 := by decide +kernel
theorem dksX7_readsRule_1 : cX7_readsRule.data.toList.drop 24 = dktX7_readsRule_1 := dk_seg dksX7_readsRule_0 24 rfl rfl
theorem dksX7_readsRule_2 : cX7_readsRule.data.toList.drop 48 = dktX7_readsRule_2 := dk_seg dksX7_readsRule_1 24 rfl rfl
theorem dksX7_readsRule_3 : cX7_readsRule.data.toList.drop 72 = dktX7_readsRule_3 := dk_seg dksX7_readsRule_2 24 rfl rfl
theorem dksX7_readsRule_4 : cX7_readsRule.data.toList.drop 96 = dktX7_readsRule_4 := dk_seg dksX7_readsRule_3 24 rfl rfl
theorem dksX7_readsRule_5 : cX7_readsRule.data.toList.drop 119 = dktX7_readsRule_5 := dk_seg dksX7_readsRule_4 23 rfl rfl
theorem dksX7_readsRule_6 : cX7_readsRule.data.toList.drop 141 = dktX7_readsRule_6 := dk_seg dksX7_readsRule_5 22 rfl rfl
theorem dX7_readsRule_0 : decode cX7_readsRule 0 = .ok (.aload_n 0, 1) := dk_42 (dk_at dksX7_readsRule_0 0 rfl rfl)
theorem dX7_readsRule_1 : decode cX7_readsRule 1 = .ok (.invokevirtual 192, 3) := dk_182 0 192 (dk_at dksX7_readsRule_0 1 rfl rfl)
theorem dX7_readsRule_4 : decode cX7_readsRule 4 = .ok (.istore_n 1, 1) := dk_60 (dk_at dksX7_readsRule_0 4 rfl rfl)
theorem dX7_readsRule_5 : decode cX7_readsRule 5 = .ok (.iload_n 1, 1) := dk_27 (dk_at dksX7_readsRule_0 5 rfl rfl)
theorem dX7_readsRule_6 : decode cX7_readsRule 6 = .ok (.bipush 100, 2) := dk_16 100 (dk_at dksX7_readsRule_0 6 rfl rfl)
theorem dX7_readsRule_8 : decode cX7_readsRule 8 = .ok (.if_icmp .eq 25, 3) := dk_159 0 25 (dk_at dksX7_readsRule_0 8 rfl rfl)
theorem dX7_readsRule_11 : decode cX7_readsRule 11 = .ok (.iload_n 1, 1) := dk_27 (dk_at dksX7_readsRule_0 11 rfl rfl)
theorem dX7_readsRule_12 : decode cX7_readsRule 12 = .ok (.bipush 99, 2) := dk_16 99 (dk_at dksX7_readsRule_0 12 rfl rfl)
theorem dX7_readsRule_14 : decode cX7_readsRule 14 = .ok (.if_icmp .eq 19, 3) := dk_159 0 19 (dk_at dksX7_readsRule_0 14 rfl rfl)
theorem dX7_readsRule_17 : decode cX7_readsRule 17 = .ok (.iload_n 1, 1) := dk_27 (dk_at dksX7_readsRule_0 17 rfl rfl)
theorem dX7_readsRule_18 : decode cX7_readsRule 18 = .ok (.bipush 109, 2) := dk_16 109 (dk_at dksX7_readsRule_0 18 rfl rfl)
theorem dX7_readsRule_20 : decode cX7_readsRule 20 = .ok (.if_icmp .eq 13, 3) := dk_159 0 13 (dk_at dksX7_readsRule_0 20 rfl rfl)
theorem dX7_readsRule_23 : decode cX7_readsRule 23 = .ok (.aload_n 0, 1) := dk_42 (dk_at dksX7_readsRule_0 23 rfl rfl)
theorem dX7_readsRule_24 : decode cX7_readsRule 24 = .ok (.iconst 1, 1) := dk_4 (dk_at dksX7_readsRule_1 0 rfl rfl)
theorem dX7_readsRule_25 : decode cX7_readsRule 25 = .ok (.aload_n 0, 1) := dk_42 (dk_at dksX7_readsRule_1 1 rfl rfl)
theorem dX7_readsRule_26 : decode cX7_readsRule 26 = .ok (.getfield 186, 3) := dk_180 0 186 (dk_at dksX7_readsRule_1 2 rfl rfl)
theorem dX7_readsRule_29 : decode cX7_readsRule 29 = .ok (.invokevirtual 199, 3) := dk_182 0 199 (dk_at dksX7_readsRule_1 5 rfl rfl)
theorem dX7_readsRule_32 : decode cX7_readsRule 32 = .ok (.ireturn, 1) := dk_172 (dk_at dksX7_readsRule_1 8 rfl rfl)
theorem dX7_readsRule_33 : decode cX7_readsRule 33 = .ok (.aload_n 0, 1) := dk_42 (dk_at dksX7_readsRule_1 9 rfl rfl)
theorem dX7_readsRule_34 : decode cX7_readsRule 34 = .ok (.getfield 264, 3) := dk_180 1 8 (dk_at dksX7_readsRule_1 10 rfl rfl)
theorem dX7_readsRule_37 : decode cX7_readsRule 37 = .ok (.bipush 16, 2) := dk_16 16 (dk_at dksX7_readsRule_1 13 rfl rfl)
theorem dX7_readsRule_39 : decode cX7_readsRule 39 = .ok (.if_icmp .ne 13, 3) := dk_160 0 13 (dk_at dksX7_readsRule_1 15 rfl rfl)
theorem dX7_readsRule_42 : decode cX7_readsRule 42 = .ok (.aload_n 0, 1) := dk_42 (dk_at dksX7_readsRule_1 18 rfl rfl)
theorem dX7_readsRule_43 : decode cX7_readsRule 43 = .ok (.iconst 4, 1) := dk_7 (dk_at dksX7_readsRule_1 19 rfl rfl)
theorem dX7_readsRule_44 : decode cX7_readsRule 44 = .ok (.aload_n 0, 1) := dk_42 (dk_at dksX7_readsRule_1 20 rfl rfl)
theorem dX7_readsRule_45 : decode cX7_readsRule 45 = .ok (.getfield 186, 3) := dk_180 0 186 (dk_at dksX7_readsRule_1 21 rfl rfl)
theorem dX7_readsRule_48 : decode cX7_readsRule 48 = .ok (.invokevirtual 199, 3) := dk_182 0 199 (dk_at dksX7_readsRule_2 0 rfl rfl)
theorem dX7_readsRule_51 : decode cX7_readsRule 51 = .ok (.ireturn, 1) := dk_172 (dk_at dksX7_readsRule_2 3 rfl rfl)
theorem dX7_readsRule_52 : decode cX7_readsRule 52 = .ok (.aload_n 0, 1) := dk_42 (dk_at dksX7_readsRule_2 4 rfl rfl)
theorem dX7_readsRule_53 : decode cX7_readsRule 53 = .ok (.getfield 60, 3) := dk_180 0 60 (dk_at dksX7_readsRule_2 5 rfl rfl)
theorem dX7_readsRule_56 : decode cX7_readsRule 56 = .ok (.aload_n 0, 1) := dk_42 (dk_at dksX7_readsRule_2 8 rfl rfl)
theorem dX7_readsRule_57 : decode cX7_readsRule 57 = .ok (.getfield 264, 3) := dk_180 1 8 (dk_at dksX7_readsRule_2 9 rfl rfl)
theorem dX7_readsRule_60 : decode cX7_readsRule 60 = .ok (.iload_n 1, 1) := dk_27 (dk_at dksX7_readsRule_2 12 rfl rfl)
theorem dX7_readsRule_61 : decode cX7_readsRule 61 = .ok (.iastore, 1) := dk_79 (dk_at dksX7_readsRule_2 13 rfl rfl)
theorem dX7_readsRule_62 : decode cX7_readsRule 62 = .ok (.aload_n 0, 1) := dk_42 (dk_at dksX7_readsRule_2 14 rfl rfl)
theorem dX7_readsRule_63 : decode cX7_readsRule 63 = .ok (.aload_n 0, 1) := dk_42 (dk_at dksX7_readsRule_2 15 rfl rfl)
theorem dX7_readsRule_64 : decode cX7_readsRule 64 = .ok (.getfield 186, 3) := dk_180 0 186 (dk_at dksX7_readsRule_2 16 rfl rfl)
theorem dX7_readsRule_67 : decode cX7_readsRule 67 = .ok (.iconst 1, 1) := dk_4 (dk_at dksX7_readsRule_2 19 rfl rfl)
theorem dX7_readsRule_68 : decode cX7_readsRule 68 = .ok (.iadd, 1) := dk_96 (dk_at dksX7_readsRule_2 20 rfl rfl)
theorem dX7_readsRule_69 : decode cX7_readsRule 69 = .ok (.putfield 186, 3) := dk_181 0 186 (dk_at dksX7_readsRule_2 21 rfl rfl)
theorem dX7_readsRule_72 : decode cX7_readsRule 72 = .ok (.aload_n 0, 1) := dk_42 (dk_at dksX7_readsRule_3 0 rfl rfl)
theorem dX7_readsRule_73 : decode cX7_readsRule 73 = .ok (.getfield 63, 3) := dk_180 0 63 (dk_at dksX7_readsRule_3 1 rfl rfl)
theorem dX7_readsRule_76 : decode cX7_readsRule 76 = .ok (.aload_n 0, 1) := dk_42 (dk_at dksX7_readsRule_3 4 rfl rfl)
theorem dX7_readsRule_77 : decode cX7_readsRule 77 = .ok (.getfield 264, 3) := dk_180 1 8 (dk_at dksX7_readsRule_3 5 rfl rfl)
theorem dX7_readsRule_80 : decode cX7_readsRule 80 = .ok (.aload_n 0, 1) := dk_42 (dk_at dksX7_readsRule_3 8 rfl rfl)
theorem dX7_readsRule_81 : decode cX7_readsRule 81 = .ok (.getfield 209, 3) := dk_180 0 209 (dk_at dksX7_readsRule_3 9 rfl rfl)
theorem dX7_readsRule_84 : decode cX7_readsRule 84 = .ok (.iastore, 1) := dk_79 (dk_at dksX7_readsRule_3 12 rfl rfl)
theorem dX7_readsRule_85 : decode cX7_readsRule 85 = .ok (.aload_n 0, 1) := dk_42 (dk_at dksX7_readsRule_3 13 rfl rfl)
theorem dX7_readsRule_86 : decode cX7_readsRule 86 = .ok (.iconst 0, 1) := dk_3 (dk_at dksX7_readsRule_3 14 rfl rfl)
theorem dX7_readsRule_87 : decode cX7_readsRule 87 = .ok (.putfield 213, 3) := dk_181 0 213 (dk_at dksX7_readsRule_3 15 rfl rfl)
theorem dX7_readsRule_90 : decode cX7_readsRule 90 = .ok (.aload_n 0, 1) := dk_42 (dk_at dksX7_readsRule_3 18 rfl rfl)
theorem dX7_readsRule_91 : decode cX7_readsRule 91 = .ok (.iconst 0, 1) := dk_3 (dk_at dksX7_readsRule_3 19 rfl rfl)
theorem dX7_readsRule_92 : decode cX7_readsRule 92 = .ok (.putfield 216, 3) := dk_181 0 216 (dk_at dksX7_readsRule_3 20 rfl rfl)
theorem dX7_readsRule_95 : decode cX7_readsRule 95 = .ok (.iload_n 1, 1) := dk_27 (dk_at dksX7_readsRule_3 23 rfl rfl)
theorem dX7_readsRule_96 : decode cX7_readsRule 96 = .ok (.bipush 109, 2) := dk_16 109 (dk_at dksX7_readsRule_4 0 rfl rfl)
theorem dX7_readsRule_98 : decode cX7_readsRule 98 = .ok (.if_icmp .eq 12, 3) := dk_159 0 12 (dk_at dksX7_readsRule_4 2 rfl rfl)
theorem dX7_readsRule_101 : decode cX7_readsRule 101 = .ok (.aload_n 0, 1) := dk_42 (dk_at dksX7_readsRule_4 5 rfl rfl)
theorem dX7_readsRule_102 : decode cX7_readsRule 102 = .ok (.invokevirtual 249, 3) := dk_182 0 249 (dk_at dksX7_readsRule_4 6 rfl rfl)
theorem dX7_readsRule_105 : decode cX7_readsRule 105 = .ok (.ifCond .ne 5, 3) := dk_154 0 5 (dk_at dksX7_readsRule_4 9 rfl rfl)
theorem dX7_readsRule_108 : decode cX7_readsRule 108 = .ok (.iconst 0, 1) := dk_3 (dk_at dksX7_readsRule_4 12 rfl rfl)
theorem dX7_readsRule_109 : decode cX7_readsRule 109 = .ok (.ireturn, 1) := dk_172 (dk_at dksX7_readsRule_4 13 rfl rfl)
theorem dX7_readsRule_110 : decode cX7_readsRule 110 = .ok (.aload_n 0, 1) := dk_42 (dk_at dksX7_readsRule_4 14 rfl rfl)
theorem dX7_readsRule_111 : decode cX7_readsRule 111 = .ok (.getfield 66, 3) := dk_180 0 66 (dk_at dksX7_readsRule_4 15 rfl rfl)
theorem dX7_readsRule_114 : decode cX7_readsRule 114 = .ok (.aload_n 0, 1) := dk_42 (dk_at dksX7_readsRule_4 18 rfl rfl)
theorem dX7_readsRule_115 : decode cX7_readsRule 115 = .ok (.getfield 264, 3) := dk_180 1 8 (dk_at dksX7_readsRule_4 19 rfl rfl)
theorem dX7_readsRule_118 : decode cX7_readsRule 118 = .ok (.aload_n 0, 1) := dk_42 (dk_at dksX7_readsRule_4 22 rfl rfl)
theorem dX7_readsRule_119 : decode cX7_readsRule 119 = .ok (.getfield 209, 3) := dk_180 0 209 (dk_at dksX7_readsRule_5 0 rfl rfl)
theorem dX7_readsRule_122 : decode cX7_readsRule 122 = .ok (.iastore, 1) := dk_79 (dk_at dksX7_readsRule_5 3 rfl rfl)
theorem dX7_readsRule_123 : decode cX7_readsRule 123 = .ok (.aload_n 0, 1) := dk_42 (dk_at dksX7_readsRule_5 4 rfl rfl)
theorem dX7_readsRule_124 : decode cX7_readsRule 124 = .ok (.invokevirtual 267, 3) := dk_182 1 11 (dk_at dksX7_readsRule_5 5 rfl rfl)
theorem dX7_readsRule_127 : decode cX7_readsRule 127 = .ok (.ifCond .ne 5, 3) := dk_154 0 5 (dk_at dksX7_readsRule_5 8 rfl rfl)
theorem dX7_readsRule_130 : decode cX7_readsRule 130 = .ok (.iconst 0, 1) := dk_3 (dk_at dksX7_readsRule_5 11 rfl rfl)
theorem dX7_readsRule_131 : decode cX7_readsRule 131 = .ok (.ireturn, 1) := dk_172 (dk_at dksX7_readsRule_5 12 rfl rfl)
theorem dX7_readsRule_132 : decode cX7_readsRule 132 = .ok (.aload_n 0, 1) := dk_42 (dk_at dksX7_readsRule_5 13 rfl rfl)
theorem dX7_readsRule_133 : decode cX7_readsRule 133 = .ok (.getfield 69, 3) := dk_180 0 69 (dk_at dksX7_readsRule_5 14 rfl rfl)
theorem dX7_readsRule_136 : decode cX7_readsRule 136 = .ok (.aload_n 0, 1) := dk_42 (dk_at dksX7_readsRule_5 17 rfl rfl)
theorem dX7_readsRule_137 : decode cX7_readsRule 137 = .ok (.getfield 264, 3) := dk_180 1 8 (dk_at dksX7_readsRule_5 18 rfl rfl)
theorem dX7_readsRule_140 : decode cX7_readsRule 140 = .ok (.aload_n 0, 1) := dk_42 (dk_at dksX7_readsRule_5 21 rfl rfl)
theorem dX7_readsRule_141 : decode cX7_readsRule 141 = .ok (.getfield 209, 3) := dk_180 0 209 (dk_at dksX7_readsRule_6 0 rfl rfl)
theorem dX7_readsRule_144 : decode cX7_readsRule 144 = .ok (.iastore, 1) := dk_79 (dk_at dksX7_readsRule_6 3 rfl rfl)
theorem dX7_readsRule_145 : decode cX7_readsRule 145 = .ok (.aload_n 0, 1) := dk_42 (dk_at dksX7_readsRule_6 4 rfl rfl)
theorem dX7_readsRule_146 : decode cX7_readsRule 146 = .ok (.aload_n 0, 1) := dk_42 (dk_at dksX7_readsRule_6 5 rfl rfl)
theorem dX7_readsRule_147 : decode cX7_readsRule 147 = .ok (.getfield 264, 3) := dk_180 1 8 (dk_at dksX7_readsRule_6 6 rfl rfl)
theorem dX7_readsRule_150 : decode cX7_readsRule 150 = .ok (.iconst 1, 1) := dk_4 (dk_at dksX7_readsRule_6 9 rfl rfl)
theorem dX7_readsRule_151 : decode cX7_readsRule 151 = .ok (.iadd, 1) := dk_96 (dk_at dksX7_readsRule_6 10 rfl rfl)
theorem dX7_readsRule_152 : decode cX7_readsRule 152 = .ok (.putfield 264, 3) := dk_181 1 8 (dk_at dksX7_readsRule_6 11 rfl rfl)
theorem dX7_readsRule_155 : decode cX7_readsRule 155 = .ok (.iconst 1, 1) := dk_4 (dk_at dksX7_readsRule_6 14 rfl rfl)
theorem dX7_readsRule_156 : decode cX7_readsRule 156 = .ok (.ireturn, 1) := dk_172 (dk_at dksX7_readsRule_6 15 rfl rfl)
abbrev cX7_here : ByteArray := prog_21_method_21_code
def yX7_here : MethodName := ⟨RX7, "here", "()I"⟩
def dkwX7_here_1 : List UInt8 := [167, 0, 4, 2, 172]
abbrev dktX7_here_1 : List UInt8 := dkwX7_here_1 ++ []
def dkwX7_here_0 : List UInt8 := [42, 180, 0, 186, 42, 180, 0, 189, 162, 0, 19, 42, 180, 0, 50, 42, 180, 0, 186, 51, 17, 0, 255, 126]
abbrev dktX7_here_0 : List UInt8 := dkwX7_here_0 ++ dktX7_here_1
theorem dksX7_here_0 : cX7_here.data.toList.drop 0 = dktX7_here_0 := by decide +kernel
theorem dksX7_here_1 : cX7_here.data.toList.drop 24 = dktX7_here_1 := dk_seg dksX7_here_0 24 rfl rfl
theorem dX7_here_0 : decode cX7_here 0 = .ok (.aload_n 0, 1) := dk_42 (dk_at dksX7_here_0 0 rfl rfl)
theorem dX7_here_1 : decode cX7_here 1 = .ok (.getfield 186, 3) := dk_180 0 186 (dk_at dksX7_here_0 1 rfl rfl)
theorem dX7_here_4 : decode cX7_here 4 = .ok (.aload_n 0, 1) := dk_42 (dk_at dksX7_here_0 4 rfl rfl)
theorem dX7_here_5 : decode cX7_here 5 = .ok (.getfield 189, 3) := dk_180 0 189 (dk_at dksX7_here_0 5 rfl rfl)
theorem dX7_here_8 : decode cX7_here 8 = .ok (.if_icmp .ge 19, 3) := dk_162 0 19 (dk_at dksX7_here_0 8 rfl rfl)
theorem dX7_here_11 : decode cX7_here 11 = .ok (.aload_n 0, 1) := dk_42 (dk_at dksX7_here_0 11 rfl rfl)
theorem dX7_here_12 : decode cX7_here 12 = .ok (.getfield 50, 3) := dk_180 0 50 (dk_at dksX7_here_0 12 rfl rfl)
theorem dX7_here_15 : decode cX7_here 15 = .ok (.aload_n 0, 1) := dk_42 (dk_at dksX7_here_0 15 rfl rfl)
theorem dX7_here_16 : decode cX7_here 16 = .ok (.getfield 186, 3) := dk_180 0 186 (dk_at dksX7_here_0 16 rfl rfl)
theorem dX7_here_19 : decode cX7_here 19 = .ok (.baload, 1) := dk_51 (dk_at dksX7_here_0 19 rfl rfl)
theorem dX7_here_20 : decode cX7_here 20 = .ok (.sipush 255, 3) := dk_17 0 255 (dk_at dksX7_here_0 20 rfl rfl)
theorem dX7_here_23 : decode cX7_here 23 = .ok (.iand, 1) := dk_126 (dk_at dksX7_here_0 23 rfl rfl)
theorem dX7_here_24 : decode cX7_here 24 = .ok (.goto 4, 3) := dk_167 0 4 (dk_at dksX7_here_1 0 rfl rfl)
theorem dX7_here_27 : decode cX7_here 27 = .ok (.iconst (-1), 1) := dk_2 (dk_at dksX7_here_1 3 rfl rfl)
theorem dX7_here_28 : decode cX7_here 28 = .ok (.ireturn, 1) := dk_172 (dk_at dksX7_here_1 4 rfl rfl)
abbrev cX7_wrongAt : ByteArray := prog_21_method_23_code
def yX7_wrongAt : MethodName := ⟨RX7, "wrongAt", "(II)Z"⟩
def dkwX7_wrongAt_0 : List UInt8 := [42, 17, 252, 24, 27, 104, 28, 100, 181, 0, 196, 3, 172]
abbrev dktX7_wrongAt_0 : List UInt8 := dkwX7_wrongAt_0 ++ []
theorem dksX7_wrongAt_0 : cX7_wrongAt.data.toList.drop 0 = dktX7_wrongAt_0 := by decide +kernel
theorem dX7_wrongAt_0 : decode cX7_wrongAt 0 = .ok (.aload_n 0, 1) := dk_42 (dk_at dksX7_wrongAt_0 0 rfl rfl)
theorem dX7_wrongAt_1 : decode cX7_wrongAt 1 = .ok (.sipush (-1000), 3) := dk_17 252 24 (dk_at dksX7_wrongAt_0 1 rfl rfl)
theorem dX7_wrongAt_4 : decode cX7_wrongAt 4 = .ok (.iload_n 1, 1) := dk_27 (dk_at dksX7_wrongAt_0 4 rfl rfl)
theorem dX7_wrongAt_5 : decode cX7_wrongAt 5 = .ok (.imul, 1) := dk_104 (dk_at dksX7_wrongAt_0 5 rfl rfl)
theorem dX7_wrongAt_6 : decode cX7_wrongAt 6 = .ok (.iload_n 2, 1) := dk_28 (dk_at dksX7_wrongAt_0 6 rfl rfl)
theorem dX7_wrongAt_7 : decode cX7_wrongAt 7 = .ok (.isub, 1) := dk_100 (dk_at dksX7_wrongAt_0 7 rfl rfl)
theorem dX7_wrongAt_8 : decode cX7_wrongAt 8 = .ok (.putfield 196, 3) := dk_181 0 196 (dk_at dksX7_wrongAt_0 8 rfl rfl)
theorem dX7_wrongAt_11 : decode cX7_wrongAt 11 = .ok (.iconst 0, 1) := dk_3 (dk_at dksX7_wrongAt_0 11 rfl rfl)
theorem dX7_wrongAt_12 : decode cX7_wrongAt 12 = .ok (.ireturn, 1) := dk_172 (dk_at dksX7_wrongAt_0 12 rfl rfl)
abbrev cX7_readsSum : ByteArray := prog_21_method_34_code
def yX7_readsSum : MethodName := ⟨RX7, "readsSum", "()Z"⟩
def dkwX7_readsSum_7 : List UInt8 := [167, 255, 107]
abbrev dktX7_readsSum_7 : List UInt8 := dkwX7_readsSum_7 ++ []
def dkwX7_readsSum_6 : List UInt8 := [182, 0, 246, 153, 0, 13, 42, 4, 42, 180, 0, 186, 182, 0, 199, 172, 42, 4, 182, 0, 242, 4, 172]
abbrev dktX7_readsSum_6 : List UInt8 := dkwX7_readsSum_6 ++ dktX7_readsSum_7
def dkwX7_readsSum_5 : List UInt8 := [180, 0, 213, 4, 100, 181, 0, 213, 42, 42, 180, 0, 186, 4, 96, 181, 0, 186, 167, 0, 28, 42, 27]
abbrev dktX7_readsSum_5 : List UInt8 := dkwX7_readsSum_5 ++ dktX7_readsSum_6
def dkwX7_readsSum_4 : List UInt8 := [182, 0, 246, 153, 0, 41, 42, 4, 182, 0, 242, 42, 42, 180, 0, 216, 4, 100, 181, 0, 216, 42, 42]
abbrev dktX7_readsSum_4 : List UInt8 := dkwX7_readsSum_4 ++ dktX7_readsSum_5
def dkwX7_readsSum_3 : List UInt8 := [96, 181, 0, 186, 42, 182, 0, 236, 154, 0, 85, 3, 172, 42, 182, 0, 192, 16, 93, 160, 0, 49, 42, 27]
abbrev dktX7_readsSum_3 : List UInt8 := dkwX7_readsSum_3 ++ dktX7_readsSum_4
def dkwX7_readsSum_2 : List UInt8 := [180, 0, 216, 18, 212, 28, 104, 79, 42, 42, 180, 0, 216, 4, 96, 181, 0, 216, 42, 42, 180, 0, 186, 4]
abbrev dktX7_readsSum_2 : List UInt8 := dkwX7_readsSum_2 ++ dktX7_readsSum_3
def dkwX7_readsSum_1 : List UInt8 := [159, 0, 59, 42, 28, 7, 162, 0, 7, 4, 167, 0, 4, 3, 182, 0, 242, 42, 180, 0, 57, 42]
abbrev dktX7_readsSum_1 : List UInt8 := dkwX7_readsSum_1 ++ dktX7_readsSum_2
def dkwX7_readsSum_0 : List UInt8 := [42, 180, 0, 216, 60, 42, 182, 0, 236, 154, 0, 5, 3, 172, 42, 182, 0, 192, 184, 0, 239, 61, 28, 2]
abbrev dktX7_readsSum_0 : List UInt8 := dkwX7_readsSum_0 ++ dktX7_readsSum_1
theorem dksX7_readsSum_0 : cX7_readsSum.data.toList.drop 0 = dktX7_readsSum_0 := by decide +kernel
theorem dksX7_readsSum_1 : cX7_readsSum.data.toList.drop 24 = dktX7_readsSum_1 := dk_seg dksX7_readsSum_0 24 rfl rfl
theorem dksX7_readsSum_2 : cX7_readsSum.data.toList.drop 46 = dktX7_readsSum_2 := dk_seg dksX7_readsSum_1 22 rfl rfl
theorem dksX7_readsSum_3 : cX7_readsSum.data.toList.drop 70 = dktX7_readsSum_3 := dk_seg dksX7_readsSum_2 24 rfl rfl
theorem dksX7_readsSum_4 : cX7_readsSum.data.toList.drop 94 = dktX7_readsSum_4 := dk_seg dksX7_readsSum_3 24 rfl rfl
theorem dksX7_readsSum_5 : cX7_readsSum.data.toList.drop 117 = dktX7_readsSum_5 := dk_seg dksX7_readsSum_4 23 rfl rfl
theorem dksX7_readsSum_6 : cX7_readsSum.data.toList.drop 140 = dktX7_readsSum_6 := dk_seg dksX7_readsSum_5 23 rfl rfl
theorem dksX7_readsSum_7 : cX7_readsSum.data.toList.drop 163 = dktX7_readsSum_7 := dk_seg dksX7_readsSum_6 23 rfl rfl
theorem dX7_readsSum_0 : decode cX7_readsSum 0 = .ok (.aload_n 0, 1) := dk_42 (dk_at dksX7_readsSum_0 0 rfl rfl)
theorem dX7_readsSum_1 : decode cX7_readsSum 1 = .ok (.getfield 216, 3) := dk_180 0 216 (dk_at dksX7_readsSum_0 1 rfl rfl)
theorem dX7_readsSum_4 : decode cX7_readsSum 4 = .ok (.istore_n 1, 1) := dk_60 (dk_at dksX7_readsSum_0 4 rfl rfl)
theorem dX7_readsSum_5 : decode cX7_readsSum 5 = .ok (.aload_n 0, 1) := dk_42 (dk_at dksX7_readsSum_0 5 rfl rfl)
theorem dX7_readsSum_6 : decode cX7_readsSum 6 = .ok (.invokevirtual 236, 3) := dk_182 0 236 (dk_at dksX7_readsSum_0 6 rfl rfl)
theorem dX7_readsSum_9 : decode cX7_readsSum 9 = .ok (.ifCond .ne 5, 3) := dk_154 0 5 (dk_at dksX7_readsSum_0 9 rfl rfl)
theorem dX7_readsSum_12 : decode cX7_readsSum 12 = .ok (.iconst 0, 1) := dk_3 (dk_at dksX7_readsSum_0 12 rfl rfl)
theorem dX7_readsSum_13 : decode cX7_readsSum 13 = .ok (.ireturn, 1) := dk_172 (dk_at dksX7_readsSum_0 13 rfl rfl)
theorem dX7_readsSum_14 : decode cX7_readsSum 14 = .ok (.aload_n 0, 1) := dk_42 (dk_at dksX7_readsSum_0 14 rfl rfl)
theorem dX7_readsSum_15 : decode cX7_readsSum 15 = .ok (.invokevirtual 192, 3) := dk_182 0 192 (dk_at dksX7_readsSum_0 15 rfl rfl)
theorem dX7_readsSum_18 : decode cX7_readsSum 18 = .ok (.invokestatic 239, 3) := dk_184 0 239 (dk_at dksX7_readsSum_0 18 rfl rfl)
theorem dX7_readsSum_21 : decode cX7_readsSum 21 = .ok (.istore_n 2, 1) := dk_61 (dk_at dksX7_readsSum_0 21 rfl rfl)
theorem dX7_readsSum_22 : decode cX7_readsSum 22 = .ok (.iload_n 2, 1) := dk_28 (dk_at dksX7_readsSum_0 22 rfl rfl)
theorem dX7_readsSum_23 : decode cX7_readsSum 23 = .ok (.iconst (-1), 1) := dk_2 (dk_at dksX7_readsSum_0 23 rfl rfl)
theorem dX7_readsSum_24 : decode cX7_readsSum 24 = .ok (.if_icmp .eq 59, 3) := dk_159 0 59 (dk_at dksX7_readsSum_1 0 rfl rfl)
theorem dX7_readsSum_27 : decode cX7_readsSum 27 = .ok (.aload_n 0, 1) := dk_42 (dk_at dksX7_readsSum_1 3 rfl rfl)
theorem dX7_readsSum_28 : decode cX7_readsSum 28 = .ok (.iload_n 2, 1) := dk_28 (dk_at dksX7_readsSum_1 4 rfl rfl)
theorem dX7_readsSum_29 : decode cX7_readsSum 29 = .ok (.iconst 4, 1) := dk_7 (dk_at dksX7_readsSum_1 5 rfl rfl)
theorem dX7_readsSum_30 : decode cX7_readsSum 30 = .ok (.if_icmp .ge 7, 3) := dk_162 0 7 (dk_at dksX7_readsSum_1 6 rfl rfl)
theorem dX7_readsSum_33 : decode cX7_readsSum 33 = .ok (.iconst 1, 1) := dk_4 (dk_at dksX7_readsSum_1 9 rfl rfl)
theorem dX7_readsSum_34 : decode cX7_readsSum 34 = .ok (.goto 4, 3) := dk_167 0 4 (dk_at dksX7_readsSum_1 10 rfl rfl)
theorem dX7_readsSum_37 : decode cX7_readsSum 37 = .ok (.iconst 0, 1) := dk_3 (dk_at dksX7_readsSum_1 13 rfl rfl)
theorem dX7_readsSum_38 : decode cX7_readsSum 38 = .ok (.invokevirtual 242, 3) := dk_182 0 242 (dk_at dksX7_readsSum_1 14 rfl rfl)
theorem dX7_readsSum_41 : decode cX7_readsSum 41 = .ok (.aload_n 0, 1) := dk_42 (dk_at dksX7_readsSum_1 17 rfl rfl)
theorem dX7_readsSum_42 : decode cX7_readsSum 42 = .ok (.getfield 57, 3) := dk_180 0 57 (dk_at dksX7_readsSum_1 18 rfl rfl)
theorem dX7_readsSum_45 : decode cX7_readsSum 45 = .ok (.aload_n 0, 1) := dk_42 (dk_at dksX7_readsSum_1 21 rfl rfl)
theorem dX7_readsSum_46 : decode cX7_readsSum 46 = .ok (.getfield 216, 3) := dk_180 0 216 (dk_at dksX7_readsSum_2 0 rfl rfl)
theorem dX7_readsSum_49 : decode cX7_readsSum 49 = .ok (.ldc 212, 2) := dk_18 212 (dk_at dksX7_readsSum_2 3 rfl rfl)
theorem dX7_readsSum_51 : decode cX7_readsSum 51 = .ok (.iload_n 2, 1) := dk_28 (dk_at dksX7_readsSum_2 5 rfl rfl)
theorem dX7_readsSum_52 : decode cX7_readsSum 52 = .ok (.imul, 1) := dk_104 (dk_at dksX7_readsSum_2 6 rfl rfl)
theorem dX7_readsSum_53 : decode cX7_readsSum 53 = .ok (.iastore, 1) := dk_79 (dk_at dksX7_readsSum_2 7 rfl rfl)
theorem dX7_readsSum_54 : decode cX7_readsSum 54 = .ok (.aload_n 0, 1) := dk_42 (dk_at dksX7_readsSum_2 8 rfl rfl)
theorem dX7_readsSum_55 : decode cX7_readsSum 55 = .ok (.aload_n 0, 1) := dk_42 (dk_at dksX7_readsSum_2 9 rfl rfl)
theorem dX7_readsSum_56 : decode cX7_readsSum 56 = .ok (.getfield 216, 3) := dk_180 0 216 (dk_at dksX7_readsSum_2 10 rfl rfl)
theorem dX7_readsSum_59 : decode cX7_readsSum 59 = .ok (.iconst 1, 1) := dk_4 (dk_at dksX7_readsSum_2 13 rfl rfl)
theorem dX7_readsSum_60 : decode cX7_readsSum 60 = .ok (.iadd, 1) := dk_96 (dk_at dksX7_readsSum_2 14 rfl rfl)
theorem dX7_readsSum_61 : decode cX7_readsSum 61 = .ok (.putfield 216, 3) := dk_181 0 216 (dk_at dksX7_readsSum_2 15 rfl rfl)
theorem dX7_readsSum_64 : decode cX7_readsSum 64 = .ok (.aload_n 0, 1) := dk_42 (dk_at dksX7_readsSum_2 18 rfl rfl)
theorem dX7_readsSum_65 : decode cX7_readsSum 65 = .ok (.aload_n 0, 1) := dk_42 (dk_at dksX7_readsSum_2 19 rfl rfl)
theorem dX7_readsSum_66 : decode cX7_readsSum 66 = .ok (.getfield 186, 3) := dk_180 0 186 (dk_at dksX7_readsSum_2 20 rfl rfl)
theorem dX7_readsSum_69 : decode cX7_readsSum 69 = .ok (.iconst 1, 1) := dk_4 (dk_at dksX7_readsSum_2 23 rfl rfl)
theorem dX7_readsSum_70 : decode cX7_readsSum 70 = .ok (.iadd, 1) := dk_96 (dk_at dksX7_readsSum_3 0 rfl rfl)
theorem dX7_readsSum_71 : decode cX7_readsSum 71 = .ok (.putfield 186, 3) := dk_181 0 186 (dk_at dksX7_readsSum_3 1 rfl rfl)
theorem dX7_readsSum_74 : decode cX7_readsSum 74 = .ok (.aload_n 0, 1) := dk_42 (dk_at dksX7_readsSum_3 4 rfl rfl)
theorem dX7_readsSum_75 : decode cX7_readsSum 75 = .ok (.invokevirtual 236, 3) := dk_182 0 236 (dk_at dksX7_readsSum_3 5 rfl rfl)
theorem dX7_readsSum_78 : decode cX7_readsSum 78 = .ok (.ifCond .ne 85, 3) := dk_154 0 85 (dk_at dksX7_readsSum_3 8 rfl rfl)
theorem dX7_readsSum_81 : decode cX7_readsSum 81 = .ok (.iconst 0, 1) := dk_3 (dk_at dksX7_readsSum_3 11 rfl rfl)
theorem dX7_readsSum_82 : decode cX7_readsSum 82 = .ok (.ireturn, 1) := dk_172 (dk_at dksX7_readsSum_3 12 rfl rfl)
theorem dX7_readsSum_83 : decode cX7_readsSum 83 = .ok (.aload_n 0, 1) := dk_42 (dk_at dksX7_readsSum_3 13 rfl rfl)
theorem dX7_readsSum_84 : decode cX7_readsSum 84 = .ok (.invokevirtual 192, 3) := dk_182 0 192 (dk_at dksX7_readsSum_3 14 rfl rfl)
theorem dX7_readsSum_87 : decode cX7_readsSum 87 = .ok (.bipush 93, 2) := dk_16 93 (dk_at dksX7_readsSum_3 17 rfl rfl)
theorem dX7_readsSum_89 : decode cX7_readsSum 89 = .ok (.if_icmp .ne 49, 3) := dk_160 0 49 (dk_at dksX7_readsSum_3 19 rfl rfl)
theorem dX7_readsSum_92 : decode cX7_readsSum 92 = .ok (.aload_n 0, 1) := dk_42 (dk_at dksX7_readsSum_3 22 rfl rfl)
theorem dX7_readsSum_93 : decode cX7_readsSum 93 = .ok (.iload_n 1, 1) := dk_27 (dk_at dksX7_readsSum_3 23 rfl rfl)
theorem dX7_readsSum_94 : decode cX7_readsSum 94 = .ok (.invokevirtual 246, 3) := dk_182 0 246 (dk_at dksX7_readsSum_4 0 rfl rfl)
theorem dX7_readsSum_97 : decode cX7_readsSum 97 = .ok (.ifCond .eq 41, 3) := dk_153 0 41 (dk_at dksX7_readsSum_4 3 rfl rfl)
theorem dX7_readsSum_100 : decode cX7_readsSum 100 = .ok (.aload_n 0, 1) := dk_42 (dk_at dksX7_readsSum_4 6 rfl rfl)
theorem dX7_readsSum_101 : decode cX7_readsSum 101 = .ok (.iconst 1, 1) := dk_4 (dk_at dksX7_readsSum_4 7 rfl rfl)
theorem dX7_readsSum_102 : decode cX7_readsSum 102 = .ok (.invokevirtual 242, 3) := dk_182 0 242 (dk_at dksX7_readsSum_4 8 rfl rfl)
theorem dX7_readsSum_105 : decode cX7_readsSum 105 = .ok (.aload_n 0, 1) := dk_42 (dk_at dksX7_readsSum_4 11 rfl rfl)
theorem dX7_readsSum_106 : decode cX7_readsSum 106 = .ok (.aload_n 0, 1) := dk_42 (dk_at dksX7_readsSum_4 12 rfl rfl)
theorem dX7_readsSum_107 : decode cX7_readsSum 107 = .ok (.getfield 216, 3) := dk_180 0 216 (dk_at dksX7_readsSum_4 13 rfl rfl)
theorem dX7_readsSum_110 : decode cX7_readsSum 110 = .ok (.iconst 1, 1) := dk_4 (dk_at dksX7_readsSum_4 16 rfl rfl)
theorem dX7_readsSum_111 : decode cX7_readsSum 111 = .ok (.isub, 1) := dk_100 (dk_at dksX7_readsSum_4 17 rfl rfl)
theorem dX7_readsSum_112 : decode cX7_readsSum 112 = .ok (.putfield 216, 3) := dk_181 0 216 (dk_at dksX7_readsSum_4 18 rfl rfl)
theorem dX7_readsSum_115 : decode cX7_readsSum 115 = .ok (.aload_n 0, 1) := dk_42 (dk_at dksX7_readsSum_4 21 rfl rfl)
theorem dX7_readsSum_116 : decode cX7_readsSum 116 = .ok (.aload_n 0, 1) := dk_42 (dk_at dksX7_readsSum_4 22 rfl rfl)
theorem dX7_readsSum_117 : decode cX7_readsSum 117 = .ok (.getfield 213, 3) := dk_180 0 213 (dk_at dksX7_readsSum_5 0 rfl rfl)
theorem dX7_readsSum_120 : decode cX7_readsSum 120 = .ok (.iconst 1, 1) := dk_4 (dk_at dksX7_readsSum_5 3 rfl rfl)
theorem dX7_readsSum_121 : decode cX7_readsSum 121 = .ok (.isub, 1) := dk_100 (dk_at dksX7_readsSum_5 4 rfl rfl)
theorem dX7_readsSum_122 : decode cX7_readsSum 122 = .ok (.putfield 213, 3) := dk_181 0 213 (dk_at dksX7_readsSum_5 5 rfl rfl)
theorem dX7_readsSum_125 : decode cX7_readsSum 125 = .ok (.aload_n 0, 1) := dk_42 (dk_at dksX7_readsSum_5 8 rfl rfl)
theorem dX7_readsSum_126 : decode cX7_readsSum 126 = .ok (.aload_n 0, 1) := dk_42 (dk_at dksX7_readsSum_5 9 rfl rfl)
theorem dX7_readsSum_127 : decode cX7_readsSum 127 = .ok (.getfield 186, 3) := dk_180 0 186 (dk_at dksX7_readsSum_5 10 rfl rfl)
theorem dX7_readsSum_130 : decode cX7_readsSum 130 = .ok (.iconst 1, 1) := dk_4 (dk_at dksX7_readsSum_5 13 rfl rfl)
theorem dX7_readsSum_131 : decode cX7_readsSum 131 = .ok (.iadd, 1) := dk_96 (dk_at dksX7_readsSum_5 14 rfl rfl)
theorem dX7_readsSum_132 : decode cX7_readsSum 132 = .ok (.putfield 186, 3) := dk_181 0 186 (dk_at dksX7_readsSum_5 15 rfl rfl)
theorem dX7_readsSum_135 : decode cX7_readsSum 135 = .ok (.goto 28, 3) := dk_167 0 28 (dk_at dksX7_readsSum_5 18 rfl rfl)
theorem dX7_readsSum_138 : decode cX7_readsSum 138 = .ok (.aload_n 0, 1) := dk_42 (dk_at dksX7_readsSum_5 21 rfl rfl)
theorem dX7_readsSum_139 : decode cX7_readsSum 139 = .ok (.iload_n 1, 1) := dk_27 (dk_at dksX7_readsSum_5 22 rfl rfl)
theorem dX7_readsSum_140 : decode cX7_readsSum 140 = .ok (.invokevirtual 246, 3) := dk_182 0 246 (dk_at dksX7_readsSum_6 0 rfl rfl)
theorem dX7_readsSum_143 : decode cX7_readsSum 143 = .ok (.ifCond .eq 13, 3) := dk_153 0 13 (dk_at dksX7_readsSum_6 3 rfl rfl)
theorem dX7_readsSum_146 : decode cX7_readsSum 146 = .ok (.aload_n 0, 1) := dk_42 (dk_at dksX7_readsSum_6 6 rfl rfl)
theorem dX7_readsSum_147 : decode cX7_readsSum 147 = .ok (.iconst 1, 1) := dk_4 (dk_at dksX7_readsSum_6 7 rfl rfl)
theorem dX7_readsSum_148 : decode cX7_readsSum 148 = .ok (.aload_n 0, 1) := dk_42 (dk_at dksX7_readsSum_6 8 rfl rfl)
theorem dX7_readsSum_149 : decode cX7_readsSum 149 = .ok (.getfield 186, 3) := dk_180 0 186 (dk_at dksX7_readsSum_6 9 rfl rfl)
theorem dX7_readsSum_152 : decode cX7_readsSum 152 = .ok (.invokevirtual 199, 3) := dk_182 0 199 (dk_at dksX7_readsSum_6 12 rfl rfl)
theorem dX7_readsSum_155 : decode cX7_readsSum 155 = .ok (.ireturn, 1) := dk_172 (dk_at dksX7_readsSum_6 15 rfl rfl)
theorem dX7_readsSum_156 : decode cX7_readsSum 156 = .ok (.aload_n 0, 1) := dk_42 (dk_at dksX7_readsSum_6 16 rfl rfl)
theorem dX7_readsSum_157 : decode cX7_readsSum 157 = .ok (.iconst 1, 1) := dk_4 (dk_at dksX7_readsSum_6 17 rfl rfl)
theorem dX7_readsSum_158 : decode cX7_readsSum 158 = .ok (.invokevirtual 242, 3) := dk_182 0 242 (dk_at dksX7_readsSum_6 18 rfl rfl)
theorem dX7_readsSum_161 : decode cX7_readsSum 161 = .ok (.iconst 1, 1) := dk_4 (dk_at dksX7_readsSum_6 21 rfl rfl)
theorem dX7_readsSum_162 : decode cX7_readsSum 162 = .ok (.ireturn, 1) := dk_172 (dk_at dksX7_readsSum_6 22 rfl rfl)
theorem dX7_readsSum_163 : decode cX7_readsSum 163 = .ok (.goto (-149), 3) := dk_167 255 107 (dk_at dksX7_readsSum_7 0 rfl rfl)
abbrev cX7_readsFactor : ByteArray := prog_21_method_32_code
def yX7_readsFactor : MethodName := ⟨RX7, "readsFactor", "()Z"⟩
def dkwX7_readsFactor_3 : List UInt8 := [27, 182, 0, 222, 42, 42, 180, 0, 186, 4, 96, 181, 0, 186, 4, 172]
abbrev dktX7_readsFactor_3 : List UInt8 := dkwX7_readsFactor_3 ++ []
def dkwX7_readsFactor_2 : List UInt8 := [182, 0, 192, 184, 0, 232, 60, 27, 2, 160, 0, 13, 42, 4, 42, 180, 0, 186, 182, 0, 199, 172, 42, 4]
abbrev dktX7_readsFactor_2 : List UInt8 := dkwX7_readsFactor_2 ++ dktX7_readsFactor_3
def dkwX7_readsFactor_1 : List UInt8 := [153, 0, 23, 42, 182, 0, 229, 154, 0, 5, 3, 172, 42, 3, 42, 180, 0, 202, 182, 0, 222, 4, 172, 42]
abbrev dktX7_readsFactor_1 : List UInt8 := dkwX7_readsFactor_1 ++ dktX7_readsFactor_2
def dkwX7_readsFactor_0 : List UInt8 := [42, 182, 0, 192, 16, 91, 160, 0, 14, 42, 16, 14, 182, 0, 226, 154, 255, 241, 3, 172, 42, 182, 0, 205]
abbrev dktX7_readsFactor_0 : List UInt8 := dkwX7_readsFactor_0 ++ dktX7_readsFactor_1
theorem dksX7_readsFactor_0 : cX7_readsFactor.data.toList.drop 0 = dktX7_readsFactor_0 := by decide +kernel
theorem dksX7_readsFactor_1 : cX7_readsFactor.data.toList.drop 24 = dktX7_readsFactor_1 := dk_seg dksX7_readsFactor_0 24 rfl rfl
theorem dksX7_readsFactor_2 : cX7_readsFactor.data.toList.drop 48 = dktX7_readsFactor_2 := dk_seg dksX7_readsFactor_1 24 rfl rfl
theorem dksX7_readsFactor_3 : cX7_readsFactor.data.toList.drop 72 = dktX7_readsFactor_3 := dk_seg dksX7_readsFactor_2 24 rfl rfl
theorem dX7_readsFactor_0 : decode cX7_readsFactor 0 = .ok (.aload_n 0, 1) := dk_42 (dk_at dksX7_readsFactor_0 0 rfl rfl)
theorem dX7_readsFactor_1 : decode cX7_readsFactor 1 = .ok (.invokevirtual 192, 3) := dk_182 0 192 (dk_at dksX7_readsFactor_0 1 rfl rfl)
theorem dX7_readsFactor_4 : decode cX7_readsFactor 4 = .ok (.bipush 91, 2) := dk_16 91 (dk_at dksX7_readsFactor_0 4 rfl rfl)
theorem dX7_readsFactor_6 : decode cX7_readsFactor 6 = .ok (.if_icmp .ne 14, 3) := dk_160 0 14 (dk_at dksX7_readsFactor_0 6 rfl rfl)
theorem dX7_readsFactor_9 : decode cX7_readsFactor 9 = .ok (.aload_n 0, 1) := dk_42 (dk_at dksX7_readsFactor_0 9 rfl rfl)
theorem dX7_readsFactor_10 : decode cX7_readsFactor 10 = .ok (.bipush 14, 2) := dk_16 14 (dk_at dksX7_readsFactor_0 10 rfl rfl)
theorem dX7_readsFactor_12 : decode cX7_readsFactor 12 = .ok (.invokevirtual 226, 3) := dk_182 0 226 (dk_at dksX7_readsFactor_0 12 rfl rfl)
theorem dX7_readsFactor_15 : decode cX7_readsFactor 15 = .ok (.ifCond .ne (-15), 3) := dk_154 255 241 (dk_at dksX7_readsFactor_0 15 rfl rfl)
theorem dX7_readsFactor_18 : decode cX7_readsFactor 18 = .ok (.iconst 0, 1) := dk_3 (dk_at dksX7_readsFactor_0 18 rfl rfl)
theorem dX7_readsFactor_19 : decode cX7_readsFactor 19 = .ok (.ireturn, 1) := dk_172 (dk_at dksX7_readsFactor_0 19 rfl rfl)
theorem dX7_readsFactor_20 : decode cX7_readsFactor 20 = .ok (.aload_n 0, 1) := dk_42 (dk_at dksX7_readsFactor_0 20 rfl rfl)
theorem dX7_readsFactor_21 : decode cX7_readsFactor 21 = .ok (.invokevirtual 205, 3) := dk_182 0 205 (dk_at dksX7_readsFactor_0 21 rfl rfl)
theorem dX7_readsFactor_24 : decode cX7_readsFactor 24 = .ok (.ifCond .eq 23, 3) := dk_153 0 23 (dk_at dksX7_readsFactor_1 0 rfl rfl)
theorem dX7_readsFactor_27 : decode cX7_readsFactor 27 = .ok (.aload_n 0, 1) := dk_42 (dk_at dksX7_readsFactor_1 3 rfl rfl)
theorem dX7_readsFactor_28 : decode cX7_readsFactor 28 = .ok (.invokevirtual 229, 3) := dk_182 0 229 (dk_at dksX7_readsFactor_1 4 rfl rfl)
theorem dX7_readsFactor_31 : decode cX7_readsFactor 31 = .ok (.ifCond .ne 5, 3) := dk_154 0 5 (dk_at dksX7_readsFactor_1 7 rfl rfl)
theorem dX7_readsFactor_34 : decode cX7_readsFactor 34 = .ok (.iconst 0, 1) := dk_3 (dk_at dksX7_readsFactor_1 10 rfl rfl)
theorem dX7_readsFactor_35 : decode cX7_readsFactor 35 = .ok (.ireturn, 1) := dk_172 (dk_at dksX7_readsFactor_1 11 rfl rfl)
theorem dX7_readsFactor_36 : decode cX7_readsFactor 36 = .ok (.aload_n 0, 1) := dk_42 (dk_at dksX7_readsFactor_1 12 rfl rfl)
theorem dX7_readsFactor_37 : decode cX7_readsFactor 37 = .ok (.iconst 0, 1) := dk_3 (dk_at dksX7_readsFactor_1 13 rfl rfl)
theorem dX7_readsFactor_38 : decode cX7_readsFactor 38 = .ok (.aload_n 0, 1) := dk_42 (dk_at dksX7_readsFactor_1 14 rfl rfl)
theorem dX7_readsFactor_39 : decode cX7_readsFactor 39 = .ok (.getfield 202, 3) := dk_180 0 202 (dk_at dksX7_readsFactor_1 15 rfl rfl)
theorem dX7_readsFactor_42 : decode cX7_readsFactor 42 = .ok (.invokevirtual 222, 3) := dk_182 0 222 (dk_at dksX7_readsFactor_1 18 rfl rfl)
theorem dX7_readsFactor_45 : decode cX7_readsFactor 45 = .ok (.iconst 1, 1) := dk_4 (dk_at dksX7_readsFactor_1 21 rfl rfl)
theorem dX7_readsFactor_46 : decode cX7_readsFactor 46 = .ok (.ireturn, 1) := dk_172 (dk_at dksX7_readsFactor_1 22 rfl rfl)
theorem dX7_readsFactor_47 : decode cX7_readsFactor 47 = .ok (.aload_n 0, 1) := dk_42 (dk_at dksX7_readsFactor_1 23 rfl rfl)
theorem dX7_readsFactor_48 : decode cX7_readsFactor 48 = .ok (.invokevirtual 192, 3) := dk_182 0 192 (dk_at dksX7_readsFactor_2 0 rfl rfl)
theorem dX7_readsFactor_51 : decode cX7_readsFactor 51 = .ok (.invokestatic 232, 3) := dk_184 0 232 (dk_at dksX7_readsFactor_2 3 rfl rfl)
theorem dX7_readsFactor_54 : decode cX7_readsFactor 54 = .ok (.istore_n 1, 1) := dk_60 (dk_at dksX7_readsFactor_2 6 rfl rfl)
theorem dX7_readsFactor_55 : decode cX7_readsFactor 55 = .ok (.iload_n 1, 1) := dk_27 (dk_at dksX7_readsFactor_2 7 rfl rfl)
theorem dX7_readsFactor_56 : decode cX7_readsFactor 56 = .ok (.iconst (-1), 1) := dk_2 (dk_at dksX7_readsFactor_2 8 rfl rfl)
theorem dX7_readsFactor_57 : decode cX7_readsFactor 57 = .ok (.if_icmp .ne 13, 3) := dk_160 0 13 (dk_at dksX7_readsFactor_2 9 rfl rfl)
theorem dX7_readsFactor_60 : decode cX7_readsFactor 60 = .ok (.aload_n 0, 1) := dk_42 (dk_at dksX7_readsFactor_2 12 rfl rfl)
theorem dX7_readsFactor_61 : decode cX7_readsFactor 61 = .ok (.iconst 1, 1) := dk_4 (dk_at dksX7_readsFactor_2 13 rfl rfl)
theorem dX7_readsFactor_62 : decode cX7_readsFactor 62 = .ok (.aload_n 0, 1) := dk_42 (dk_at dksX7_readsFactor_2 14 rfl rfl)
theorem dX7_readsFactor_63 : decode cX7_readsFactor 63 = .ok (.getfield 186, 3) := dk_180 0 186 (dk_at dksX7_readsFactor_2 15 rfl rfl)
theorem dX7_readsFactor_66 : decode cX7_readsFactor 66 = .ok (.invokevirtual 199, 3) := dk_182 0 199 (dk_at dksX7_readsFactor_2 18 rfl rfl)
theorem dX7_readsFactor_69 : decode cX7_readsFactor 69 = .ok (.ireturn, 1) := dk_172 (dk_at dksX7_readsFactor_2 21 rfl rfl)
theorem dX7_readsFactor_70 : decode cX7_readsFactor 70 = .ok (.aload_n 0, 1) := dk_42 (dk_at dksX7_readsFactor_2 22 rfl rfl)
theorem dX7_readsFactor_71 : decode cX7_readsFactor 71 = .ok (.iconst 1, 1) := dk_4 (dk_at dksX7_readsFactor_2 23 rfl rfl)
theorem dX7_readsFactor_72 : decode cX7_readsFactor 72 = .ok (.iload_n 1, 1) := dk_27 (dk_at dksX7_readsFactor_3 0 rfl rfl)
theorem dX7_readsFactor_73 : decode cX7_readsFactor 73 = .ok (.invokevirtual 222, 3) := dk_182 0 222 (dk_at dksX7_readsFactor_3 1 rfl rfl)
theorem dX7_readsFactor_76 : decode cX7_readsFactor 76 = .ok (.aload_n 0, 1) := dk_42 (dk_at dksX7_readsFactor_3 4 rfl rfl)
theorem dX7_readsFactor_77 : decode cX7_readsFactor 77 = .ok (.aload_n 0, 1) := dk_42 (dk_at dksX7_readsFactor_3 5 rfl rfl)
theorem dX7_readsFactor_78 : decode cX7_readsFactor 78 = .ok (.getfield 186, 3) := dk_180 0 186 (dk_at dksX7_readsFactor_3 6 rfl rfl)
theorem dX7_readsFactor_81 : decode cX7_readsFactor 81 = .ok (.iconst 1, 1) := dk_4 (dk_at dksX7_readsFactor_3 9 rfl rfl)
theorem dX7_readsFactor_82 : decode cX7_readsFactor 82 = .ok (.iadd, 1) := dk_96 (dk_at dksX7_readsFactor_3 10 rfl rfl)
theorem dX7_readsFactor_83 : decode cX7_readsFactor 83 = .ok (.putfield 186, 3) := dk_181 0 186 (dk_at dksX7_readsFactor_3 11 rfl rfl)
theorem dX7_readsFactor_86 : decode cX7_readsFactor 86 = .ok (.iconst 1, 1) := dk_4 (dk_at dksX7_readsFactor_3 14 rfl rfl)
theorem dX7_readsFactor_87 : decode cX7_readsFactor 87 = .ok (.ireturn, 1) := dk_172 (dk_at dksX7_readsFactor_3 15 rfl rfl)
abbrev cX7_opens : ByteArray := prog_21_method_27_code
def yX7_opens : MethodName := ⟨RX7, "opens", "(I)Z"⟩
def dkwX7_opens_2 : List UInt8 := [96, 181, 0, 216, 42, 42, 180, 0, 186, 4, 96, 181, 0, 186, 4, 172]
abbrev dktX7_opens_2 : List UInt8 := dkwX7_opens_2 ++ []
def dkwX7_opens_1 : List UInt8 := [4, 96, 181, 0, 213, 42, 180, 0, 57, 42, 180, 0, 216, 18, 212, 27, 104, 79, 42, 42, 180, 0, 216, 4]
abbrev dktX7_opens_1 : List UInt8 := dkwX7_opens_1 ++ dktX7_opens_2
def dkwX7_opens_0 : List UInt8 := [42, 180, 0, 213, 16, 6, 160, 0, 13, 42, 8, 42, 180, 0, 186, 182, 0, 199, 172, 42, 42, 180, 0, 213]
abbrev dktX7_opens_0 : List UInt8 := dkwX7_opens_0 ++ dktX7_opens_1
theorem dksX7_opens_0 : cX7_opens.data.toList.drop 0 = dktX7_opens_0 := by decide +kernel
theorem dksX7_opens_1 : cX7_opens.data.toList.drop 24 = dktX7_opens_1 := dk_seg dksX7_opens_0 24 rfl rfl
theorem dksX7_opens_2 : cX7_opens.data.toList.drop 48 = dktX7_opens_2 := dk_seg dksX7_opens_1 24 rfl rfl
theorem dX7_opens_0 : decode cX7_opens 0 = .ok (.aload_n 0, 1) := dk_42 (dk_at dksX7_opens_0 0 rfl rfl)
theorem dX7_opens_1 : decode cX7_opens 1 = .ok (.getfield 213, 3) := dk_180 0 213 (dk_at dksX7_opens_0 1 rfl rfl)
theorem dX7_opens_4 : decode cX7_opens 4 = .ok (.bipush 6, 2) := dk_16 6 (dk_at dksX7_opens_0 4 rfl rfl)
theorem dX7_opens_6 : decode cX7_opens 6 = .ok (.if_icmp .ne 13, 3) := dk_160 0 13 (dk_at dksX7_opens_0 6 rfl rfl)
theorem dX7_opens_9 : decode cX7_opens 9 = .ok (.aload_n 0, 1) := dk_42 (dk_at dksX7_opens_0 9 rfl rfl)
theorem dX7_opens_10 : decode cX7_opens 10 = .ok (.iconst 5, 1) := dk_8 (dk_at dksX7_opens_0 10 rfl rfl)
theorem dX7_opens_11 : decode cX7_opens 11 = .ok (.aload_n 0, 1) := dk_42 (dk_at dksX7_opens_0 11 rfl rfl)
theorem dX7_opens_12 : decode cX7_opens 12 = .ok (.getfield 186, 3) := dk_180 0 186 (dk_at dksX7_opens_0 12 rfl rfl)
theorem dX7_opens_15 : decode cX7_opens 15 = .ok (.invokevirtual 199, 3) := dk_182 0 199 (dk_at dksX7_opens_0 15 rfl rfl)
theorem dX7_opens_18 : decode cX7_opens 18 = .ok (.ireturn, 1) := dk_172 (dk_at dksX7_opens_0 18 rfl rfl)
theorem dX7_opens_19 : decode cX7_opens 19 = .ok (.aload_n 0, 1) := dk_42 (dk_at dksX7_opens_0 19 rfl rfl)
theorem dX7_opens_20 : decode cX7_opens 20 = .ok (.aload_n 0, 1) := dk_42 (dk_at dksX7_opens_0 20 rfl rfl)
theorem dX7_opens_21 : decode cX7_opens 21 = .ok (.getfield 213, 3) := dk_180 0 213 (dk_at dksX7_opens_0 21 rfl rfl)
theorem dX7_opens_24 : decode cX7_opens 24 = .ok (.iconst 1, 1) := dk_4 (dk_at dksX7_opens_1 0 rfl rfl)
theorem dX7_opens_25 : decode cX7_opens 25 = .ok (.iadd, 1) := dk_96 (dk_at dksX7_opens_1 1 rfl rfl)
theorem dX7_opens_26 : decode cX7_opens 26 = .ok (.putfield 213, 3) := dk_181 0 213 (dk_at dksX7_opens_1 2 rfl rfl)
theorem dX7_opens_29 : decode cX7_opens 29 = .ok (.aload_n 0, 1) := dk_42 (dk_at dksX7_opens_1 5 rfl rfl)
theorem dX7_opens_30 : decode cX7_opens 30 = .ok (.getfield 57, 3) := dk_180 0 57 (dk_at dksX7_opens_1 6 rfl rfl)
theorem dX7_opens_33 : decode cX7_opens 33 = .ok (.aload_n 0, 1) := dk_42 (dk_at dksX7_opens_1 9 rfl rfl)
theorem dX7_opens_34 : decode cX7_opens 34 = .ok (.getfield 216, 3) := dk_180 0 216 (dk_at dksX7_opens_1 10 rfl rfl)
theorem dX7_opens_37 : decode cX7_opens 37 = .ok (.ldc 212, 2) := dk_18 212 (dk_at dksX7_opens_1 13 rfl rfl)
theorem dX7_opens_39 : decode cX7_opens 39 = .ok (.iload_n 1, 1) := dk_27 (dk_at dksX7_opens_1 15 rfl rfl)
theorem dX7_opens_40 : decode cX7_opens 40 = .ok (.imul, 1) := dk_104 (dk_at dksX7_opens_1 16 rfl rfl)
theorem dX7_opens_41 : decode cX7_opens 41 = .ok (.iastore, 1) := dk_79 (dk_at dksX7_opens_1 17 rfl rfl)
theorem dX7_opens_42 : decode cX7_opens 42 = .ok (.aload_n 0, 1) := dk_42 (dk_at dksX7_opens_1 18 rfl rfl)
theorem dX7_opens_43 : decode cX7_opens 43 = .ok (.aload_n 0, 1) := dk_42 (dk_at dksX7_opens_1 19 rfl rfl)
theorem dX7_opens_44 : decode cX7_opens 44 = .ok (.getfield 216, 3) := dk_180 0 216 (dk_at dksX7_opens_1 20 rfl rfl)
theorem dX7_opens_47 : decode cX7_opens 47 = .ok (.iconst 1, 1) := dk_4 (dk_at dksX7_opens_1 23 rfl rfl)
theorem dX7_opens_48 : decode cX7_opens 48 = .ok (.iadd, 1) := dk_96 (dk_at dksX7_opens_2 0 rfl rfl)
theorem dX7_opens_49 : decode cX7_opens 49 = .ok (.putfield 216, 3) := dk_181 0 216 (dk_at dksX7_opens_2 1 rfl rfl)
theorem dX7_opens_52 : decode cX7_opens 52 = .ok (.aload_n 0, 1) := dk_42 (dk_at dksX7_opens_2 4 rfl rfl)
theorem dX7_opens_53 : decode cX7_opens 53 = .ok (.aload_n 0, 1) := dk_42 (dk_at dksX7_opens_2 5 rfl rfl)
theorem dX7_opens_54 : decode cX7_opens 54 = .ok (.getfield 186, 3) := dk_180 0 186 (dk_at dksX7_opens_2 6 rfl rfl)
theorem dX7_opens_57 : decode cX7_opens 57 = .ok (.iconst 1, 1) := dk_4 (dk_at dksX7_opens_2 9 rfl rfl)
theorem dX7_opens_58 : decode cX7_opens 58 = .ok (.iadd, 1) := dk_96 (dk_at dksX7_opens_2 10 rfl rfl)
theorem dX7_opens_59 : decode cX7_opens 59 = .ok (.putfield 186, 3) := dk_181 0 186 (dk_at dksX7_opens_2 11 rfl rfl)
theorem dX7_opens_62 : decode cX7_opens 62 = .ok (.iconst 1, 1) := dk_4 (dk_at dksX7_opens_2 14 rfl rfl)
theorem dX7_opens_63 : decode cX7_opens 63 = .ok (.ireturn, 1) := dk_172 (dk_at dksX7_opens_2 15 rfl rfl)
abbrev cX7_isDigit : ByteArray := prog_21_method_22_code
def yX7_isDigit : MethodName := ⟨RX7, "isDigit", "()Z"⟩
def dkwX7_isDigit_0 : List UInt8 := [42, 182, 0, 192, 16, 48, 161, 0, 16, 42, 182, 0, 192, 16, 57, 163, 0, 7, 4, 167, 0, 4, 3, 172]
abbrev dktX7_isDigit_0 : List UInt8 := dkwX7_isDigit_0 ++ []
theorem dksX7_isDigit_0 : cX7_isDigit.data.toList.drop 0 = dktX7_isDigit_0 := by decide +kernel
theorem dX7_isDigit_0 : decode cX7_isDigit 0 = .ok (.aload_n 0, 1) := dk_42 (dk_at dksX7_isDigit_0 0 rfl rfl)
theorem dX7_isDigit_1 : decode cX7_isDigit 1 = .ok (.invokevirtual 192, 3) := dk_182 0 192 (dk_at dksX7_isDigit_0 1 rfl rfl)
theorem dX7_isDigit_4 : decode cX7_isDigit 4 = .ok (.bipush 48, 2) := dk_16 48 (dk_at dksX7_isDigit_0 4 rfl rfl)
theorem dX7_isDigit_6 : decode cX7_isDigit 6 = .ok (.if_icmp .lt 16, 3) := dk_161 0 16 (dk_at dksX7_isDigit_0 6 rfl rfl)
theorem dX7_isDigit_9 : decode cX7_isDigit 9 = .ok (.aload_n 0, 1) := dk_42 (dk_at dksX7_isDigit_0 9 rfl rfl)
theorem dX7_isDigit_10 : decode cX7_isDigit 10 = .ok (.invokevirtual 192, 3) := dk_182 0 192 (dk_at dksX7_isDigit_0 10 rfl rfl)
theorem dX7_isDigit_13 : decode cX7_isDigit 13 = .ok (.bipush 57, 2) := dk_16 57 (dk_at dksX7_isDigit_0 13 rfl rfl)
theorem dX7_isDigit_15 : decode cX7_isDigit 15 = .ok (.if_icmp .gt 7, 3) := dk_163 0 7 (dk_at dksX7_isDigit_0 15 rfl rfl)
theorem dX7_isDigit_18 : decode cX7_isDigit 18 = .ok (.iconst 1, 1) := dk_4 (dk_at dksX7_isDigit_0 18 rfl rfl)
theorem dX7_isDigit_19 : decode cX7_isDigit 19 = .ok (.goto 4, 3) := dk_167 0 4 (dk_at dksX7_isDigit_0 19 rfl rfl)
theorem dX7_isDigit_22 : decode cX7_isDigit 22 = .ok (.iconst 0, 1) := dk_3 (dk_at dksX7_isDigit_0 22 rfl rfl)
theorem dX7_isDigit_23 : decode cX7_isDigit 23 = .ok (.ireturn, 1) := dk_172 (dk_at dksX7_isDigit_0 23 rfl rfl)
abbrev cX7_readsNumber : ByteArray := prog_21_method_25_code
def yX7_readsNumber : MethodName := ⟨RX7, "readsNumber", "()Z"⟩
def dkwX7_readsNumber_3 : List UInt8 := [172]
abbrev dktX7_readsNumber_3 : List UInt8 := dkwX7_readsNumber_3 ++ []
def dkwX7_readsNumber_2 : List UInt8 := [182, 0, 192, 96, 16, 48, 100, 181, 0, 202, 42, 42, 180, 0, 186, 4, 96, 181, 0, 186, 167, 255, 200, 4]
abbrev dktX7_readsNumber_2 : List UInt8 := dkwX7_readsNumber_2 ++ dktX7_readsNumber_3
def dkwX7_readsNumber_1 : List UInt8 := [160, 0, 13, 42, 5, 42, 180, 0, 186, 182, 0, 199, 172, 42, 16, 10, 42, 180, 0, 202, 104, 42]
abbrev dktX7_readsNumber_1 : List UInt8 := dkwX7_readsNumber_1 ++ dktX7_readsNumber_2
def dkwX7_readsNumber_0 : List UInt8 := [42, 180, 0, 186, 60, 42, 3, 181, 0, 202, 42, 182, 0, 205, 153, 0, 55, 42, 180, 0, 186, 27, 8, 96]
abbrev dktX7_readsNumber_0 : List UInt8 := dkwX7_readsNumber_0 ++ dktX7_readsNumber_1
theorem dksX7_readsNumber_0 : cX7_readsNumber.data.toList.drop 0 = dktX7_readsNumber_0 := by decide +kernel
theorem dksX7_readsNumber_1 : cX7_readsNumber.data.toList.drop 24 = dktX7_readsNumber_1 := dk_seg dksX7_readsNumber_0 24 rfl rfl
theorem dksX7_readsNumber_2 : cX7_readsNumber.data.toList.drop 46 = dktX7_readsNumber_2 := dk_seg dksX7_readsNumber_1 22 rfl rfl
theorem dksX7_readsNumber_3 : cX7_readsNumber.data.toList.drop 70 = dktX7_readsNumber_3 := dk_seg dksX7_readsNumber_2 24 rfl rfl
theorem dX7_readsNumber_0 : decode cX7_readsNumber 0 = .ok (.aload_n 0, 1) := dk_42 (dk_at dksX7_readsNumber_0 0 rfl rfl)
theorem dX7_readsNumber_1 : decode cX7_readsNumber 1 = .ok (.getfield 186, 3) := dk_180 0 186 (dk_at dksX7_readsNumber_0 1 rfl rfl)
theorem dX7_readsNumber_4 : decode cX7_readsNumber 4 = .ok (.istore_n 1, 1) := dk_60 (dk_at dksX7_readsNumber_0 4 rfl rfl)
theorem dX7_readsNumber_5 : decode cX7_readsNumber 5 = .ok (.aload_n 0, 1) := dk_42 (dk_at dksX7_readsNumber_0 5 rfl rfl)
theorem dX7_readsNumber_6 : decode cX7_readsNumber 6 = .ok (.iconst 0, 1) := dk_3 (dk_at dksX7_readsNumber_0 6 rfl rfl)
theorem dX7_readsNumber_7 : decode cX7_readsNumber 7 = .ok (.putfield 202, 3) := dk_181 0 202 (dk_at dksX7_readsNumber_0 7 rfl rfl)
theorem dX7_readsNumber_10 : decode cX7_readsNumber 10 = .ok (.aload_n 0, 1) := dk_42 (dk_at dksX7_readsNumber_0 10 rfl rfl)
theorem dX7_readsNumber_11 : decode cX7_readsNumber 11 = .ok (.invokevirtual 205, 3) := dk_182 0 205 (dk_at dksX7_readsNumber_0 11 rfl rfl)
theorem dX7_readsNumber_14 : decode cX7_readsNumber 14 = .ok (.ifCond .eq 55, 3) := dk_153 0 55 (dk_at dksX7_readsNumber_0 14 rfl rfl)
theorem dX7_readsNumber_17 : decode cX7_readsNumber 17 = .ok (.aload_n 0, 1) := dk_42 (dk_at dksX7_readsNumber_0 17 rfl rfl)
theorem dX7_readsNumber_18 : decode cX7_readsNumber 18 = .ok (.getfield 186, 3) := dk_180 0 186 (dk_at dksX7_readsNumber_0 18 rfl rfl)
theorem dX7_readsNumber_21 : decode cX7_readsNumber 21 = .ok (.iload_n 1, 1) := dk_27 (dk_at dksX7_readsNumber_0 21 rfl rfl)
theorem dX7_readsNumber_22 : decode cX7_readsNumber 22 = .ok (.iconst 5, 1) := dk_8 (dk_at dksX7_readsNumber_0 22 rfl rfl)
theorem dX7_readsNumber_23 : decode cX7_readsNumber 23 = .ok (.iadd, 1) := dk_96 (dk_at dksX7_readsNumber_0 23 rfl rfl)
theorem dX7_readsNumber_24 : decode cX7_readsNumber 24 = .ok (.if_icmp .ne 13, 3) := dk_160 0 13 (dk_at dksX7_readsNumber_1 0 rfl rfl)
theorem dX7_readsNumber_27 : decode cX7_readsNumber 27 = .ok (.aload_n 0, 1) := dk_42 (dk_at dksX7_readsNumber_1 3 rfl rfl)
theorem dX7_readsNumber_28 : decode cX7_readsNumber 28 = .ok (.iconst 2, 1) := dk_5 (dk_at dksX7_readsNumber_1 4 rfl rfl)
theorem dX7_readsNumber_29 : decode cX7_readsNumber 29 = .ok (.aload_n 0, 1) := dk_42 (dk_at dksX7_readsNumber_1 5 rfl rfl)
theorem dX7_readsNumber_30 : decode cX7_readsNumber 30 = .ok (.getfield 186, 3) := dk_180 0 186 (dk_at dksX7_readsNumber_1 6 rfl rfl)
theorem dX7_readsNumber_33 : decode cX7_readsNumber 33 = .ok (.invokevirtual 199, 3) := dk_182 0 199 (dk_at dksX7_readsNumber_1 9 rfl rfl)
theorem dX7_readsNumber_36 : decode cX7_readsNumber 36 = .ok (.ireturn, 1) := dk_172 (dk_at dksX7_readsNumber_1 12 rfl rfl)
theorem dX7_readsNumber_37 : decode cX7_readsNumber 37 = .ok (.aload_n 0, 1) := dk_42 (dk_at dksX7_readsNumber_1 13 rfl rfl)
theorem dX7_readsNumber_38 : decode cX7_readsNumber 38 = .ok (.bipush 10, 2) := dk_16 10 (dk_at dksX7_readsNumber_1 14 rfl rfl)
theorem dX7_readsNumber_40 : decode cX7_readsNumber 40 = .ok (.aload_n 0, 1) := dk_42 (dk_at dksX7_readsNumber_1 16 rfl rfl)
theorem dX7_readsNumber_41 : decode cX7_readsNumber 41 = .ok (.getfield 202, 3) := dk_180 0 202 (dk_at dksX7_readsNumber_1 17 rfl rfl)
theorem dX7_readsNumber_44 : decode cX7_readsNumber 44 = .ok (.imul, 1) := dk_104 (dk_at dksX7_readsNumber_1 20 rfl rfl)
theorem dX7_readsNumber_45 : decode cX7_readsNumber 45 = .ok (.aload_n 0, 1) := dk_42 (dk_at dksX7_readsNumber_1 21 rfl rfl)
theorem dX7_readsNumber_46 : decode cX7_readsNumber 46 = .ok (.invokevirtual 192, 3) := dk_182 0 192 (dk_at dksX7_readsNumber_2 0 rfl rfl)
theorem dX7_readsNumber_49 : decode cX7_readsNumber 49 = .ok (.iadd, 1) := dk_96 (dk_at dksX7_readsNumber_2 3 rfl rfl)
theorem dX7_readsNumber_50 : decode cX7_readsNumber 50 = .ok (.bipush 48, 2) := dk_16 48 (dk_at dksX7_readsNumber_2 4 rfl rfl)
theorem dX7_readsNumber_52 : decode cX7_readsNumber 52 = .ok (.isub, 1) := dk_100 (dk_at dksX7_readsNumber_2 6 rfl rfl)
theorem dX7_readsNumber_53 : decode cX7_readsNumber 53 = .ok (.putfield 202, 3) := dk_181 0 202 (dk_at dksX7_readsNumber_2 7 rfl rfl)
theorem dX7_readsNumber_56 : decode cX7_readsNumber 56 = .ok (.aload_n 0, 1) := dk_42 (dk_at dksX7_readsNumber_2 10 rfl rfl)
theorem dX7_readsNumber_57 : decode cX7_readsNumber 57 = .ok (.aload_n 0, 1) := dk_42 (dk_at dksX7_readsNumber_2 11 rfl rfl)
theorem dX7_readsNumber_58 : decode cX7_readsNumber 58 = .ok (.getfield 186, 3) := dk_180 0 186 (dk_at dksX7_readsNumber_2 12 rfl rfl)
theorem dX7_readsNumber_61 : decode cX7_readsNumber 61 = .ok (.iconst 1, 1) := dk_4 (dk_at dksX7_readsNumber_2 15 rfl rfl)
theorem dX7_readsNumber_62 : decode cX7_readsNumber 62 = .ok (.iadd, 1) := dk_96 (dk_at dksX7_readsNumber_2 16 rfl rfl)
theorem dX7_readsNumber_63 : decode cX7_readsNumber 63 = .ok (.putfield 186, 3) := dk_181 0 186 (dk_at dksX7_readsNumber_2 17 rfl rfl)
theorem dX7_readsNumber_66 : decode cX7_readsNumber 66 = .ok (.goto (-56), 3) := dk_167 255 200 (dk_at dksX7_readsNumber_2 20 rfl rfl)
theorem dX7_readsNumber_69 : decode cX7_readsNumber 69 = .ok (.iconst 1, 1) := dk_4 (dk_at dksX7_readsNumber_2 23 rfl rfl)
theorem dX7_readsNumber_70 : decode cX7_readsNumber 70 = .ok (.ireturn, 1) := dk_172 (dk_at dksX7_readsNumber_3 0 rfl rfl)
abbrev cX7_notes : ByteArray := prog_21_method_26_code
def yX7_notes : MethodName := ⟨RX7, "notes", "(II)V"⟩
def dkwX7_notes_1 : List UInt8 := [181, 0, 209, 177]
abbrev dktX7_notes_1 : List UInt8 := dkwX7_notes_1 ++ []
def dkwX7_notes_0 : List UInt8 := [42, 180, 0, 54, 42, 180, 0, 209, 18, 212, 27, 104, 28, 96, 79, 42, 42, 180, 0, 209, 4, 96]
abbrev dktX7_notes_0 : List UInt8 := dkwX7_notes_0 ++ dktX7_notes_1
theorem dksX7_notes_0 : cX7_notes.data.toList.drop 0 = dktX7_notes_0 := by decide +kernel
theorem dksX7_notes_1 : cX7_notes.data.toList.drop 22 = dktX7_notes_1 := dk_seg dksX7_notes_0 22 rfl rfl
theorem dX7_notes_0 : decode cX7_notes 0 = .ok (.aload_n 0, 1) := dk_42 (dk_at dksX7_notes_0 0 rfl rfl)
theorem dX7_notes_1 : decode cX7_notes 1 = .ok (.getfield 54, 3) := dk_180 0 54 (dk_at dksX7_notes_0 1 rfl rfl)
theorem dX7_notes_4 : decode cX7_notes 4 = .ok (.aload_n 0, 1) := dk_42 (dk_at dksX7_notes_0 4 rfl rfl)
theorem dX7_notes_5 : decode cX7_notes 5 = .ok (.getfield 209, 3) := dk_180 0 209 (dk_at dksX7_notes_0 5 rfl rfl)
theorem dX7_notes_8 : decode cX7_notes 8 = .ok (.ldc 212, 2) := dk_18 212 (dk_at dksX7_notes_0 8 rfl rfl)
theorem dX7_notes_10 : decode cX7_notes 10 = .ok (.iload_n 1, 1) := dk_27 (dk_at dksX7_notes_0 10 rfl rfl)
theorem dX7_notes_11 : decode cX7_notes 11 = .ok (.imul, 1) := dk_104 (dk_at dksX7_notes_0 11 rfl rfl)
theorem dX7_notes_12 : decode cX7_notes 12 = .ok (.iload_n 2, 1) := dk_28 (dk_at dksX7_notes_0 12 rfl rfl)
theorem dX7_notes_13 : decode cX7_notes 13 = .ok (.iadd, 1) := dk_96 (dk_at dksX7_notes_0 13 rfl rfl)
theorem dX7_notes_14 : decode cX7_notes 14 = .ok (.iastore, 1) := dk_79 (dk_at dksX7_notes_0 14 rfl rfl)
theorem dX7_notes_15 : decode cX7_notes 15 = .ok (.aload_n 0, 1) := dk_42 (dk_at dksX7_notes_0 15 rfl rfl)
theorem dX7_notes_16 : decode cX7_notes 16 = .ok (.aload_n 0, 1) := dk_42 (dk_at dksX7_notes_0 16 rfl rfl)
theorem dX7_notes_17 : decode cX7_notes 17 = .ok (.getfield 209, 3) := dk_180 0 209 (dk_at dksX7_notes_0 17 rfl rfl)
theorem dX7_notes_20 : decode cX7_notes 20 = .ok (.iconst 1, 1) := dk_4 (dk_at dksX7_notes_0 20 rfl rfl)
theorem dX7_notes_21 : decode cX7_notes 21 = .ok (.iadd, 1) := dk_96 (dk_at dksX7_notes_0 21 rfl rfl)
theorem dX7_notes_22 : decode cX7_notes 22 = .ok (.putfield 209, 3) := dk_181 0 209 (dk_at dksX7_notes_1 0 rfl rfl)
theorem dX7_notes_25 : decode cX7_notes 25 = .ok (.return_, 1) := dk_177 (dk_at dksX7_notes_1 3 rfl rfl)
abbrev cX7_factOf : ByteArray := prog_21_method_29_code
def yX7_factOf : MethodName := ⟨RX7, "factOf", "(I)I"⟩
def dkwX7_factOf_2 : List UInt8 := [3, 172, 4, 172, 5, 172, 6, 172, 7, 172, 8, 172, 16, 6, 172, 16, 7, 172, 16, 8, 172, 2, 172]
abbrev dktX7_factOf_2 : List UInt8 := dkwX7_factOf_2 ++ []
def dkwX7_factOf_1 : List UInt8 := [170, 0, 0, 0, 0, 0, 116, 0, 0, 0, 102, 0, 0, 0, 121, 0, 0, 0, 107, 0, 0, 0, 116, 0, 0, 0, 116, 0, 0, 0, 116, 0, 0, 0, 116, 0, 0, 0, 99, 0, 0, 0, 101, 0, 0, 0, 116, 0, 0, 0, 103, 0, 0, 0, 116, 0, 0, 0, 105, 0, 0, 0, 116, 0, 0, 0, 95, 0, 0, 0, 97, 0, 0, 0, 116, 0, 0, 0, 113, 0, 0, 0, 116, 0, 0, 0, 116, 0, 0, 0, 116, 0, 0, 0, 110]
abbrev dktX7_factOf_1 : List UInt8 := dkwX7_factOf_1 ++ dktX7_factOf_2
def dkwX7_factOf_0 : List UInt8 := [26]
abbrev dktX7_factOf_0 : List UInt8 := dkwX7_factOf_0 ++ dktX7_factOf_1
theorem dksX7_factOf_0 : cX7_factOf.data.toList.drop 0 = dktX7_factOf_0 := by decide +kernel
theorem dksX7_factOf_1 : cX7_factOf.data.toList.drop 1 = dktX7_factOf_1 := dk_seg dksX7_factOf_0 1 rfl rfl
theorem dksX7_factOf_2 : cX7_factOf.data.toList.drop 96 = dktX7_factOf_2 := dk_seg dksX7_factOf_1 95 rfl rfl
theorem dX7_factOf_0 : decode cX7_factOf 0 = .ok (.iload_n 0, 1) := dk_26 (dk_at dksX7_factOf_0 0 rfl rfl)
theorem dX7_factOf_1 : decode cX7_factOf 1 = .ok (.tableswitch 116 102 121 #[107, 116, 116, 116, 116, 99, 101, 116, 103, 116, 105, 116, 95, 97, 116, 113, 116, 116, 116, 110], 95) := by decide +kernel
theorem dX7_factOf_96 : decode cX7_factOf 96 = .ok (.iconst 0, 1) := dk_3 (dk_at dksX7_factOf_2 0 rfl rfl)
theorem dX7_factOf_97 : decode cX7_factOf 97 = .ok (.ireturn, 1) := dk_172 (dk_at dksX7_factOf_2 1 rfl rfl)
theorem dX7_factOf_98 : decode cX7_factOf 98 = .ok (.iconst 1, 1) := dk_4 (dk_at dksX7_factOf_2 2 rfl rfl)
theorem dX7_factOf_99 : decode cX7_factOf 99 = .ok (.ireturn, 1) := dk_172 (dk_at dksX7_factOf_2 3 rfl rfl)
theorem dX7_factOf_100 : decode cX7_factOf 100 = .ok (.iconst 2, 1) := dk_5 (dk_at dksX7_factOf_2 4 rfl rfl)
theorem dX7_factOf_101 : decode cX7_factOf 101 = .ok (.ireturn, 1) := dk_172 (dk_at dksX7_factOf_2 5 rfl rfl)
theorem dX7_factOf_102 : decode cX7_factOf 102 = .ok (.iconst 3, 1) := dk_6 (dk_at dksX7_factOf_2 6 rfl rfl)
theorem dX7_factOf_103 : decode cX7_factOf 103 = .ok (.ireturn, 1) := dk_172 (dk_at dksX7_factOf_2 7 rfl rfl)
theorem dX7_factOf_104 : decode cX7_factOf 104 = .ok (.iconst 4, 1) := dk_7 (dk_at dksX7_factOf_2 8 rfl rfl)
theorem dX7_factOf_105 : decode cX7_factOf 105 = .ok (.ireturn, 1) := dk_172 (dk_at dksX7_factOf_2 9 rfl rfl)
theorem dX7_factOf_106 : decode cX7_factOf 106 = .ok (.iconst 5, 1) := dk_8 (dk_at dksX7_factOf_2 10 rfl rfl)
theorem dX7_factOf_107 : decode cX7_factOf 107 = .ok (.ireturn, 1) := dk_172 (dk_at dksX7_factOf_2 11 rfl rfl)
theorem dX7_factOf_108 : decode cX7_factOf 108 = .ok (.bipush 6, 2) := dk_16 6 (dk_at dksX7_factOf_2 12 rfl rfl)
theorem dX7_factOf_110 : decode cX7_factOf 110 = .ok (.ireturn, 1) := dk_172 (dk_at dksX7_factOf_2 14 rfl rfl)
theorem dX7_factOf_111 : decode cX7_factOf 111 = .ok (.bipush 7, 2) := dk_16 7 (dk_at dksX7_factOf_2 15 rfl rfl)
theorem dX7_factOf_113 : decode cX7_factOf 113 = .ok (.ireturn, 1) := dk_172 (dk_at dksX7_factOf_2 17 rfl rfl)
theorem dX7_factOf_114 : decode cX7_factOf 114 = .ok (.bipush 8, 2) := dk_16 8 (dk_at dksX7_factOf_2 18 rfl rfl)
theorem dX7_factOf_116 : decode cX7_factOf 116 = .ok (.ireturn, 1) := dk_172 (dk_at dksX7_factOf_2 20 rfl rfl)
theorem dX7_factOf_117 : decode cX7_factOf 117 = .ok (.iconst (-1), 1) := dk_2 (dk_at dksX7_factOf_2 21 rfl rfl)
theorem dX7_factOf_118 : decode cX7_factOf 118 = .ok (.ireturn, 1) := dk_172 (dk_at dksX7_factOf_2 22 rfl rfl)
abbrev cX7_sumSign : ByteArray := prog_21_method_30_code
def yX7_sumSign : MethodName := ⟨RX7, "sumSign", "(I)I"⟩
def dkwX7_sumSign_2 : List UInt8 := [16, 6, 167, 0, 4, 2, 172]
abbrev dktX7_sumSign_2 : List UInt8 := dkwX7_sumSign_2 ++ []
def dkwX7_sumSign_1 : List UInt8 := [160, 0, 7, 7, 167, 0, 25, 26, 16, 47, 160, 0, 7, 8, 167, 0, 15, 26, 16, 37, 160, 0, 8]
abbrev dktX7_sumSign_1 : List UInt8 := dkwX7_sumSign_1 ++ dktX7_sumSign_2
def dkwX7_sumSign_0 : List UInt8 := [26, 16, 43, 160, 0, 7, 5, 167, 0, 45, 26, 16, 45, 160, 0, 7, 6, 167, 0, 35, 26, 16, 42]
abbrev dktX7_sumSign_0 : List UInt8 := dkwX7_sumSign_0 ++ dktX7_sumSign_1
theorem dksX7_sumSign_0 : cX7_sumSign.data.toList.drop 0 = dktX7_sumSign_0 := by decide +kernel
theorem dksX7_sumSign_1 : cX7_sumSign.data.toList.drop 23 = dktX7_sumSign_1 := dk_seg dksX7_sumSign_0 23 rfl rfl
theorem dksX7_sumSign_2 : cX7_sumSign.data.toList.drop 46 = dktX7_sumSign_2 := dk_seg dksX7_sumSign_1 23 rfl rfl
theorem dX7_sumSign_0 : decode cX7_sumSign 0 = .ok (.iload_n 0, 1) := dk_26 (dk_at dksX7_sumSign_0 0 rfl rfl)
theorem dX7_sumSign_1 : decode cX7_sumSign 1 = .ok (.bipush 43, 2) := dk_16 43 (dk_at dksX7_sumSign_0 1 rfl rfl)
theorem dX7_sumSign_3 : decode cX7_sumSign 3 = .ok (.if_icmp .ne 7, 3) := dk_160 0 7 (dk_at dksX7_sumSign_0 3 rfl rfl)
theorem dX7_sumSign_6 : decode cX7_sumSign 6 = .ok (.iconst 2, 1) := dk_5 (dk_at dksX7_sumSign_0 6 rfl rfl)
theorem dX7_sumSign_7 : decode cX7_sumSign 7 = .ok (.goto 45, 3) := dk_167 0 45 (dk_at dksX7_sumSign_0 7 rfl rfl)
theorem dX7_sumSign_10 : decode cX7_sumSign 10 = .ok (.iload_n 0, 1) := dk_26 (dk_at dksX7_sumSign_0 10 rfl rfl)
theorem dX7_sumSign_11 : decode cX7_sumSign 11 = .ok (.bipush 45, 2) := dk_16 45 (dk_at dksX7_sumSign_0 11 rfl rfl)
theorem dX7_sumSign_13 : decode cX7_sumSign 13 = .ok (.if_icmp .ne 7, 3) := dk_160 0 7 (dk_at dksX7_sumSign_0 13 rfl rfl)
theorem dX7_sumSign_16 : decode cX7_sumSign 16 = .ok (.iconst 3, 1) := dk_6 (dk_at dksX7_sumSign_0 16 rfl rfl)
theorem dX7_sumSign_17 : decode cX7_sumSign 17 = .ok (.goto 35, 3) := dk_167 0 35 (dk_at dksX7_sumSign_0 17 rfl rfl)
theorem dX7_sumSign_20 : decode cX7_sumSign 20 = .ok (.iload_n 0, 1) := dk_26 (dk_at dksX7_sumSign_0 20 rfl rfl)
theorem dX7_sumSign_21 : decode cX7_sumSign 21 = .ok (.bipush 42, 2) := dk_16 42 (dk_at dksX7_sumSign_0 21 rfl rfl)
theorem dX7_sumSign_23 : decode cX7_sumSign 23 = .ok (.if_icmp .ne 7, 3) := dk_160 0 7 (dk_at dksX7_sumSign_1 0 rfl rfl)
theorem dX7_sumSign_26 : decode cX7_sumSign 26 = .ok (.iconst 4, 1) := dk_7 (dk_at dksX7_sumSign_1 3 rfl rfl)
theorem dX7_sumSign_27 : decode cX7_sumSign 27 = .ok (.goto 25, 3) := dk_167 0 25 (dk_at dksX7_sumSign_1 4 rfl rfl)
theorem dX7_sumSign_30 : decode cX7_sumSign 30 = .ok (.iload_n 0, 1) := dk_26 (dk_at dksX7_sumSign_1 7 rfl rfl)
theorem dX7_sumSign_31 : decode cX7_sumSign 31 = .ok (.bipush 47, 2) := dk_16 47 (dk_at dksX7_sumSign_1 8 rfl rfl)
theorem dX7_sumSign_33 : decode cX7_sumSign 33 = .ok (.if_icmp .ne 7, 3) := dk_160 0 7 (dk_at dksX7_sumSign_1 10 rfl rfl)
theorem dX7_sumSign_36 : decode cX7_sumSign 36 = .ok (.iconst 5, 1) := dk_8 (dk_at dksX7_sumSign_1 13 rfl rfl)
theorem dX7_sumSign_37 : decode cX7_sumSign 37 = .ok (.goto 15, 3) := dk_167 0 15 (dk_at dksX7_sumSign_1 14 rfl rfl)
theorem dX7_sumSign_40 : decode cX7_sumSign 40 = .ok (.iload_n 0, 1) := dk_26 (dk_at dksX7_sumSign_1 17 rfl rfl)
theorem dX7_sumSign_41 : decode cX7_sumSign 41 = .ok (.bipush 37, 2) := dk_16 37 (dk_at dksX7_sumSign_1 18 rfl rfl)
theorem dX7_sumSign_43 : decode cX7_sumSign 43 = .ok (.if_icmp .ne 8, 3) := dk_160 0 8 (dk_at dksX7_sumSign_1 20 rfl rfl)
theorem dX7_sumSign_46 : decode cX7_sumSign 46 = .ok (.bipush 6, 2) := dk_16 6 (dk_at dksX7_sumSign_2 0 rfl rfl)
theorem dX7_sumSign_48 : decode cX7_sumSign 48 = .ok (.goto 4, 3) := dk_167 0 4 (dk_at dksX7_sumSign_2 2 rfl rfl)
theorem dX7_sumSign_51 : decode cX7_sumSign 51 = .ok (.iconst (-1), 1) := dk_2 (dk_at dksX7_sumSign_2 5 rfl rfl)
theorem dX7_sumSign_52 : decode cX7_sumSign 52 = .ok (.ireturn, 1) := dk_172 (dk_at dksX7_sumSign_2 6 rfl rfl)
abbrev cX7_closesSums : ByteArray := prog_21_method_31_code
def yX7_closesSums : MethodName := ⟨RX7, "closesSums", "(Z)V"⟩
def dkwX7_closesSums_2 : List UInt8 := [42, 42, 180, 0, 216, 4, 100, 181, 0, 216, 167, 255, 200, 177]
abbrev dktX7_closesSums_2 : List UInt8 := dkwX7_closesSums_2 ++ []
def dkwX7_closesSums_1 : List UInt8 := [182, 0, 219, 5, 159, 0, 11, 42, 182, 0, 219, 6, 160, 0, 25, 42, 42, 182, 0, 219, 3, 182, 0, 222]
abbrev dktX7_closesSums_1 : List UInt8 := dkwX7_closesSums_1 ++ dktX7_closesSums_2
def dkwX7_closesSums_0 : List UInt8 := [42, 182, 0, 219, 7, 161, 0, 12, 42, 182, 0, 219, 16, 6, 164, 0, 23, 27, 153, 0, 41, 42]
abbrev dktX7_closesSums_0 : List UInt8 := dkwX7_closesSums_0 ++ dktX7_closesSums_1
theorem dksX7_closesSums_0 : cX7_closesSums.data.toList.drop 0 = dktX7_closesSums_0 := by decide +kernel
theorem dksX7_closesSums_1 : cX7_closesSums.data.toList.drop 22 = dktX7_closesSums_1 := dk_seg dksX7_closesSums_0 22 rfl rfl
theorem dksX7_closesSums_2 : cX7_closesSums.data.toList.drop 46 = dktX7_closesSums_2 := dk_seg dksX7_closesSums_1 24 rfl rfl
theorem dX7_closesSums_0 : decode cX7_closesSums 0 = .ok (.aload_n 0, 1) := dk_42 (dk_at dksX7_closesSums_0 0 rfl rfl)
theorem dX7_closesSums_1 : decode cX7_closesSums 1 = .ok (.invokevirtual 219, 3) := dk_182 0 219 (dk_at dksX7_closesSums_0 1 rfl rfl)
theorem dX7_closesSums_4 : decode cX7_closesSums 4 = .ok (.iconst 4, 1) := dk_7 (dk_at dksX7_closesSums_0 4 rfl rfl)
theorem dX7_closesSums_5 : decode cX7_closesSums 5 = .ok (.if_icmp .lt 12, 3) := dk_161 0 12 (dk_at dksX7_closesSums_0 5 rfl rfl)
theorem dX7_closesSums_8 : decode cX7_closesSums 8 = .ok (.aload_n 0, 1) := dk_42 (dk_at dksX7_closesSums_0 8 rfl rfl)
theorem dX7_closesSums_9 : decode cX7_closesSums 9 = .ok (.invokevirtual 219, 3) := dk_182 0 219 (dk_at dksX7_closesSums_0 9 rfl rfl)
theorem dX7_closesSums_12 : decode cX7_closesSums 12 = .ok (.bipush 6, 2) := dk_16 6 (dk_at dksX7_closesSums_0 12 rfl rfl)
theorem dX7_closesSums_14 : decode cX7_closesSums 14 = .ok (.if_icmp .le 23, 3) := dk_164 0 23 (dk_at dksX7_closesSums_0 14 rfl rfl)
theorem dX7_closesSums_17 : decode cX7_closesSums 17 = .ok (.iload_n 1, 1) := dk_27 (dk_at dksX7_closesSums_0 17 rfl rfl)
theorem dX7_closesSums_18 : decode cX7_closesSums 18 = .ok (.ifCond .eq 41, 3) := dk_153 0 41 (dk_at dksX7_closesSums_0 18 rfl rfl)
theorem dX7_closesSums_21 : decode cX7_closesSums 21 = .ok (.aload_n 0, 1) := dk_42 (dk_at dksX7_closesSums_0 21 rfl rfl)
theorem dX7_closesSums_22 : decode cX7_closesSums 22 = .ok (.invokevirtual 219, 3) := dk_182 0 219 (dk_at dksX7_closesSums_1 0 rfl rfl)
theorem dX7_closesSums_25 : decode cX7_closesSums 25 = .ok (.iconst 2, 1) := dk_5 (dk_at dksX7_closesSums_1 3 rfl rfl)
theorem dX7_closesSums_26 : decode cX7_closesSums 26 = .ok (.if_icmp .eq 11, 3) := dk_159 0 11 (dk_at dksX7_closesSums_1 4 rfl rfl)
theorem dX7_closesSums_29 : decode cX7_closesSums 29 = .ok (.aload_n 0, 1) := dk_42 (dk_at dksX7_closesSums_1 7 rfl rfl)
theorem dX7_closesSums_30 : decode cX7_closesSums 30 = .ok (.invokevirtual 219, 3) := dk_182 0 219 (dk_at dksX7_closesSums_1 8 rfl rfl)
theorem dX7_closesSums_33 : decode cX7_closesSums 33 = .ok (.iconst 3, 1) := dk_6 (dk_at dksX7_closesSums_1 11 rfl rfl)
theorem dX7_closesSums_34 : decode cX7_closesSums 34 = .ok (.if_icmp .ne 25, 3) := dk_160 0 25 (dk_at dksX7_closesSums_1 12 rfl rfl)
theorem dX7_closesSums_37 : decode cX7_closesSums 37 = .ok (.aload_n 0, 1) := dk_42 (dk_at dksX7_closesSums_1 15 rfl rfl)
theorem dX7_closesSums_38 : decode cX7_closesSums 38 = .ok (.aload_n 0, 1) := dk_42 (dk_at dksX7_closesSums_1 16 rfl rfl)
theorem dX7_closesSums_39 : decode cX7_closesSums 39 = .ok (.invokevirtual 219, 3) := dk_182 0 219 (dk_at dksX7_closesSums_1 17 rfl rfl)
theorem dX7_closesSums_42 : decode cX7_closesSums 42 = .ok (.iconst 0, 1) := dk_3 (dk_at dksX7_closesSums_1 20 rfl rfl)
theorem dX7_closesSums_43 : decode cX7_closesSums 43 = .ok (.invokevirtual 222, 3) := dk_182 0 222 (dk_at dksX7_closesSums_1 21 rfl rfl)
theorem dX7_closesSums_46 : decode cX7_closesSums 46 = .ok (.aload_n 0, 1) := dk_42 (dk_at dksX7_closesSums_2 0 rfl rfl)
theorem dX7_closesSums_47 : decode cX7_closesSums 47 = .ok (.aload_n 0, 1) := dk_42 (dk_at dksX7_closesSums_2 1 rfl rfl)
theorem dX7_closesSums_48 : decode cX7_closesSums 48 = .ok (.getfield 216, 3) := dk_180 0 216 (dk_at dksX7_closesSums_2 2 rfl rfl)
theorem dX7_closesSums_51 : decode cX7_closesSums 51 = .ok (.iconst 1, 1) := dk_4 (dk_at dksX7_closesSums_2 5 rfl rfl)
theorem dX7_closesSums_52 : decode cX7_closesSums 52 = .ok (.isub, 1) := dk_100 (dk_at dksX7_closesSums_2 6 rfl rfl)
theorem dX7_closesSums_53 : decode cX7_closesSums 53 = .ok (.putfield 216, 3) := dk_181 0 216 (dk_at dksX7_closesSums_2 7 rfl rfl)
theorem dX7_closesSums_56 : decode cX7_closesSums 56 = .ok (.goto (-56), 3) := dk_167 255 200 (dk_at dksX7_closesSums_2 10 rfl rfl)
theorem dX7_closesSums_59 : decode cX7_closesSums 59 = .ok (.return_, 1) := dk_177 (dk_at dksX7_closesSums_2 13 rfl rfl)
abbrev cX7_waitTop : ByteArray := prog_21_method_28_code
def yX7_waitTop : MethodName := ⟨RX7, "waitTop", "()I"⟩
def dkwX7_waitTop_1 : List UInt8 := [108, 172]
abbrev dktX7_waitTop_1 : List UInt8 := dkwX7_waitTop_1 ++ []
def dkwX7_waitTop_0 : List UInt8 := [42, 180, 0, 216, 154, 0, 7, 2, 167, 0, 17, 42, 180, 0, 57, 42, 180, 0, 216, 4, 100, 46, 18, 212]
abbrev dktX7_waitTop_0 : List UInt8 := dkwX7_waitTop_0 ++ dktX7_waitTop_1
theorem dksX7_waitTop_0 : cX7_waitTop.data.toList.drop 0 = dktX7_waitTop_0 := by decide +kernel
theorem dksX7_waitTop_1 : cX7_waitTop.data.toList.drop 24 = dktX7_waitTop_1 := dk_seg dksX7_waitTop_0 24 rfl rfl
theorem dX7_waitTop_0 : decode cX7_waitTop 0 = .ok (.aload_n 0, 1) := dk_42 (dk_at dksX7_waitTop_0 0 rfl rfl)
theorem dX7_waitTop_1 : decode cX7_waitTop 1 = .ok (.getfield 216, 3) := dk_180 0 216 (dk_at dksX7_waitTop_0 1 rfl rfl)
theorem dX7_waitTop_4 : decode cX7_waitTop 4 = .ok (.ifCond .ne 7, 3) := dk_154 0 7 (dk_at dksX7_waitTop_0 4 rfl rfl)
theorem dX7_waitTop_7 : decode cX7_waitTop 7 = .ok (.iconst (-1), 1) := dk_2 (dk_at dksX7_waitTop_0 7 rfl rfl)
theorem dX7_waitTop_8 : decode cX7_waitTop 8 = .ok (.goto 17, 3) := dk_167 0 17 (dk_at dksX7_waitTop_0 8 rfl rfl)
theorem dX7_waitTop_11 : decode cX7_waitTop 11 = .ok (.aload_n 0, 1) := dk_42 (dk_at dksX7_waitTop_0 11 rfl rfl)
theorem dX7_waitTop_12 : decode cX7_waitTop 12 = .ok (.getfield 57, 3) := dk_180 0 57 (dk_at dksX7_waitTop_0 12 rfl rfl)
theorem dX7_waitTop_15 : decode cX7_waitTop 15 = .ok (.aload_n 0, 1) := dk_42 (dk_at dksX7_waitTop_0 15 rfl rfl)
theorem dX7_waitTop_16 : decode cX7_waitTop 16 = .ok (.getfield 216, 3) := dk_180 0 216 (dk_at dksX7_waitTop_0 16 rfl rfl)
theorem dX7_waitTop_19 : decode cX7_waitTop 19 = .ok (.iconst 1, 1) := dk_4 (dk_at dksX7_waitTop_0 19 rfl rfl)
theorem dX7_waitTop_20 : decode cX7_waitTop 20 = .ok (.isub, 1) := dk_100 (dk_at dksX7_waitTop_0 20 rfl rfl)
theorem dX7_waitTop_21 : decode cX7_waitTop 21 = .ok (.iaload, 1) := dk_46 (dk_at dksX7_waitTop_0 21 rfl rfl)
theorem dX7_waitTop_22 : decode cX7_waitTop 22 = .ok (.ldc 212, 2) := dk_18 212 (dk_at dksX7_waitTop_0 22 rfl rfl)
theorem dX7_waitTop_24 : decode cX7_waitTop 24 = .ok (.idiv, 1) := dk_108 (dk_at dksX7_waitTop_1 0 rfl rfl)
theorem dX7_waitTop_25 : decode cX7_waitTop 25 = .ok (.ireturn, 1) := dk_172 (dk_at dksX7_waitTop_1 1 rfl rfl)
abbrev cX7_hasOpenSum : ByteArray := prog_21_method_33_code
def yX7_hasOpenSum : MethodName := ⟨RX7, "hasOpenSum", "(I)Z"⟩
def dkwX7_hasOpenSum_1 : List UInt8 := [4, 172, 132, 2, 1, 167, 255, 229, 3, 172]
abbrev dktX7_hasOpenSum_1 : List UInt8 := dkwX7_hasOpenSum_1 ++ []
def dkwX7_hasOpenSum_0 : List UInt8 := [27, 61, 28, 42, 180, 0, 216, 162, 0, 25, 42, 180, 0, 57, 28, 46, 18, 212, 108, 16, 14, 160, 0, 5]
abbrev dktX7_hasOpenSum_0 : List UInt8 := dkwX7_hasOpenSum_0 ++ dktX7_hasOpenSum_1
theorem dksX7_hasOpenSum_0 : cX7_hasOpenSum.data.toList.drop 0 = dktX7_hasOpenSum_0 := by decide +kernel
theorem dksX7_hasOpenSum_1 : cX7_hasOpenSum.data.toList.drop 24 = dktX7_hasOpenSum_1 := dk_seg dksX7_hasOpenSum_0 24 rfl rfl
theorem dX7_hasOpenSum_0 : decode cX7_hasOpenSum 0 = .ok (.iload_n 1, 1) := dk_27 (dk_at dksX7_hasOpenSum_0 0 rfl rfl)
theorem dX7_hasOpenSum_1 : decode cX7_hasOpenSum 1 = .ok (.istore_n 2, 1) := dk_61 (dk_at dksX7_hasOpenSum_0 1 rfl rfl)
theorem dX7_hasOpenSum_2 : decode cX7_hasOpenSum 2 = .ok (.iload_n 2, 1) := dk_28 (dk_at dksX7_hasOpenSum_0 2 rfl rfl)
theorem dX7_hasOpenSum_3 : decode cX7_hasOpenSum 3 = .ok (.aload_n 0, 1) := dk_42 (dk_at dksX7_hasOpenSum_0 3 rfl rfl)
theorem dX7_hasOpenSum_4 : decode cX7_hasOpenSum 4 = .ok (.getfield 216, 3) := dk_180 0 216 (dk_at dksX7_hasOpenSum_0 4 rfl rfl)
theorem dX7_hasOpenSum_7 : decode cX7_hasOpenSum 7 = .ok (.if_icmp .ge 25, 3) := dk_162 0 25 (dk_at dksX7_hasOpenSum_0 7 rfl rfl)
theorem dX7_hasOpenSum_10 : decode cX7_hasOpenSum 10 = .ok (.aload_n 0, 1) := dk_42 (dk_at dksX7_hasOpenSum_0 10 rfl rfl)
theorem dX7_hasOpenSum_11 : decode cX7_hasOpenSum 11 = .ok (.getfield 57, 3) := dk_180 0 57 (dk_at dksX7_hasOpenSum_0 11 rfl rfl)
theorem dX7_hasOpenSum_14 : decode cX7_hasOpenSum 14 = .ok (.iload_n 2, 1) := dk_28 (dk_at dksX7_hasOpenSum_0 14 rfl rfl)
theorem dX7_hasOpenSum_15 : decode cX7_hasOpenSum 15 = .ok (.iaload, 1) := dk_46 (dk_at dksX7_hasOpenSum_0 15 rfl rfl)
theorem dX7_hasOpenSum_16 : decode cX7_hasOpenSum 16 = .ok (.ldc 212, 2) := dk_18 212 (dk_at dksX7_hasOpenSum_0 16 rfl rfl)
theorem dX7_hasOpenSum_18 : decode cX7_hasOpenSum 18 = .ok (.idiv, 1) := dk_108 (dk_at dksX7_hasOpenSum_0 18 rfl rfl)
theorem dX7_hasOpenSum_19 : decode cX7_hasOpenSum 19 = .ok (.bipush 14, 2) := dk_16 14 (dk_at dksX7_hasOpenSum_0 19 rfl rfl)
theorem dX7_hasOpenSum_21 : decode cX7_hasOpenSum 21 = .ok (.if_icmp .ne 5, 3) := dk_160 0 5 (dk_at dksX7_hasOpenSum_0 21 rfl rfl)
theorem dX7_hasOpenSum_24 : decode cX7_hasOpenSum 24 = .ok (.iconst 1, 1) := dk_4 (dk_at dksX7_hasOpenSum_1 0 rfl rfl)
theorem dX7_hasOpenSum_25 : decode cX7_hasOpenSum 25 = .ok (.ireturn, 1) := dk_172 (dk_at dksX7_hasOpenSum_1 1 rfl rfl)
theorem dX7_hasOpenSum_26 : decode cX7_hasOpenSum 26 = .ok (.iinc 2 1, 3) := dk_132 2 1 (dk_at dksX7_hasOpenSum_1 2 rfl rfl)
theorem dX7_hasOpenSum_29 : decode cX7_hasOpenSum 29 = .ok (.goto (-27), 3) := dk_167 255 229 (dk_at dksX7_hasOpenSum_1 5 rfl rfl)
theorem dX7_hasOpenSum_32 : decode cX7_hasOpenSum 32 = .ok (.iconst 0, 1) := dk_3 (dk_at dksX7_hasOpenSum_1 8 rfl rfl)
theorem dX7_hasOpenSum_33 : decode cX7_hasOpenSum 33 = .ok (.ireturn, 1) := dk_172 (dk_at dksX7_hasOpenSum_1 9 rfl rfl)
abbrev cX7_readsCondition : ByteArray := prog_21_method_39_code
def yX7_readsCondition : MethodName := ⟨RX7, "readsCondition", "()Z"⟩
def dkwX7_readsCondition_9 : List UInt8 := [16, 11, 167, 0, 5, 16, 12, 182, 1, 5, 167, 255, 78]
abbrev dktX7_readsCondition_9 : List UInt8 := dkwX7_readsCondition_9 ++ []
def dkwX7_readsCondition_8 : List UInt8 := [16, 124, 160, 0, 7, 4, 167, 0, 4, 3, 182, 1, 2, 42, 42, 182, 0, 192, 16, 38, 160, 0, 8]
abbrev dktX7_readsCondition_8 : List UInt8 := dkwX7_readsCondition_8 ++ dktX7_readsCondition_9
def dkwX7_readsCondition_7 : List UInt8 := [182, 0, 192, 16, 124, 159, 0, 13, 42, 4, 42, 180, 0, 186, 182, 0, 199, 172, 42, 42, 182, 0, 192]
abbrev dktX7_readsCondition_7 : List UInt8 := dkwX7_readsCondition_7 ++ dktX7_readsCondition_8
def dkwX7_readsCondition_6 : List UInt8 := [154, 0, 5, 4, 172, 42, 182, 0, 252, 167, 255, 199, 42, 182, 0, 192, 16, 38, 159, 0, 22, 42]
abbrev dktX7_readsCondition_6 : List UInt8 := dkwX7_readsCondition_6 ++ dktX7_readsCondition_7
def dkwX7_readsCondition_5 : List UInt8 := [42, 180, 0, 213, 4, 100, 181, 0, 213, 42, 42, 180, 0, 186, 4, 96, 181, 0, 186, 42, 180, 0, 216]
abbrev dktX7_readsCondition_5 : List UInt8 := dkwX7_readsCondition_5 ++ dktX7_readsCondition_6
def dkwX7_readsCondition_4 : List UInt8 := [182, 0, 192, 16, 41, 160, 0, 54, 42, 4, 182, 1, 2, 42, 42, 180, 0, 216, 4, 100, 181, 0, 216, 42]
abbrev dktX7_readsCondition_4 : List UInt8 := dkwX7_readsCondition_4 ++ dktX7_readsCondition_5
def dkwX7_readsCondition_3 : List UInt8 := [167, 0, 5, 16, 13, 182, 0, 226, 154, 255, 218, 3, 172, 42, 182, 0, 255, 154, 0, 5, 3, 172, 42]
abbrev dktX7_readsCondition_3 : List UInt8 := dkwX7_readsCondition_3 ++ dktX7_readsCondition_4
def dkwX7_readsCondition_2 : List UInt8 := [159, 0, 12, 42, 182, 0, 192, 16, 40, 160, 0, 28, 42, 42, 182, 0, 192, 16, 33, 160, 0, 8, 16, 10]
abbrev dktX7_readsCondition_2 : List UInt8 := dkwX7_readsCondition_2 ++ dktX7_readsCondition_3
def dkwX7_readsCondition_1 : List UInt8 := [42, 3, 181, 0, 216, 42, 16, 13, 182, 0, 226, 154, 0, 5, 3, 172, 42, 182, 0, 192, 16, 33]
abbrev dktX7_readsCondition_1 : List UInt8 := dkwX7_readsCondition_1 ++ dktX7_readsCondition_2
def dkwX7_readsCondition_0 : List UInt8 := [42, 182, 0, 192, 16, 40, 159, 0, 13, 42, 4, 42, 180, 0, 186, 182, 0, 199, 172, 42, 3, 181, 0, 213]
abbrev dktX7_readsCondition_0 : List UInt8 := dkwX7_readsCondition_0 ++ dktX7_readsCondition_1
theorem dksX7_readsCondition_0 : cX7_readsCondition.data.toList.drop 0 = dktX7_readsCondition_0 := by decide +kernel
theorem dksX7_readsCondition_1 : cX7_readsCondition.data.toList.drop 24 = dktX7_readsCondition_1 := dk_seg dksX7_readsCondition_0 24 rfl rfl
theorem dksX7_readsCondition_2 : cX7_readsCondition.data.toList.drop 46 = dktX7_readsCondition_2 := dk_seg dksX7_readsCondition_1 22 rfl rfl
theorem dksX7_readsCondition_3 : cX7_readsCondition.data.toList.drop 70 = dktX7_readsCondition_3 := dk_seg dksX7_readsCondition_2 24 rfl rfl
theorem dksX7_readsCondition_4 : cX7_readsCondition.data.toList.drop 93 = dktX7_readsCondition_4 := dk_seg dksX7_readsCondition_3 23 rfl rfl
theorem dksX7_readsCondition_5 : cX7_readsCondition.data.toList.drop 117 = dktX7_readsCondition_5 := dk_seg dksX7_readsCondition_4 24 rfl rfl
theorem dksX7_readsCondition_6 : cX7_readsCondition.data.toList.drop 140 = dktX7_readsCondition_6 := dk_seg dksX7_readsCondition_5 23 rfl rfl
theorem dksX7_readsCondition_7 : cX7_readsCondition.data.toList.drop 162 = dktX7_readsCondition_7 := dk_seg dksX7_readsCondition_6 22 rfl rfl
theorem dksX7_readsCondition_8 : cX7_readsCondition.data.toList.drop 185 = dktX7_readsCondition_8 := dk_seg dksX7_readsCondition_7 23 rfl rfl
theorem dksX7_readsCondition_9 : cX7_readsCondition.data.toList.drop 208 = dktX7_readsCondition_9 := dk_seg dksX7_readsCondition_8 23 rfl rfl
theorem dX7_readsCondition_0 : decode cX7_readsCondition 0 = .ok (.aload_n 0, 1) := dk_42 (dk_at dksX7_readsCondition_0 0 rfl rfl)
theorem dX7_readsCondition_1 : decode cX7_readsCondition 1 = .ok (.invokevirtual 192, 3) := dk_182 0 192 (dk_at dksX7_readsCondition_0 1 rfl rfl)
theorem dX7_readsCondition_4 : decode cX7_readsCondition 4 = .ok (.bipush 40, 2) := dk_16 40 (dk_at dksX7_readsCondition_0 4 rfl rfl)
theorem dX7_readsCondition_6 : decode cX7_readsCondition 6 = .ok (.if_icmp .eq 13, 3) := dk_159 0 13 (dk_at dksX7_readsCondition_0 6 rfl rfl)
theorem dX7_readsCondition_9 : decode cX7_readsCondition 9 = .ok (.aload_n 0, 1) := dk_42 (dk_at dksX7_readsCondition_0 9 rfl rfl)
theorem dX7_readsCondition_10 : decode cX7_readsCondition 10 = .ok (.iconst 1, 1) := dk_4 (dk_at dksX7_readsCondition_0 10 rfl rfl)
theorem dX7_readsCondition_11 : decode cX7_readsCondition 11 = .ok (.aload_n 0, 1) := dk_42 (dk_at dksX7_readsCondition_0 11 rfl rfl)
theorem dX7_readsCondition_12 : decode cX7_readsCondition 12 = .ok (.getfield 186, 3) := dk_180 0 186 (dk_at dksX7_readsCondition_0 12 rfl rfl)
theorem dX7_readsCondition_15 : decode cX7_readsCondition 15 = .ok (.invokevirtual 199, 3) := dk_182 0 199 (dk_at dksX7_readsCondition_0 15 rfl rfl)
theorem dX7_readsCondition_18 : decode cX7_readsCondition 18 = .ok (.ireturn, 1) := dk_172 (dk_at dksX7_readsCondition_0 18 rfl rfl)
theorem dX7_readsCondition_19 : decode cX7_readsCondition 19 = .ok (.aload_n 0, 1) := dk_42 (dk_at dksX7_readsCondition_0 19 rfl rfl)
theorem dX7_readsCondition_20 : decode cX7_readsCondition 20 = .ok (.iconst 0, 1) := dk_3 (dk_at dksX7_readsCondition_0 20 rfl rfl)
theorem dX7_readsCondition_21 : decode cX7_readsCondition 21 = .ok (.putfield 213, 3) := dk_181 0 213 (dk_at dksX7_readsCondition_0 21 rfl rfl)
theorem dX7_readsCondition_24 : decode cX7_readsCondition 24 = .ok (.aload_n 0, 1) := dk_42 (dk_at dksX7_readsCondition_1 0 rfl rfl)
theorem dX7_readsCondition_25 : decode cX7_readsCondition 25 = .ok (.iconst 0, 1) := dk_3 (dk_at dksX7_readsCondition_1 1 rfl rfl)
theorem dX7_readsCondition_26 : decode cX7_readsCondition 26 = .ok (.putfield 216, 3) := dk_181 0 216 (dk_at dksX7_readsCondition_1 2 rfl rfl)
theorem dX7_readsCondition_29 : decode cX7_readsCondition 29 = .ok (.aload_n 0, 1) := dk_42 (dk_at dksX7_readsCondition_1 5 rfl rfl)
theorem dX7_readsCondition_30 : decode cX7_readsCondition 30 = .ok (.bipush 13, 2) := dk_16 13 (dk_at dksX7_readsCondition_1 6 rfl rfl)
theorem dX7_readsCondition_32 : decode cX7_readsCondition 32 = .ok (.invokevirtual 226, 3) := dk_182 0 226 (dk_at dksX7_readsCondition_1 8 rfl rfl)
theorem dX7_readsCondition_35 : decode cX7_readsCondition 35 = .ok (.ifCond .ne 5, 3) := dk_154 0 5 (dk_at dksX7_readsCondition_1 11 rfl rfl)
theorem dX7_readsCondition_38 : decode cX7_readsCondition 38 = .ok (.iconst 0, 1) := dk_3 (dk_at dksX7_readsCondition_1 14 rfl rfl)
theorem dX7_readsCondition_39 : decode cX7_readsCondition 39 = .ok (.ireturn, 1) := dk_172 (dk_at dksX7_readsCondition_1 15 rfl rfl)
theorem dX7_readsCondition_40 : decode cX7_readsCondition 40 = .ok (.aload_n 0, 1) := dk_42 (dk_at dksX7_readsCondition_1 16 rfl rfl)
theorem dX7_readsCondition_41 : decode cX7_readsCondition 41 = .ok (.invokevirtual 192, 3) := dk_182 0 192 (dk_at dksX7_readsCondition_1 17 rfl rfl)
theorem dX7_readsCondition_44 : decode cX7_readsCondition 44 = .ok (.bipush 33, 2) := dk_16 33 (dk_at dksX7_readsCondition_1 20 rfl rfl)
theorem dX7_readsCondition_46 : decode cX7_readsCondition 46 = .ok (.if_icmp .eq 12, 3) := dk_159 0 12 (dk_at dksX7_readsCondition_2 0 rfl rfl)
theorem dX7_readsCondition_49 : decode cX7_readsCondition 49 = .ok (.aload_n 0, 1) := dk_42 (dk_at dksX7_readsCondition_2 3 rfl rfl)
theorem dX7_readsCondition_50 : decode cX7_readsCondition 50 = .ok (.invokevirtual 192, 3) := dk_182 0 192 (dk_at dksX7_readsCondition_2 4 rfl rfl)
theorem dX7_readsCondition_53 : decode cX7_readsCondition 53 = .ok (.bipush 40, 2) := dk_16 40 (dk_at dksX7_readsCondition_2 7 rfl rfl)
theorem dX7_readsCondition_55 : decode cX7_readsCondition 55 = .ok (.if_icmp .ne 28, 3) := dk_160 0 28 (dk_at dksX7_readsCondition_2 9 rfl rfl)
theorem dX7_readsCondition_58 : decode cX7_readsCondition 58 = .ok (.aload_n 0, 1) := dk_42 (dk_at dksX7_readsCondition_2 12 rfl rfl)
theorem dX7_readsCondition_59 : decode cX7_readsCondition 59 = .ok (.aload_n 0, 1) := dk_42 (dk_at dksX7_readsCondition_2 13 rfl rfl)
theorem dX7_readsCondition_60 : decode cX7_readsCondition 60 = .ok (.invokevirtual 192, 3) := dk_182 0 192 (dk_at dksX7_readsCondition_2 14 rfl rfl)
theorem dX7_readsCondition_63 : decode cX7_readsCondition 63 = .ok (.bipush 33, 2) := dk_16 33 (dk_at dksX7_readsCondition_2 17 rfl rfl)
theorem dX7_readsCondition_65 : decode cX7_readsCondition 65 = .ok (.if_icmp .ne 8, 3) := dk_160 0 8 (dk_at dksX7_readsCondition_2 19 rfl rfl)
theorem dX7_readsCondition_68 : decode cX7_readsCondition 68 = .ok (.bipush 10, 2) := dk_16 10 (dk_at dksX7_readsCondition_2 22 rfl rfl)
theorem dX7_readsCondition_70 : decode cX7_readsCondition 70 = .ok (.goto 5, 3) := dk_167 0 5 (dk_at dksX7_readsCondition_3 0 rfl rfl)
theorem dX7_readsCondition_73 : decode cX7_readsCondition 73 = .ok (.bipush 13, 2) := dk_16 13 (dk_at dksX7_readsCondition_3 3 rfl rfl)
theorem dX7_readsCondition_75 : decode cX7_readsCondition 75 = .ok (.invokevirtual 226, 3) := dk_182 0 226 (dk_at dksX7_readsCondition_3 5 rfl rfl)
theorem dX7_readsCondition_78 : decode cX7_readsCondition 78 = .ok (.ifCond .ne (-38), 3) := dk_154 255 218 (dk_at dksX7_readsCondition_3 8 rfl rfl)
theorem dX7_readsCondition_81 : decode cX7_readsCondition 81 = .ok (.iconst 0, 1) := dk_3 (dk_at dksX7_readsCondition_3 11 rfl rfl)
theorem dX7_readsCondition_82 : decode cX7_readsCondition 82 = .ok (.ireturn, 1) := dk_172 (dk_at dksX7_readsCondition_3 12 rfl rfl)
theorem dX7_readsCondition_83 : decode cX7_readsCondition 83 = .ok (.aload_n 0, 1) := dk_42 (dk_at dksX7_readsCondition_3 13 rfl rfl)
theorem dX7_readsCondition_84 : decode cX7_readsCondition 84 = .ok (.invokevirtual 255, 3) := dk_182 0 255 (dk_at dksX7_readsCondition_3 14 rfl rfl)
theorem dX7_readsCondition_87 : decode cX7_readsCondition 87 = .ok (.ifCond .ne 5, 3) := dk_154 0 5 (dk_at dksX7_readsCondition_3 17 rfl rfl)
theorem dX7_readsCondition_90 : decode cX7_readsCondition 90 = .ok (.iconst 0, 1) := dk_3 (dk_at dksX7_readsCondition_3 20 rfl rfl)
theorem dX7_readsCondition_91 : decode cX7_readsCondition 91 = .ok (.ireturn, 1) := dk_172 (dk_at dksX7_readsCondition_3 21 rfl rfl)
theorem dX7_readsCondition_92 : decode cX7_readsCondition 92 = .ok (.aload_n 0, 1) := dk_42 (dk_at dksX7_readsCondition_3 22 rfl rfl)
theorem dX7_readsCondition_93 : decode cX7_readsCondition 93 = .ok (.invokevirtual 192, 3) := dk_182 0 192 (dk_at dksX7_readsCondition_4 0 rfl rfl)
theorem dX7_readsCondition_96 : decode cX7_readsCondition 96 = .ok (.bipush 41, 2) := dk_16 41 (dk_at dksX7_readsCondition_4 3 rfl rfl)
theorem dX7_readsCondition_98 : decode cX7_readsCondition 98 = .ok (.if_icmp .ne 54, 3) := dk_160 0 54 (dk_at dksX7_readsCondition_4 5 rfl rfl)
theorem dX7_readsCondition_101 : decode cX7_readsCondition 101 = .ok (.aload_n 0, 1) := dk_42 (dk_at dksX7_readsCondition_4 8 rfl rfl)
theorem dX7_readsCondition_102 : decode cX7_readsCondition 102 = .ok (.iconst 1, 1) := dk_4 (dk_at dksX7_readsCondition_4 9 rfl rfl)
theorem dX7_readsCondition_103 : decode cX7_readsCondition 103 = .ok (.invokevirtual 258, 3) := dk_182 1 2 (dk_at dksX7_readsCondition_4 10 rfl rfl)
theorem dX7_readsCondition_106 : decode cX7_readsCondition 106 = .ok (.aload_n 0, 1) := dk_42 (dk_at dksX7_readsCondition_4 13 rfl rfl)
theorem dX7_readsCondition_107 : decode cX7_readsCondition 107 = .ok (.aload_n 0, 1) := dk_42 (dk_at dksX7_readsCondition_4 14 rfl rfl)
theorem dX7_readsCondition_108 : decode cX7_readsCondition 108 = .ok (.getfield 216, 3) := dk_180 0 216 (dk_at dksX7_readsCondition_4 15 rfl rfl)
theorem dX7_readsCondition_111 : decode cX7_readsCondition 111 = .ok (.iconst 1, 1) := dk_4 (dk_at dksX7_readsCondition_4 18 rfl rfl)
theorem dX7_readsCondition_112 : decode cX7_readsCondition 112 = .ok (.isub, 1) := dk_100 (dk_at dksX7_readsCondition_4 19 rfl rfl)
theorem dX7_readsCondition_113 : decode cX7_readsCondition 113 = .ok (.putfield 216, 3) := dk_181 0 216 (dk_at dksX7_readsCondition_4 20 rfl rfl)
theorem dX7_readsCondition_116 : decode cX7_readsCondition 116 = .ok (.aload_n 0, 1) := dk_42 (dk_at dksX7_readsCondition_4 23 rfl rfl)
theorem dX7_readsCondition_117 : decode cX7_readsCondition 117 = .ok (.aload_n 0, 1) := dk_42 (dk_at dksX7_readsCondition_5 0 rfl rfl)
theorem dX7_readsCondition_118 : decode cX7_readsCondition 118 = .ok (.getfield 213, 3) := dk_180 0 213 (dk_at dksX7_readsCondition_5 1 rfl rfl)
theorem dX7_readsCondition_121 : decode cX7_readsCondition 121 = .ok (.iconst 1, 1) := dk_4 (dk_at dksX7_readsCondition_5 4 rfl rfl)
theorem dX7_readsCondition_122 : decode cX7_readsCondition 122 = .ok (.isub, 1) := dk_100 (dk_at dksX7_readsCondition_5 5 rfl rfl)
theorem dX7_readsCondition_123 : decode cX7_readsCondition 123 = .ok (.putfield 213, 3) := dk_181 0 213 (dk_at dksX7_readsCondition_5 6 rfl rfl)
theorem dX7_readsCondition_126 : decode cX7_readsCondition 126 = .ok (.aload_n 0, 1) := dk_42 (dk_at dksX7_readsCondition_5 9 rfl rfl)
theorem dX7_readsCondition_127 : decode cX7_readsCondition 127 = .ok (.aload_n 0, 1) := dk_42 (dk_at dksX7_readsCondition_5 10 rfl rfl)
theorem dX7_readsCondition_128 : decode cX7_readsCondition 128 = .ok (.getfield 186, 3) := dk_180 0 186 (dk_at dksX7_readsCondition_5 11 rfl rfl)
theorem dX7_readsCondition_131 : decode cX7_readsCondition 131 = .ok (.iconst 1, 1) := dk_4 (dk_at dksX7_readsCondition_5 14 rfl rfl)
theorem dX7_readsCondition_132 : decode cX7_readsCondition 132 = .ok (.iadd, 1) := dk_96 (dk_at dksX7_readsCondition_5 15 rfl rfl)
theorem dX7_readsCondition_133 : decode cX7_readsCondition 133 = .ok (.putfield 186, 3) := dk_181 0 186 (dk_at dksX7_readsCondition_5 16 rfl rfl)
theorem dX7_readsCondition_136 : decode cX7_readsCondition 136 = .ok (.aload_n 0, 1) := dk_42 (dk_at dksX7_readsCondition_5 19 rfl rfl)
theorem dX7_readsCondition_137 : decode cX7_readsCondition 137 = .ok (.getfield 216, 3) := dk_180 0 216 (dk_at dksX7_readsCondition_5 20 rfl rfl)
theorem dX7_readsCondition_140 : decode cX7_readsCondition 140 = .ok (.ifCond .ne 5, 3) := dk_154 0 5 (dk_at dksX7_readsCondition_6 0 rfl rfl)
theorem dX7_readsCondition_143 : decode cX7_readsCondition 143 = .ok (.iconst 1, 1) := dk_4 (dk_at dksX7_readsCondition_6 3 rfl rfl)
theorem dX7_readsCondition_144 : decode cX7_readsCondition 144 = .ok (.ireturn, 1) := dk_172 (dk_at dksX7_readsCondition_6 4 rfl rfl)
theorem dX7_readsCondition_145 : decode cX7_readsCondition 145 = .ok (.aload_n 0, 1) := dk_42 (dk_at dksX7_readsCondition_6 5 rfl rfl)
theorem dX7_readsCondition_146 : decode cX7_readsCondition 146 = .ok (.invokevirtual 252, 3) := dk_182 0 252 (dk_at dksX7_readsCondition_6 6 rfl rfl)
theorem dX7_readsCondition_149 : decode cX7_readsCondition 149 = .ok (.goto (-57), 3) := dk_167 255 199 (dk_at dksX7_readsCondition_6 9 rfl rfl)
theorem dX7_readsCondition_152 : decode cX7_readsCondition 152 = .ok (.aload_n 0, 1) := dk_42 (dk_at dksX7_readsCondition_6 12 rfl rfl)
theorem dX7_readsCondition_153 : decode cX7_readsCondition 153 = .ok (.invokevirtual 192, 3) := dk_182 0 192 (dk_at dksX7_readsCondition_6 13 rfl rfl)
theorem dX7_readsCondition_156 : decode cX7_readsCondition 156 = .ok (.bipush 38, 2) := dk_16 38 (dk_at dksX7_readsCondition_6 16 rfl rfl)
theorem dX7_readsCondition_158 : decode cX7_readsCondition 158 = .ok (.if_icmp .eq 22, 3) := dk_159 0 22 (dk_at dksX7_readsCondition_6 18 rfl rfl)
theorem dX7_readsCondition_161 : decode cX7_readsCondition 161 = .ok (.aload_n 0, 1) := dk_42 (dk_at dksX7_readsCondition_6 21 rfl rfl)
theorem dX7_readsCondition_162 : decode cX7_readsCondition 162 = .ok (.invokevirtual 192, 3) := dk_182 0 192 (dk_at dksX7_readsCondition_7 0 rfl rfl)
theorem dX7_readsCondition_165 : decode cX7_readsCondition 165 = .ok (.bipush 124, 2) := dk_16 124 (dk_at dksX7_readsCondition_7 3 rfl rfl)
theorem dX7_readsCondition_167 : decode cX7_readsCondition 167 = .ok (.if_icmp .eq 13, 3) := dk_159 0 13 (dk_at dksX7_readsCondition_7 5 rfl rfl)
theorem dX7_readsCondition_170 : decode cX7_readsCondition 170 = .ok (.aload_n 0, 1) := dk_42 (dk_at dksX7_readsCondition_7 8 rfl rfl)
theorem dX7_readsCondition_171 : decode cX7_readsCondition 171 = .ok (.iconst 1, 1) := dk_4 (dk_at dksX7_readsCondition_7 9 rfl rfl)
theorem dX7_readsCondition_172 : decode cX7_readsCondition 172 = .ok (.aload_n 0, 1) := dk_42 (dk_at dksX7_readsCondition_7 10 rfl rfl)
theorem dX7_readsCondition_173 : decode cX7_readsCondition 173 = .ok (.getfield 186, 3) := dk_180 0 186 (dk_at dksX7_readsCondition_7 11 rfl rfl)
theorem dX7_readsCondition_176 : decode cX7_readsCondition 176 = .ok (.invokevirtual 199, 3) := dk_182 0 199 (dk_at dksX7_readsCondition_7 14 rfl rfl)
theorem dX7_readsCondition_179 : decode cX7_readsCondition 179 = .ok (.ireturn, 1) := dk_172 (dk_at dksX7_readsCondition_7 17 rfl rfl)
theorem dX7_readsCondition_180 : decode cX7_readsCondition 180 = .ok (.aload_n 0, 1) := dk_42 (dk_at dksX7_readsCondition_7 18 rfl rfl)
theorem dX7_readsCondition_181 : decode cX7_readsCondition 181 = .ok (.aload_n 0, 1) := dk_42 (dk_at dksX7_readsCondition_7 19 rfl rfl)
theorem dX7_readsCondition_182 : decode cX7_readsCondition 182 = .ok (.invokevirtual 192, 3) := dk_182 0 192 (dk_at dksX7_readsCondition_7 20 rfl rfl)
theorem dX7_readsCondition_185 : decode cX7_readsCondition 185 = .ok (.bipush 124, 2) := dk_16 124 (dk_at dksX7_readsCondition_8 0 rfl rfl)
theorem dX7_readsCondition_187 : decode cX7_readsCondition 187 = .ok (.if_icmp .ne 7, 3) := dk_160 0 7 (dk_at dksX7_readsCondition_8 2 rfl rfl)
theorem dX7_readsCondition_190 : decode cX7_readsCondition 190 = .ok (.iconst 1, 1) := dk_4 (dk_at dksX7_readsCondition_8 5 rfl rfl)
theorem dX7_readsCondition_191 : decode cX7_readsCondition 191 = .ok (.goto 4, 3) := dk_167 0 4 (dk_at dksX7_readsCondition_8 6 rfl rfl)
theorem dX7_readsCondition_194 : decode cX7_readsCondition 194 = .ok (.iconst 0, 1) := dk_3 (dk_at dksX7_readsCondition_8 9 rfl rfl)
theorem dX7_readsCondition_195 : decode cX7_readsCondition 195 = .ok (.invokevirtual 258, 3) := dk_182 1 2 (dk_at dksX7_readsCondition_8 10 rfl rfl)
theorem dX7_readsCondition_198 : decode cX7_readsCondition 198 = .ok (.aload_n 0, 1) := dk_42 (dk_at dksX7_readsCondition_8 13 rfl rfl)
theorem dX7_readsCondition_199 : decode cX7_readsCondition 199 = .ok (.aload_n 0, 1) := dk_42 (dk_at dksX7_readsCondition_8 14 rfl rfl)
theorem dX7_readsCondition_200 : decode cX7_readsCondition 200 = .ok (.invokevirtual 192, 3) := dk_182 0 192 (dk_at dksX7_readsCondition_8 15 rfl rfl)
theorem dX7_readsCondition_203 : decode cX7_readsCondition 203 = .ok (.bipush 38, 2) := dk_16 38 (dk_at dksX7_readsCondition_8 18 rfl rfl)
theorem dX7_readsCondition_205 : decode cX7_readsCondition 205 = .ok (.if_icmp .ne 8, 3) := dk_160 0 8 (dk_at dksX7_readsCondition_8 20 rfl rfl)
theorem dX7_readsCondition_208 : decode cX7_readsCondition 208 = .ok (.bipush 11, 2) := dk_16 11 (dk_at dksX7_readsCondition_9 0 rfl rfl)
theorem dX7_readsCondition_210 : decode cX7_readsCondition 210 = .ok (.goto 5, 3) := dk_167 0 5 (dk_at dksX7_readsCondition_9 2 rfl rfl)
theorem dX7_readsCondition_213 : decode cX7_readsCondition 213 = .ok (.bipush 12, 2) := dk_16 12 (dk_at dksX7_readsCondition_9 5 rfl rfl)
theorem dX7_readsCondition_215 : decode cX7_readsCondition 215 = .ok (.invokevirtual 261, 3) := dk_182 1 5 (dk_at dksX7_readsCondition_9 7 rfl rfl)
theorem dX7_readsCondition_218 : decode cX7_readsCondition 218 = .ok (.goto (-178), 3) := dk_167 255 78 (dk_at dksX7_readsCondition_9 10 rfl rfl)
abbrev cX7_readsCompared : ByteArray := prog_21_method_38_code
def yX7_readsCompared : MethodName := ⟨RX7, "readsCompared", "()Z"⟩
def dkwX7_readsCompared_4 : List UInt8 := [182, 0, 252, 4, 172]
abbrev dktX7_readsCompared_4 : List UInt8 := dkwX7_readsCompared_4 ++ []
def dkwX7_readsCompared_3 : List UInt8 := [180, 0, 186, 4, 96, 181, 0, 186, 42, 182, 0, 249, 154, 0, 5, 3, 172, 42, 27, 3, 182, 0, 222, 42]
abbrev dktX7_readsCompared_3 : List UInt8 := dkwX7_readsCompared_3 ++ dktX7_readsCompared_4
def dkwX7_readsCompared_2 : List UInt8 := [167, 0, 4, 2, 60, 27, 2, 160, 0, 13, 42, 4, 42, 180, 0, 186, 182, 0, 199, 172, 42, 42]
abbrev dktX7_readsCompared_2 : List UInt8 := dkwX7_readsCompared_2 ++ dktX7_readsCompared_3
def dkwX7_readsCompared_1 : List UInt8 := [182, 0, 192, 16, 62, 160, 0, 8, 16, 8, 167, 0, 18, 42, 182, 0, 192, 16, 61, 160, 0, 8, 16, 9]
abbrev dktX7_readsCompared_1 : List UInt8 := dkwX7_readsCompared_1 ++ dktX7_readsCompared_2
def dkwX7_readsCompared_0 : List UInt8 := [42, 182, 0, 249, 154, 0, 5, 3, 172, 42, 182, 0, 192, 16, 60, 160, 0, 8, 16, 7, 167, 0, 32, 42]
abbrev dktX7_readsCompared_0 : List UInt8 := dkwX7_readsCompared_0 ++ dktX7_readsCompared_1
theorem dksX7_readsCompared_0 : cX7_readsCompared.data.toList.drop 0 = dktX7_readsCompared_0 := by decide +kernel
theorem dksX7_readsCompared_1 : cX7_readsCompared.data.toList.drop 24 = dktX7_readsCompared_1 := dk_seg dksX7_readsCompared_0 24 rfl rfl
theorem dksX7_readsCompared_2 : cX7_readsCompared.data.toList.drop 48 = dktX7_readsCompared_2 := dk_seg dksX7_readsCompared_1 24 rfl rfl
theorem dksX7_readsCompared_3 : cX7_readsCompared.data.toList.drop 70 = dktX7_readsCompared_3 := dk_seg dksX7_readsCompared_2 22 rfl rfl
theorem dksX7_readsCompared_4 : cX7_readsCompared.data.toList.drop 94 = dktX7_readsCompared_4 := dk_seg dksX7_readsCompared_3 24 rfl rfl
theorem dX7_readsCompared_0 : decode cX7_readsCompared 0 = .ok (.aload_n 0, 1) := dk_42 (dk_at dksX7_readsCompared_0 0 rfl rfl)
theorem dX7_readsCompared_1 : decode cX7_readsCompared 1 = .ok (.invokevirtual 249, 3) := dk_182 0 249 (dk_at dksX7_readsCompared_0 1 rfl rfl)
theorem dX7_readsCompared_4 : decode cX7_readsCompared 4 = .ok (.ifCond .ne 5, 3) := dk_154 0 5 (dk_at dksX7_readsCompared_0 4 rfl rfl)
theorem dX7_readsCompared_7 : decode cX7_readsCompared 7 = .ok (.iconst 0, 1) := dk_3 (dk_at dksX7_readsCompared_0 7 rfl rfl)
theorem dX7_readsCompared_8 : decode cX7_readsCompared 8 = .ok (.ireturn, 1) := dk_172 (dk_at dksX7_readsCompared_0 8 rfl rfl)
theorem dX7_readsCompared_9 : decode cX7_readsCompared 9 = .ok (.aload_n 0, 1) := dk_42 (dk_at dksX7_readsCompared_0 9 rfl rfl)
theorem dX7_readsCompared_10 : decode cX7_readsCompared 10 = .ok (.invokevirtual 192, 3) := dk_182 0 192 (dk_at dksX7_readsCompared_0 10 rfl rfl)
theorem dX7_readsCompared_13 : decode cX7_readsCompared 13 = .ok (.bipush 60, 2) := dk_16 60 (dk_at dksX7_readsCompared_0 13 rfl rfl)
theorem dX7_readsCompared_15 : decode cX7_readsCompared 15 = .ok (.if_icmp .ne 8, 3) := dk_160 0 8 (dk_at dksX7_readsCompared_0 15 rfl rfl)
theorem dX7_readsCompared_18 : decode cX7_readsCompared 18 = .ok (.bipush 7, 2) := dk_16 7 (dk_at dksX7_readsCompared_0 18 rfl rfl)
theorem dX7_readsCompared_20 : decode cX7_readsCompared 20 = .ok (.goto 32, 3) := dk_167 0 32 (dk_at dksX7_readsCompared_0 20 rfl rfl)
theorem dX7_readsCompared_23 : decode cX7_readsCompared 23 = .ok (.aload_n 0, 1) := dk_42 (dk_at dksX7_readsCompared_0 23 rfl rfl)
theorem dX7_readsCompared_24 : decode cX7_readsCompared 24 = .ok (.invokevirtual 192, 3) := dk_182 0 192 (dk_at dksX7_readsCompared_1 0 rfl rfl)
theorem dX7_readsCompared_27 : decode cX7_readsCompared 27 = .ok (.bipush 62, 2) := dk_16 62 (dk_at dksX7_readsCompared_1 3 rfl rfl)
theorem dX7_readsCompared_29 : decode cX7_readsCompared 29 = .ok (.if_icmp .ne 8, 3) := dk_160 0 8 (dk_at dksX7_readsCompared_1 5 rfl rfl)
theorem dX7_readsCompared_32 : decode cX7_readsCompared 32 = .ok (.bipush 8, 2) := dk_16 8 (dk_at dksX7_readsCompared_1 8 rfl rfl)
theorem dX7_readsCompared_34 : decode cX7_readsCompared 34 = .ok (.goto 18, 3) := dk_167 0 18 (dk_at dksX7_readsCompared_1 10 rfl rfl)
theorem dX7_readsCompared_37 : decode cX7_readsCompared 37 = .ok (.aload_n 0, 1) := dk_42 (dk_at dksX7_readsCompared_1 13 rfl rfl)
theorem dX7_readsCompared_38 : decode cX7_readsCompared 38 = .ok (.invokevirtual 192, 3) := dk_182 0 192 (dk_at dksX7_readsCompared_1 14 rfl rfl)
theorem dX7_readsCompared_41 : decode cX7_readsCompared 41 = .ok (.bipush 61, 2) := dk_16 61 (dk_at dksX7_readsCompared_1 17 rfl rfl)
theorem dX7_readsCompared_43 : decode cX7_readsCompared 43 = .ok (.if_icmp .ne 8, 3) := dk_160 0 8 (dk_at dksX7_readsCompared_1 19 rfl rfl)
theorem dX7_readsCompared_46 : decode cX7_readsCompared 46 = .ok (.bipush 9, 2) := dk_16 9 (dk_at dksX7_readsCompared_1 22 rfl rfl)
theorem dX7_readsCompared_48 : decode cX7_readsCompared 48 = .ok (.goto 4, 3) := dk_167 0 4 (dk_at dksX7_readsCompared_2 0 rfl rfl)
theorem dX7_readsCompared_51 : decode cX7_readsCompared 51 = .ok (.iconst (-1), 1) := dk_2 (dk_at dksX7_readsCompared_2 3 rfl rfl)
theorem dX7_readsCompared_52 : decode cX7_readsCompared 52 = .ok (.istore_n 1, 1) := dk_60 (dk_at dksX7_readsCompared_2 4 rfl rfl)
theorem dX7_readsCompared_53 : decode cX7_readsCompared 53 = .ok (.iload_n 1, 1) := dk_27 (dk_at dksX7_readsCompared_2 5 rfl rfl)
theorem dX7_readsCompared_54 : decode cX7_readsCompared 54 = .ok (.iconst (-1), 1) := dk_2 (dk_at dksX7_readsCompared_2 6 rfl rfl)
theorem dX7_readsCompared_55 : decode cX7_readsCompared 55 = .ok (.if_icmp .ne 13, 3) := dk_160 0 13 (dk_at dksX7_readsCompared_2 7 rfl rfl)
theorem dX7_readsCompared_58 : decode cX7_readsCompared 58 = .ok (.aload_n 0, 1) := dk_42 (dk_at dksX7_readsCompared_2 10 rfl rfl)
theorem dX7_readsCompared_59 : decode cX7_readsCompared 59 = .ok (.iconst 1, 1) := dk_4 (dk_at dksX7_readsCompared_2 11 rfl rfl)
theorem dX7_readsCompared_60 : decode cX7_readsCompared 60 = .ok (.aload_n 0, 1) := dk_42 (dk_at dksX7_readsCompared_2 12 rfl rfl)
theorem dX7_readsCompared_61 : decode cX7_readsCompared 61 = .ok (.getfield 186, 3) := dk_180 0 186 (dk_at dksX7_readsCompared_2 13 rfl rfl)
theorem dX7_readsCompared_64 : decode cX7_readsCompared 64 = .ok (.invokevirtual 199, 3) := dk_182 0 199 (dk_at dksX7_readsCompared_2 16 rfl rfl)
theorem dX7_readsCompared_67 : decode cX7_readsCompared 67 = .ok (.ireturn, 1) := dk_172 (dk_at dksX7_readsCompared_2 19 rfl rfl)
theorem dX7_readsCompared_68 : decode cX7_readsCompared 68 = .ok (.aload_n 0, 1) := dk_42 (dk_at dksX7_readsCompared_2 20 rfl rfl)
theorem dX7_readsCompared_69 : decode cX7_readsCompared 69 = .ok (.aload_n 0, 1) := dk_42 (dk_at dksX7_readsCompared_2 21 rfl rfl)
theorem dX7_readsCompared_70 : decode cX7_readsCompared 70 = .ok (.getfield 186, 3) := dk_180 0 186 (dk_at dksX7_readsCompared_3 0 rfl rfl)
theorem dX7_readsCompared_73 : decode cX7_readsCompared 73 = .ok (.iconst 1, 1) := dk_4 (dk_at dksX7_readsCompared_3 3 rfl rfl)
theorem dX7_readsCompared_74 : decode cX7_readsCompared 74 = .ok (.iadd, 1) := dk_96 (dk_at dksX7_readsCompared_3 4 rfl rfl)
theorem dX7_readsCompared_75 : decode cX7_readsCompared 75 = .ok (.putfield 186, 3) := dk_181 0 186 (dk_at dksX7_readsCompared_3 5 rfl rfl)
theorem dX7_readsCompared_78 : decode cX7_readsCompared 78 = .ok (.aload_n 0, 1) := dk_42 (dk_at dksX7_readsCompared_3 8 rfl rfl)
theorem dX7_readsCompared_79 : decode cX7_readsCompared 79 = .ok (.invokevirtual 249, 3) := dk_182 0 249 (dk_at dksX7_readsCompared_3 9 rfl rfl)
theorem dX7_readsCompared_82 : decode cX7_readsCompared 82 = .ok (.ifCond .ne 5, 3) := dk_154 0 5 (dk_at dksX7_readsCompared_3 12 rfl rfl)
theorem dX7_readsCompared_85 : decode cX7_readsCompared 85 = .ok (.iconst 0, 1) := dk_3 (dk_at dksX7_readsCompared_3 15 rfl rfl)
theorem dX7_readsCompared_86 : decode cX7_readsCompared 86 = .ok (.ireturn, 1) := dk_172 (dk_at dksX7_readsCompared_3 16 rfl rfl)
theorem dX7_readsCompared_87 : decode cX7_readsCompared 87 = .ok (.aload_n 0, 1) := dk_42 (dk_at dksX7_readsCompared_3 17 rfl rfl)
theorem dX7_readsCompared_88 : decode cX7_readsCompared 88 = .ok (.iload_n 1, 1) := dk_27 (dk_at dksX7_readsCompared_3 18 rfl rfl)
theorem dX7_readsCompared_89 : decode cX7_readsCompared 89 = .ok (.iconst 0, 1) := dk_3 (dk_at dksX7_readsCompared_3 19 rfl rfl)
theorem dX7_readsCompared_90 : decode cX7_readsCompared 90 = .ok (.invokevirtual 222, 3) := dk_182 0 222 (dk_at dksX7_readsCompared_3 20 rfl rfl)
theorem dX7_readsCompared_93 : decode cX7_readsCompared 93 = .ok (.aload_n 0, 1) := dk_42 (dk_at dksX7_readsCompared_3 23 rfl rfl)
theorem dX7_readsCompared_94 : decode cX7_readsCompared 94 = .ok (.invokevirtual 252, 3) := dk_182 0 252 (dk_at dksX7_readsCompared_4 0 rfl rfl)
theorem dX7_readsCompared_97 : decode cX7_readsCompared 97 = .ok (.iconst 1, 1) := dk_4 (dk_at dksX7_readsCompared_4 3 rfl rfl)
theorem dX7_readsCompared_98 : decode cX7_readsCompared 98 = .ok (.ireturn, 1) := dk_172 (dk_at dksX7_readsCompared_4 4 rfl rfl)
abbrev cX7_endsPiece : ByteArray := prog_21_method_35_code
def yX7_endsPiece : MethodName := ⟨RX7, "endsPiece", "()V"⟩
def dkwX7_endsPiece_1 : List UInt8 := [181, 0, 216, 42, 42, 180, 0, 213, 4, 100, 181, 0, 213, 167, 255, 220, 177]
abbrev dktX7_endsPiece_1 : List UInt8 := dkwX7_endsPiece_1 ++ []
def dkwX7_endsPiece_0 : List UInt8 := [42, 182, 0, 219, 16, 10, 160, 0, 33, 42, 16, 10, 3, 182, 0, 222, 42, 42, 180, 0, 216, 4, 100]
abbrev dktX7_endsPiece_0 : List UInt8 := dkwX7_endsPiece_0 ++ dktX7_endsPiece_1
theorem dksX7_endsPiece_0 : cX7_endsPiece.data.toList.drop 0 = dktX7_endsPiece_0 := by decide +kernel
theorem dksX7_endsPiece_1 : cX7_endsPiece.data.toList.drop 23 = dktX7_endsPiece_1 := dk_seg dksX7_endsPiece_0 23 rfl rfl
theorem dX7_endsPiece_0 : decode cX7_endsPiece 0 = .ok (.aload_n 0, 1) := dk_42 (dk_at dksX7_endsPiece_0 0 rfl rfl)
theorem dX7_endsPiece_1 : decode cX7_endsPiece 1 = .ok (.invokevirtual 219, 3) := dk_182 0 219 (dk_at dksX7_endsPiece_0 1 rfl rfl)
theorem dX7_endsPiece_4 : decode cX7_endsPiece 4 = .ok (.bipush 10, 2) := dk_16 10 (dk_at dksX7_endsPiece_0 4 rfl rfl)
theorem dX7_endsPiece_6 : decode cX7_endsPiece 6 = .ok (.if_icmp .ne 33, 3) := dk_160 0 33 (dk_at dksX7_endsPiece_0 6 rfl rfl)
theorem dX7_endsPiece_9 : decode cX7_endsPiece 9 = .ok (.aload_n 0, 1) := dk_42 (dk_at dksX7_endsPiece_0 9 rfl rfl)
theorem dX7_endsPiece_10 : decode cX7_endsPiece 10 = .ok (.bipush 10, 2) := dk_16 10 (dk_at dksX7_endsPiece_0 10 rfl rfl)
theorem dX7_endsPiece_12 : decode cX7_endsPiece 12 = .ok (.iconst 0, 1) := dk_3 (dk_at dksX7_endsPiece_0 12 rfl rfl)
theorem dX7_endsPiece_13 : decode cX7_endsPiece 13 = .ok (.invokevirtual 222, 3) := dk_182 0 222 (dk_at dksX7_endsPiece_0 13 rfl rfl)
theorem dX7_endsPiece_16 : decode cX7_endsPiece 16 = .ok (.aload_n 0, 1) := dk_42 (dk_at dksX7_endsPiece_0 16 rfl rfl)
theorem dX7_endsPiece_17 : decode cX7_endsPiece 17 = .ok (.aload_n 0, 1) := dk_42 (dk_at dksX7_endsPiece_0 17 rfl rfl)
theorem dX7_endsPiece_18 : decode cX7_endsPiece 18 = .ok (.getfield 216, 3) := dk_180 0 216 (dk_at dksX7_endsPiece_0 18 rfl rfl)
theorem dX7_endsPiece_21 : decode cX7_endsPiece 21 = .ok (.iconst 1, 1) := dk_4 (dk_at dksX7_endsPiece_0 21 rfl rfl)
theorem dX7_endsPiece_22 : decode cX7_endsPiece 22 = .ok (.isub, 1) := dk_100 (dk_at dksX7_endsPiece_0 22 rfl rfl)
theorem dX7_endsPiece_23 : decode cX7_endsPiece 23 = .ok (.putfield 216, 3) := dk_181 0 216 (dk_at dksX7_endsPiece_1 0 rfl rfl)
theorem dX7_endsPiece_26 : decode cX7_endsPiece 26 = .ok (.aload_n 0, 1) := dk_42 (dk_at dksX7_endsPiece_1 3 rfl rfl)
theorem dX7_endsPiece_27 : decode cX7_endsPiece 27 = .ok (.aload_n 0, 1) := dk_42 (dk_at dksX7_endsPiece_1 4 rfl rfl)
theorem dX7_endsPiece_28 : decode cX7_endsPiece 28 = .ok (.getfield 213, 3) := dk_180 0 213 (dk_at dksX7_endsPiece_1 5 rfl rfl)
theorem dX7_endsPiece_31 : decode cX7_endsPiece 31 = .ok (.iconst 1, 1) := dk_4 (dk_at dksX7_endsPiece_1 8 rfl rfl)
theorem dX7_endsPiece_32 : decode cX7_endsPiece 32 = .ok (.isub, 1) := dk_100 (dk_at dksX7_endsPiece_1 9 rfl rfl)
theorem dX7_endsPiece_33 : decode cX7_endsPiece 33 = .ok (.putfield 213, 3) := dk_181 0 213 (dk_at dksX7_endsPiece_1 10 rfl rfl)
theorem dX7_endsPiece_36 : decode cX7_endsPiece 36 = .ok (.goto (-36), 3) := dk_167 255 220 (dk_at dksX7_endsPiece_1 13 rfl rfl)
theorem dX7_endsPiece_39 : decode cX7_endsPiece 39 = .ok (.return_, 1) := dk_177 (dk_at dksX7_endsPiece_1 16 rfl rfl)
abbrev cX7_lands : ByteArray := prog_21_method_36_code
def yX7_lands : MethodName := ⟨RX7, "lands", "(Z)V"⟩
def dkwX7_lands_3 : List UInt8 := [181, 0, 216, 167, 255, 186, 177]
abbrev dktX7_lands_3 : List UInt8 := dkwX7_lands_3 ++ []
def dkwX7_lands_2 : List UInt8 := [180, 0, 54, 28, 46, 18, 212, 108, 104, 42, 180, 0, 209, 96, 79, 42, 42, 180, 0, 216, 4, 100]
abbrev dktX7_lands_2 : List UInt8 := dkwX7_lands_2 ++ dktX7_lands_3
def dkwX7_lands_1 : List UInt8 := [180, 0, 57, 42, 180, 0, 216, 4, 100, 46, 18, 212, 112, 61, 42, 180, 0, 54, 28, 18, 212, 42]
abbrev dktX7_lands_1 : List UInt8 := dkwX7_lands_1 ++ dktX7_lands_2
def dkwX7_lands_0 : List UInt8 := [42, 182, 0, 219, 16, 11, 159, 0, 16, 27, 153, 0, 63, 42, 182, 0, 219, 16, 12, 160, 0, 54, 42]
abbrev dktX7_lands_0 : List UInt8 := dkwX7_lands_0 ++ dktX7_lands_1
theorem dksX7_lands_0 : cX7_lands.data.toList.drop 0 = dktX7_lands_0 := by decide +kernel
theorem dksX7_lands_1 : cX7_lands.data.toList.drop 23 = dktX7_lands_1 := dk_seg dksX7_lands_0 23 rfl rfl
theorem dksX7_lands_2 : cX7_lands.data.toList.drop 45 = dktX7_lands_2 := dk_seg dksX7_lands_1 22 rfl rfl
theorem dksX7_lands_3 : cX7_lands.data.toList.drop 67 = dktX7_lands_3 := dk_seg dksX7_lands_2 22 rfl rfl
theorem dX7_lands_0 : decode cX7_lands 0 = .ok (.aload_n 0, 1) := dk_42 (dk_at dksX7_lands_0 0 rfl rfl)
theorem dX7_lands_1 : decode cX7_lands 1 = .ok (.invokevirtual 219, 3) := dk_182 0 219 (dk_at dksX7_lands_0 1 rfl rfl)
theorem dX7_lands_4 : decode cX7_lands 4 = .ok (.bipush 11, 2) := dk_16 11 (dk_at dksX7_lands_0 4 rfl rfl)
theorem dX7_lands_6 : decode cX7_lands 6 = .ok (.if_icmp .eq 16, 3) := dk_159 0 16 (dk_at dksX7_lands_0 6 rfl rfl)
theorem dX7_lands_9 : decode cX7_lands 9 = .ok (.iload_n 1, 1) := dk_27 (dk_at dksX7_lands_0 9 rfl rfl)
theorem dX7_lands_10 : decode cX7_lands 10 = .ok (.ifCond .eq 63, 3) := dk_153 0 63 (dk_at dksX7_lands_0 10 rfl rfl)
theorem dX7_lands_13 : decode cX7_lands 13 = .ok (.aload_n 0, 1) := dk_42 (dk_at dksX7_lands_0 13 rfl rfl)
theorem dX7_lands_14 : decode cX7_lands 14 = .ok (.invokevirtual 219, 3) := dk_182 0 219 (dk_at dksX7_lands_0 14 rfl rfl)
theorem dX7_lands_17 : decode cX7_lands 17 = .ok (.bipush 12, 2) := dk_16 12 (dk_at dksX7_lands_0 17 rfl rfl)
theorem dX7_lands_19 : decode cX7_lands 19 = .ok (.if_icmp .ne 54, 3) := dk_160 0 54 (dk_at dksX7_lands_0 19 rfl rfl)
theorem dX7_lands_22 : decode cX7_lands 22 = .ok (.aload_n 0, 1) := dk_42 (dk_at dksX7_lands_0 22 rfl rfl)
theorem dX7_lands_23 : decode cX7_lands 23 = .ok (.getfield 57, 3) := dk_180 0 57 (dk_at dksX7_lands_1 0 rfl rfl)
theorem dX7_lands_26 : decode cX7_lands 26 = .ok (.aload_n 0, 1) := dk_42 (dk_at dksX7_lands_1 3 rfl rfl)
theorem dX7_lands_27 : decode cX7_lands 27 = .ok (.getfield 216, 3) := dk_180 0 216 (dk_at dksX7_lands_1 4 rfl rfl)
theorem dX7_lands_30 : decode cX7_lands 30 = .ok (.iconst 1, 1) := dk_4 (dk_at dksX7_lands_1 7 rfl rfl)
theorem dX7_lands_31 : decode cX7_lands 31 = .ok (.isub, 1) := dk_100 (dk_at dksX7_lands_1 8 rfl rfl)
theorem dX7_lands_32 : decode cX7_lands 32 = .ok (.iaload, 1) := dk_46 (dk_at dksX7_lands_1 9 rfl rfl)
theorem dX7_lands_33 : decode cX7_lands 33 = .ok (.ldc 212, 2) := dk_18 212 (dk_at dksX7_lands_1 10 rfl rfl)
theorem dX7_lands_35 : decode cX7_lands 35 = .ok (.irem, 1) := dk_112 (dk_at dksX7_lands_1 12 rfl rfl)
theorem dX7_lands_36 : decode cX7_lands 36 = .ok (.istore_n 2, 1) := dk_61 (dk_at dksX7_lands_1 13 rfl rfl)
theorem dX7_lands_37 : decode cX7_lands 37 = .ok (.aload_n 0, 1) := dk_42 (dk_at dksX7_lands_1 14 rfl rfl)
theorem dX7_lands_38 : decode cX7_lands 38 = .ok (.getfield 54, 3) := dk_180 0 54 (dk_at dksX7_lands_1 15 rfl rfl)
theorem dX7_lands_41 : decode cX7_lands 41 = .ok (.iload_n 2, 1) := dk_28 (dk_at dksX7_lands_1 18 rfl rfl)
theorem dX7_lands_42 : decode cX7_lands 42 = .ok (.ldc 212, 2) := dk_18 212 (dk_at dksX7_lands_1 19 rfl rfl)
theorem dX7_lands_44 : decode cX7_lands 44 = .ok (.aload_n 0, 1) := dk_42 (dk_at dksX7_lands_1 21 rfl rfl)
theorem dX7_lands_45 : decode cX7_lands 45 = .ok (.getfield 54, 3) := dk_180 0 54 (dk_at dksX7_lands_2 0 rfl rfl)
theorem dX7_lands_48 : decode cX7_lands 48 = .ok (.iload_n 2, 1) := dk_28 (dk_at dksX7_lands_2 3 rfl rfl)
theorem dX7_lands_49 : decode cX7_lands 49 = .ok (.iaload, 1) := dk_46 (dk_at dksX7_lands_2 4 rfl rfl)
theorem dX7_lands_50 : decode cX7_lands 50 = .ok (.ldc 212, 2) := dk_18 212 (dk_at dksX7_lands_2 5 rfl rfl)
theorem dX7_lands_52 : decode cX7_lands 52 = .ok (.idiv, 1) := dk_108 (dk_at dksX7_lands_2 7 rfl rfl)
theorem dX7_lands_53 : decode cX7_lands 53 = .ok (.imul, 1) := dk_104 (dk_at dksX7_lands_2 8 rfl rfl)
theorem dX7_lands_54 : decode cX7_lands 54 = .ok (.aload_n 0, 1) := dk_42 (dk_at dksX7_lands_2 9 rfl rfl)
theorem dX7_lands_55 : decode cX7_lands 55 = .ok (.getfield 209, 3) := dk_180 0 209 (dk_at dksX7_lands_2 10 rfl rfl)
theorem dX7_lands_58 : decode cX7_lands 58 = .ok (.iadd, 1) := dk_96 (dk_at dksX7_lands_2 13 rfl rfl)
theorem dX7_lands_59 : decode cX7_lands 59 = .ok (.iastore, 1) := dk_79 (dk_at dksX7_lands_2 14 rfl rfl)
theorem dX7_lands_60 : decode cX7_lands 60 = .ok (.aload_n 0, 1) := dk_42 (dk_at dksX7_lands_2 15 rfl rfl)
theorem dX7_lands_61 : decode cX7_lands 61 = .ok (.aload_n 0, 1) := dk_42 (dk_at dksX7_lands_2 16 rfl rfl)
theorem dX7_lands_62 : decode cX7_lands 62 = .ok (.getfield 216, 3) := dk_180 0 216 (dk_at dksX7_lands_2 17 rfl rfl)
theorem dX7_lands_65 : decode cX7_lands 65 = .ok (.iconst 1, 1) := dk_4 (dk_at dksX7_lands_2 20 rfl rfl)
theorem dX7_lands_66 : decode cX7_lands 66 = .ok (.isub, 1) := dk_100 (dk_at dksX7_lands_2 21 rfl rfl)
theorem dX7_lands_67 : decode cX7_lands 67 = .ok (.putfield 216, 3) := dk_181 0 216 (dk_at dksX7_lands_3 0 rfl rfl)
theorem dX7_lands_70 : decode cX7_lands 70 = .ok (.goto (-70), 3) := dk_167 255 186 (dk_at dksX7_lands_3 3 rfl rfl)
theorem dX7_lands_73 : decode cX7_lands 73 = .ok (.return_, 1) := dk_177 (dk_at dksX7_lands_3 6 rfl rfl)
abbrev cX7_jumps : ByteArray := prog_21_method_37_code
def yX7_jumps : MethodName := ⟨RX7, "jumps", "(I)V"⟩
def dkwX7_jumps_1 : List UInt8 := [96, 181, 0, 216, 42, 27, 3, 182, 0, 222, 42, 42, 180, 0, 186, 4, 96, 181, 0, 186, 177]
abbrev dktX7_jumps_1 : List UInt8 := dkwX7_jumps_1 ++ []
def dkwX7_jumps_0 : List UInt8 := [42, 180, 0, 57, 42, 180, 0, 216, 18, 212, 27, 104, 42, 180, 0, 209, 96, 79, 42, 42, 180, 0, 216, 4]
abbrev dktX7_jumps_0 : List UInt8 := dkwX7_jumps_0 ++ dktX7_jumps_1
theorem dksX7_jumps_0 : cX7_jumps.data.toList.drop 0 = dktX7_jumps_0 := by decide +kernel
theorem dksX7_jumps_1 : cX7_jumps.data.toList.drop 24 = dktX7_jumps_1 := dk_seg dksX7_jumps_0 24 rfl rfl
theorem dX7_jumps_0 : decode cX7_jumps 0 = .ok (.aload_n 0, 1) := dk_42 (dk_at dksX7_jumps_0 0 rfl rfl)
theorem dX7_jumps_1 : decode cX7_jumps 1 = .ok (.getfield 57, 3) := dk_180 0 57 (dk_at dksX7_jumps_0 1 rfl rfl)
theorem dX7_jumps_4 : decode cX7_jumps 4 = .ok (.aload_n 0, 1) := dk_42 (dk_at dksX7_jumps_0 4 rfl rfl)
theorem dX7_jumps_5 : decode cX7_jumps 5 = .ok (.getfield 216, 3) := dk_180 0 216 (dk_at dksX7_jumps_0 5 rfl rfl)
theorem dX7_jumps_8 : decode cX7_jumps 8 = .ok (.ldc 212, 2) := dk_18 212 (dk_at dksX7_jumps_0 8 rfl rfl)
theorem dX7_jumps_10 : decode cX7_jumps 10 = .ok (.iload_n 1, 1) := dk_27 (dk_at dksX7_jumps_0 10 rfl rfl)
theorem dX7_jumps_11 : decode cX7_jumps 11 = .ok (.imul, 1) := dk_104 (dk_at dksX7_jumps_0 11 rfl rfl)
theorem dX7_jumps_12 : decode cX7_jumps 12 = .ok (.aload_n 0, 1) := dk_42 (dk_at dksX7_jumps_0 12 rfl rfl)
theorem dX7_jumps_13 : decode cX7_jumps 13 = .ok (.getfield 209, 3) := dk_180 0 209 (dk_at dksX7_jumps_0 13 rfl rfl)
theorem dX7_jumps_16 : decode cX7_jumps 16 = .ok (.iadd, 1) := dk_96 (dk_at dksX7_jumps_0 16 rfl rfl)
theorem dX7_jumps_17 : decode cX7_jumps 17 = .ok (.iastore, 1) := dk_79 (dk_at dksX7_jumps_0 17 rfl rfl)
theorem dX7_jumps_18 : decode cX7_jumps 18 = .ok (.aload_n 0, 1) := dk_42 (dk_at dksX7_jumps_0 18 rfl rfl)
theorem dX7_jumps_19 : decode cX7_jumps 19 = .ok (.aload_n 0, 1) := dk_42 (dk_at dksX7_jumps_0 19 rfl rfl)
theorem dX7_jumps_20 : decode cX7_jumps 20 = .ok (.getfield 216, 3) := dk_180 0 216 (dk_at dksX7_jumps_0 20 rfl rfl)
theorem dX7_jumps_23 : decode cX7_jumps 23 = .ok (.iconst 1, 1) := dk_4 (dk_at dksX7_jumps_0 23 rfl rfl)
theorem dX7_jumps_24 : decode cX7_jumps 24 = .ok (.iadd, 1) := dk_96 (dk_at dksX7_jumps_1 0 rfl rfl)
theorem dX7_jumps_25 : decode cX7_jumps 25 = .ok (.putfield 216, 3) := dk_181 0 216 (dk_at dksX7_jumps_1 1 rfl rfl)
theorem dX7_jumps_28 : decode cX7_jumps 28 = .ok (.aload_n 0, 1) := dk_42 (dk_at dksX7_jumps_1 4 rfl rfl)
theorem dX7_jumps_29 : decode cX7_jumps 29 = .ok (.iload_n 1, 1) := dk_27 (dk_at dksX7_jumps_1 5 rfl rfl)
theorem dX7_jumps_30 : decode cX7_jumps 30 = .ok (.iconst 0, 1) := dk_3 (dk_at dksX7_jumps_1 6 rfl rfl)
theorem dX7_jumps_31 : decode cX7_jumps 31 = .ok (.invokevirtual 222, 3) := dk_182 0 222 (dk_at dksX7_jumps_1 7 rfl rfl)
theorem dX7_jumps_34 : decode cX7_jumps 34 = .ok (.aload_n 0, 1) := dk_42 (dk_at dksX7_jumps_1 10 rfl rfl)
theorem dX7_jumps_35 : decode cX7_jumps 35 = .ok (.aload_n 0, 1) := dk_42 (dk_at dksX7_jumps_1 11 rfl rfl)
theorem dX7_jumps_36 : decode cX7_jumps 36 = .ok (.getfield 186, 3) := dk_180 0 186 (dk_at dksX7_jumps_1 12 rfl rfl)
theorem dX7_jumps_39 : decode cX7_jumps 39 = .ok (.iconst 1, 1) := dk_4 (dk_at dksX7_jumps_1 15 rfl rfl)
theorem dX7_jumps_40 : decode cX7_jumps 40 = .ok (.iadd, 1) := dk_96 (dk_at dksX7_jumps_1 16 rfl rfl)
theorem dX7_jumps_41 : decode cX7_jumps 41 = .ok (.putfield 186, 3) := dk_181 0 186 (dk_at dksX7_jumps_1 17 rfl rfl)
theorem dX7_jumps_44 : decode cX7_jumps 44 = .ok (.return_, 1) := dk_177 (dk_at dksX7_jumps_1 20 rfl rfl)
abbrev cX7_takes : ByteArray := prog_21_method_24_code
def yX7_takes : MethodName := ⟨RX7, "takes", "(I)Z"⟩
def dkwX7_takes_1 : List UInt8 := [96, 181, 0, 186, 4, 172]
abbrev dktX7_takes_1 : List UInt8 := dkwX7_takes_1 ++ []
def dkwX7_takes_0 : List UInt8 := [42, 182, 0, 192, 27, 159, 0, 13, 42, 4, 42, 180, 0, 186, 182, 0, 199, 172, 42, 42, 180, 0, 186, 4]
abbrev dktX7_takes_0 : List UInt8 := dkwX7_takes_0 ++ dktX7_takes_1
theorem dksX7_takes_0 : cX7_takes.data.toList.drop 0 = dktX7_takes_0 := by decide +kernel
theorem dksX7_takes_1 : cX7_takes.data.toList.drop 24 = dktX7_takes_1 := dk_seg dksX7_takes_0 24 rfl rfl
theorem dX7_takes_0 : decode cX7_takes 0 = .ok (.aload_n 0, 1) := dk_42 (dk_at dksX7_takes_0 0 rfl rfl)
theorem dX7_takes_1 : decode cX7_takes 1 = .ok (.invokevirtual 192, 3) := dk_182 0 192 (dk_at dksX7_takes_0 1 rfl rfl)
theorem dX7_takes_4 : decode cX7_takes 4 = .ok (.iload_n 1, 1) := dk_27 (dk_at dksX7_takes_0 4 rfl rfl)
theorem dX7_takes_5 : decode cX7_takes 5 = .ok (.if_icmp .eq 13, 3) := dk_159 0 13 (dk_at dksX7_takes_0 5 rfl rfl)
theorem dX7_takes_8 : decode cX7_takes 8 = .ok (.aload_n 0, 1) := dk_42 (dk_at dksX7_takes_0 8 rfl rfl)
theorem dX7_takes_9 : decode cX7_takes 9 = .ok (.iconst 1, 1) := dk_4 (dk_at dksX7_takes_0 9 rfl rfl)
theorem dX7_takes_10 : decode cX7_takes 10 = .ok (.aload_n 0, 1) := dk_42 (dk_at dksX7_takes_0 10 rfl rfl)
theorem dX7_takes_11 : decode cX7_takes 11 = .ok (.getfield 186, 3) := dk_180 0 186 (dk_at dksX7_takes_0 11 rfl rfl)
theorem dX7_takes_14 : decode cX7_takes 14 = .ok (.invokevirtual 199, 3) := dk_182 0 199 (dk_at dksX7_takes_0 14 rfl rfl)
theorem dX7_takes_17 : decode cX7_takes 17 = .ok (.ireturn, 1) := dk_172 (dk_at dksX7_takes_0 17 rfl rfl)
theorem dX7_takes_18 : decode cX7_takes 18 = .ok (.aload_n 0, 1) := dk_42 (dk_at dksX7_takes_0 18 rfl rfl)
theorem dX7_takes_19 : decode cX7_takes 19 = .ok (.aload_n 0, 1) := dk_42 (dk_at dksX7_takes_0 19 rfl rfl)
theorem dX7_takes_20 : decode cX7_takes 20 = .ok (.getfield 186, 3) := dk_180 0 186 (dk_at dksX7_takes_0 20 rfl rfl)
theorem dX7_takes_23 : decode cX7_takes 23 = .ok (.iconst 1, 1) := dk_4 (dk_at dksX7_takes_0 23 rfl rfl)
theorem dX7_takes_24 : decode cX7_takes 24 = .ok (.iadd, 1) := dk_96 (dk_at dksX7_takes_1 0 rfl rfl)
theorem dX7_takes_25 : decode cX7_takes 25 = .ok (.putfield 186, 3) := dk_181 0 186 (dk_at dksX7_takes_1 1 rfl rfl)
theorem dX7_takes_28 : decode cX7_takes 28 = .ok (.iconst 1, 1) := dk_4 (dk_at dksX7_takes_1 4 rfl rfl)
theorem dX7_takes_29 : decode cX7_takes 29 = .ok (.ireturn, 1) := dk_172 (dk_at dksX7_takes_1 5 rfl rfl)
abbrev cX7_timetable : ByteArray := prog_21_method_52_code
def yX7_timetable : MethodName := ⟨RX7, "timetable", "(I)I"⟩
def dkwX7_timetable_8 : List UInt8 := [182, 1, 54, 42, 180, 0, 162, 172]
abbrev dktX7_timetable_8 : List UInt8 := dkwX7_timetable_8 ++ []
def dkwX7_timetable_7 : List UInt8 := [29, 46, 79, 42, 180, 0, 34, 29, 42, 180, 0, 99, 29, 46, 79, 132, 3, 1, 167, 255, 222, 42]
abbrev dktX7_timetable_7 : List UInt8 := dkwX7_timetable_7 ++ dktX7_timetable_8
def dkwX7_timetable_6 : List UInt8 := [132, 3, 1, 167, 255, 221, 3, 62, 29, 17, 1, 128, 162, 0, 33, 42, 180, 0, 31, 29, 42, 180, 0, 96]
abbrev dktX7_timetable_6 : List UInt8 := dkwX7_timetable_6 ++ dktX7_timetable_7
def dkwX7_timetable_5 : List UInt8 := [29, 42, 180, 0, 93, 29, 46, 79, 42, 180, 0, 37, 29, 3, 79, 42, 180, 0, 47, 29, 3, 84]
abbrev dktX7_timetable_5 : List UInt8 := dkwX7_timetable_5 ++ dktX7_timetable_6
def dkwX7_timetable_4 : List UInt8 := [180, 0, 196, 172, 42, 42, 180, 1, 45, 181, 0, 162, 3, 62, 29, 16, 48, 162, 0, 35, 42, 180, 0, 28]
abbrev dktX7_timetable_4 : List UInt8 := dkwX7_timetable_4 ++ dktX7_timetable_5
def dkwX7_timetable_3 : List UInt8 := [153, 0, 7, 4, 167, 0, 4, 3, 61, 167, 255, 219, 42, 3, 181, 0, 179, 28, 154, 0, 8, 42]
abbrev dktX7_timetable_3 : List UInt8 := dkwX7_timetable_3 ++ dktX7_timetable_4
def dkwX7_timetable_2 : List UInt8 := [180, 0, 186, 42, 180, 0, 189, 162, 0, 28, 42, 16, 59, 182, 1, 20, 153, 0, 14, 42, 182, 1, 51]
abbrev dktX7_timetable_2 : List UInt8 := dkwX7_timetable_2 ++ dktX7_timetable_3
def dkwX7_timetable_1 : List UInt8 := [182, 1, 14, 42, 3, 181, 1, 45, 42, 3, 181, 1, 39, 42, 182, 1, 51, 61, 28, 153, 0, 39, 42]
abbrev dktX7_timetable_1 : List UInt8 := dkwX7_timetable_1 ++ dktX7_timetable_2
def dkwX7_timetable_0 : List UInt8 := [27, 4, 17, 0, 160, 184, 0, 154, 153, 0, 11, 27, 42, 180, 0, 179, 164, 0, 5, 2, 172, 42, 27]
abbrev dktX7_timetable_0 : List UInt8 := dkwX7_timetable_0 ++ dktX7_timetable_1
theorem dksX7_timetable_0 : cX7_timetable.data.toList.drop 0 = dktX7_timetable_0 := by decide +kernel
theorem dksX7_timetable_1 : cX7_timetable.data.toList.drop 23 = dktX7_timetable_1 := dk_seg dksX7_timetable_0 23 rfl rfl
theorem dksX7_timetable_2 : cX7_timetable.data.toList.drop 46 = dktX7_timetable_2 := dk_seg dksX7_timetable_1 23 rfl rfl
theorem dksX7_timetable_3 : cX7_timetable.data.toList.drop 69 = dktX7_timetable_3 := dk_seg dksX7_timetable_2 23 rfl rfl
theorem dksX7_timetable_4 : cX7_timetable.data.toList.drop 91 = dktX7_timetable_4 := dk_seg dksX7_timetable_3 22 rfl rfl
theorem dksX7_timetable_5 : cX7_timetable.data.toList.drop 115 = dktX7_timetable_5 := dk_seg dksX7_timetable_4 24 rfl rfl
theorem dksX7_timetable_6 : cX7_timetable.data.toList.drop 137 = dktX7_timetable_6 := dk_seg dksX7_timetable_5 22 rfl rfl
theorem dksX7_timetable_7 : cX7_timetable.data.toList.drop 161 = dktX7_timetable_7 := dk_seg dksX7_timetable_6 24 rfl rfl
theorem dksX7_timetable_8 : cX7_timetable.data.toList.drop 183 = dktX7_timetable_8 := dk_seg dksX7_timetable_7 22 rfl rfl
theorem dX7_timetable_0 : decode cX7_timetable 0 = .ok (.iload_n 1, 1) := dk_27 (dk_at dksX7_timetable_0 0 rfl rfl)
theorem dX7_timetable_1 : decode cX7_timetable 1 = .ok (.iconst 1, 1) := dk_4 (dk_at dksX7_timetable_0 1 rfl rfl)
theorem dX7_timetable_2 : decode cX7_timetable 2 = .ok (.sipush 160, 3) := dk_17 0 160 (dk_at dksX7_timetable_0 2 rfl rfl)
theorem dX7_timetable_5 : decode cX7_timetable 5 = .ok (.invokestatic 154, 3) := dk_184 0 154 (dk_at dksX7_timetable_0 5 rfl rfl)
theorem dX7_timetable_8 : decode cX7_timetable 8 = .ok (.ifCond .eq 11, 3) := dk_153 0 11 (dk_at dksX7_timetable_0 8 rfl rfl)
theorem dX7_timetable_11 : decode cX7_timetable 11 = .ok (.iload_n 1, 1) := dk_27 (dk_at dksX7_timetable_0 11 rfl rfl)
theorem dX7_timetable_12 : decode cX7_timetable 12 = .ok (.aload_n 0, 1) := dk_42 (dk_at dksX7_timetable_0 12 rfl rfl)
theorem dX7_timetable_13 : decode cX7_timetable 13 = .ok (.getfield 179, 3) := dk_180 0 179 (dk_at dksX7_timetable_0 13 rfl rfl)
theorem dX7_timetable_16 : decode cX7_timetable 16 = .ok (.if_icmp .le 5, 3) := dk_164 0 5 (dk_at dksX7_timetable_0 16 rfl rfl)
theorem dX7_timetable_19 : decode cX7_timetable 19 = .ok (.iconst (-1), 1) := dk_2 (dk_at dksX7_timetable_0 19 rfl rfl)
theorem dX7_timetable_20 : decode cX7_timetable 20 = .ok (.ireturn, 1) := dk_172 (dk_at dksX7_timetable_0 20 rfl rfl)
theorem dX7_timetable_21 : decode cX7_timetable 21 = .ok (.aload_n 0, 1) := dk_42 (dk_at dksX7_timetable_0 21 rfl rfl)
theorem dX7_timetable_22 : decode cX7_timetable 22 = .ok (.iload_n 1, 1) := dk_27 (dk_at dksX7_timetable_0 22 rfl rfl)
theorem dX7_timetable_23 : decode cX7_timetable 23 = .ok (.invokevirtual 270, 3) := dk_182 1 14 (dk_at dksX7_timetable_1 0 rfl rfl)
theorem dX7_timetable_26 : decode cX7_timetable 26 = .ok (.aload_n 0, 1) := dk_42 (dk_at dksX7_timetable_1 3 rfl rfl)
theorem dX7_timetable_27 : decode cX7_timetable 27 = .ok (.iconst 0, 1) := dk_3 (dk_at dksX7_timetable_1 4 rfl rfl)
theorem dX7_timetable_28 : decode cX7_timetable 28 = .ok (.putfield 301, 3) := dk_181 1 45 (dk_at dksX7_timetable_1 5 rfl rfl)
theorem dX7_timetable_31 : decode cX7_timetable 31 = .ok (.aload_n 0, 1) := dk_42 (dk_at dksX7_timetable_1 8 rfl rfl)
theorem dX7_timetable_32 : decode cX7_timetable 32 = .ok (.iconst 0, 1) := dk_3 (dk_at dksX7_timetable_1 9 rfl rfl)
theorem dX7_timetable_33 : decode cX7_timetable 33 = .ok (.putfield 295, 3) := dk_181 1 39 (dk_at dksX7_timetable_1 10 rfl rfl)
theorem dX7_timetable_36 : decode cX7_timetable 36 = .ok (.aload_n 0, 1) := dk_42 (dk_at dksX7_timetable_1 13 rfl rfl)
theorem dX7_timetable_37 : decode cX7_timetable 37 = .ok (.invokevirtual 307, 3) := dk_182 1 51 (dk_at dksX7_timetable_1 14 rfl rfl)
theorem dX7_timetable_40 : decode cX7_timetable 40 = .ok (.istore_n 2, 1) := dk_61 (dk_at dksX7_timetable_1 17 rfl rfl)
theorem dX7_timetable_41 : decode cX7_timetable 41 = .ok (.iload_n 2, 1) := dk_28 (dk_at dksX7_timetable_1 18 rfl rfl)
theorem dX7_timetable_42 : decode cX7_timetable 42 = .ok (.ifCond .eq 39, 3) := dk_153 0 39 (dk_at dksX7_timetable_1 19 rfl rfl)
theorem dX7_timetable_45 : decode cX7_timetable 45 = .ok (.aload_n 0, 1) := dk_42 (dk_at dksX7_timetable_1 22 rfl rfl)
theorem dX7_timetable_46 : decode cX7_timetable 46 = .ok (.getfield 186, 3) := dk_180 0 186 (dk_at dksX7_timetable_2 0 rfl rfl)
theorem dX7_timetable_49 : decode cX7_timetable 49 = .ok (.aload_n 0, 1) := dk_42 (dk_at dksX7_timetable_2 3 rfl rfl)
theorem dX7_timetable_50 : decode cX7_timetable 50 = .ok (.getfield 189, 3) := dk_180 0 189 (dk_at dksX7_timetable_2 4 rfl rfl)
theorem dX7_timetable_53 : decode cX7_timetable 53 = .ok (.if_icmp .ge 28, 3) := dk_162 0 28 (dk_at dksX7_timetable_2 7 rfl rfl)
theorem dX7_timetable_56 : decode cX7_timetable 56 = .ok (.aload_n 0, 1) := dk_42 (dk_at dksX7_timetable_2 10 rfl rfl)
theorem dX7_timetable_57 : decode cX7_timetable 57 = .ok (.bipush 59, 2) := dk_16 59 (dk_at dksX7_timetable_2 11 rfl rfl)
theorem dX7_timetable_59 : decode cX7_timetable 59 = .ok (.invokevirtual 276, 3) := dk_182 1 20 (dk_at dksX7_timetable_2 13 rfl rfl)
theorem dX7_timetable_62 : decode cX7_timetable 62 = .ok (.ifCond .eq 14, 3) := dk_153 0 14 (dk_at dksX7_timetable_2 16 rfl rfl)
theorem dX7_timetable_65 : decode cX7_timetable 65 = .ok (.aload_n 0, 1) := dk_42 (dk_at dksX7_timetable_2 19 rfl rfl)
theorem dX7_timetable_66 : decode cX7_timetable 66 = .ok (.invokevirtual 307, 3) := dk_182 1 51 (dk_at dksX7_timetable_2 20 rfl rfl)
theorem dX7_timetable_69 : decode cX7_timetable 69 = .ok (.ifCond .eq 7, 3) := dk_153 0 7 (dk_at dksX7_timetable_3 0 rfl rfl)
theorem dX7_timetable_72 : decode cX7_timetable 72 = .ok (.iconst 1, 1) := dk_4 (dk_at dksX7_timetable_3 3 rfl rfl)
theorem dX7_timetable_73 : decode cX7_timetable 73 = .ok (.goto 4, 3) := dk_167 0 4 (dk_at dksX7_timetable_3 4 rfl rfl)
theorem dX7_timetable_76 : decode cX7_timetable 76 = .ok (.iconst 0, 1) := dk_3 (dk_at dksX7_timetable_3 7 rfl rfl)
theorem dX7_timetable_77 : decode cX7_timetable 77 = .ok (.istore_n 2, 1) := dk_61 (dk_at dksX7_timetable_3 8 rfl rfl)
theorem dX7_timetable_78 : decode cX7_timetable 78 = .ok (.goto (-37), 3) := dk_167 255 219 (dk_at dksX7_timetable_3 9 rfl rfl)
theorem dX7_timetable_81 : decode cX7_timetable 81 = .ok (.aload_n 0, 1) := dk_42 (dk_at dksX7_timetable_3 12 rfl rfl)
theorem dX7_timetable_82 : decode cX7_timetable 82 = .ok (.iconst 0, 1) := dk_3 (dk_at dksX7_timetable_3 13 rfl rfl)
theorem dX7_timetable_83 : decode cX7_timetable 83 = .ok (.putfield 179, 3) := dk_181 0 179 (dk_at dksX7_timetable_3 14 rfl rfl)
theorem dX7_timetable_86 : decode cX7_timetable 86 = .ok (.iload_n 2, 1) := dk_28 (dk_at dksX7_timetable_3 17 rfl rfl)
theorem dX7_timetable_87 : decode cX7_timetable 87 = .ok (.ifCond .ne 8, 3) := dk_154 0 8 (dk_at dksX7_timetable_3 18 rfl rfl)
theorem dX7_timetable_90 : decode cX7_timetable 90 = .ok (.aload_n 0, 1) := dk_42 (dk_at dksX7_timetable_3 21 rfl rfl)
theorem dX7_timetable_91 : decode cX7_timetable 91 = .ok (.getfield 196, 3) := dk_180 0 196 (dk_at dksX7_timetable_4 0 rfl rfl)
theorem dX7_timetable_94 : decode cX7_timetable 94 = .ok (.ireturn, 1) := dk_172 (dk_at dksX7_timetable_4 3 rfl rfl)
theorem dX7_timetable_95 : decode cX7_timetable 95 = .ok (.aload_n 0, 1) := dk_42 (dk_at dksX7_timetable_4 4 rfl rfl)
theorem dX7_timetable_96 : decode cX7_timetable 96 = .ok (.aload_n 0, 1) := dk_42 (dk_at dksX7_timetable_4 5 rfl rfl)
theorem dX7_timetable_97 : decode cX7_timetable 97 = .ok (.getfield 301, 3) := dk_180 1 45 (dk_at dksX7_timetable_4 6 rfl rfl)
theorem dX7_timetable_100 : decode cX7_timetable 100 = .ok (.putfield 162, 3) := dk_181 0 162 (dk_at dksX7_timetable_4 9 rfl rfl)
theorem dX7_timetable_103 : decode cX7_timetable 103 = .ok (.iconst 0, 1) := dk_3 (dk_at dksX7_timetable_4 12 rfl rfl)
theorem dX7_timetable_104 : decode cX7_timetable 104 = .ok (.istore_n 3, 1) := dk_62 (dk_at dksX7_timetable_4 13 rfl rfl)
theorem dX7_timetable_105 : decode cX7_timetable 105 = .ok (.iload_n 3, 1) := dk_29 (dk_at dksX7_timetable_4 14 rfl rfl)
theorem dX7_timetable_106 : decode cX7_timetable 106 = .ok (.bipush 48, 2) := dk_16 48 (dk_at dksX7_timetable_4 15 rfl rfl)
theorem dX7_timetable_108 : decode cX7_timetable 108 = .ok (.if_icmp .ge 35, 3) := dk_162 0 35 (dk_at dksX7_timetable_4 17 rfl rfl)
theorem dX7_timetable_111 : decode cX7_timetable 111 = .ok (.aload_n 0, 1) := dk_42 (dk_at dksX7_timetable_4 20 rfl rfl)
theorem dX7_timetable_112 : decode cX7_timetable 112 = .ok (.getfield 28, 3) := dk_180 0 28 (dk_at dksX7_timetable_4 21 rfl rfl)
theorem dX7_timetable_115 : decode cX7_timetable 115 = .ok (.iload_n 3, 1) := dk_29 (dk_at dksX7_timetable_5 0 rfl rfl)
theorem dX7_timetable_116 : decode cX7_timetable 116 = .ok (.aload_n 0, 1) := dk_42 (dk_at dksX7_timetable_5 1 rfl rfl)
theorem dX7_timetable_117 : decode cX7_timetable 117 = .ok (.getfield 93, 3) := dk_180 0 93 (dk_at dksX7_timetable_5 2 rfl rfl)
theorem dX7_timetable_120 : decode cX7_timetable 120 = .ok (.iload_n 3, 1) := dk_29 (dk_at dksX7_timetable_5 5 rfl rfl)
theorem dX7_timetable_121 : decode cX7_timetable 121 = .ok (.iaload, 1) := dk_46 (dk_at dksX7_timetable_5 6 rfl rfl)
theorem dX7_timetable_122 : decode cX7_timetable 122 = .ok (.iastore, 1) := dk_79 (dk_at dksX7_timetable_5 7 rfl rfl)
theorem dX7_timetable_123 : decode cX7_timetable 123 = .ok (.aload_n 0, 1) := dk_42 (dk_at dksX7_timetable_5 8 rfl rfl)
theorem dX7_timetable_124 : decode cX7_timetable 124 = .ok (.getfield 37, 3) := dk_180 0 37 (dk_at dksX7_timetable_5 9 rfl rfl)
theorem dX7_timetable_127 : decode cX7_timetable 127 = .ok (.iload_n 3, 1) := dk_29 (dk_at dksX7_timetable_5 12 rfl rfl)
theorem dX7_timetable_128 : decode cX7_timetable 128 = .ok (.iconst 0, 1) := dk_3 (dk_at dksX7_timetable_5 13 rfl rfl)
theorem dX7_timetable_129 : decode cX7_timetable 129 = .ok (.iastore, 1) := dk_79 (dk_at dksX7_timetable_5 14 rfl rfl)
theorem dX7_timetable_130 : decode cX7_timetable 130 = .ok (.aload_n 0, 1) := dk_42 (dk_at dksX7_timetable_5 15 rfl rfl)
theorem dX7_timetable_131 : decode cX7_timetable 131 = .ok (.getfield 47, 3) := dk_180 0 47 (dk_at dksX7_timetable_5 16 rfl rfl)
theorem dX7_timetable_134 : decode cX7_timetable 134 = .ok (.iload_n 3, 1) := dk_29 (dk_at dksX7_timetable_5 19 rfl rfl)
theorem dX7_timetable_135 : decode cX7_timetable 135 = .ok (.iconst 0, 1) := dk_3 (dk_at dksX7_timetable_5 20 rfl rfl)
theorem dX7_timetable_136 : decode cX7_timetable 136 = .ok (.bastore, 1) := dk_84 (dk_at dksX7_timetable_5 21 rfl rfl)
theorem dX7_timetable_137 : decode cX7_timetable 137 = .ok (.iinc 3 1, 3) := dk_132 3 1 (dk_at dksX7_timetable_6 0 rfl rfl)
theorem dX7_timetable_140 : decode cX7_timetable 140 = .ok (.goto (-35), 3) := dk_167 255 221 (dk_at dksX7_timetable_6 3 rfl rfl)
theorem dX7_timetable_143 : decode cX7_timetable 143 = .ok (.iconst 0, 1) := dk_3 (dk_at dksX7_timetable_6 6 rfl rfl)
theorem dX7_timetable_144 : decode cX7_timetable 144 = .ok (.istore_n 3, 1) := dk_62 (dk_at dksX7_timetable_6 7 rfl rfl)
theorem dX7_timetable_145 : decode cX7_timetable 145 = .ok (.iload_n 3, 1) := dk_29 (dk_at dksX7_timetable_6 8 rfl rfl)
theorem dX7_timetable_146 : decode cX7_timetable 146 = .ok (.sipush 384, 3) := dk_17 1 128 (dk_at dksX7_timetable_6 9 rfl rfl)
theorem dX7_timetable_149 : decode cX7_timetable 149 = .ok (.if_icmp .ge 33, 3) := dk_162 0 33 (dk_at dksX7_timetable_6 12 rfl rfl)
theorem dX7_timetable_152 : decode cX7_timetable 152 = .ok (.aload_n 0, 1) := dk_42 (dk_at dksX7_timetable_6 15 rfl rfl)
theorem dX7_timetable_153 : decode cX7_timetable 153 = .ok (.getfield 31, 3) := dk_180 0 31 (dk_at dksX7_timetable_6 16 rfl rfl)
theorem dX7_timetable_156 : decode cX7_timetable 156 = .ok (.iload_n 3, 1) := dk_29 (dk_at dksX7_timetable_6 19 rfl rfl)
theorem dX7_timetable_157 : decode cX7_timetable 157 = .ok (.aload_n 0, 1) := dk_42 (dk_at dksX7_timetable_6 20 rfl rfl)
theorem dX7_timetable_158 : decode cX7_timetable 158 = .ok (.getfield 96, 3) := dk_180 0 96 (dk_at dksX7_timetable_6 21 rfl rfl)
theorem dX7_timetable_161 : decode cX7_timetable 161 = .ok (.iload_n 3, 1) := dk_29 (dk_at dksX7_timetable_7 0 rfl rfl)
theorem dX7_timetable_162 : decode cX7_timetable 162 = .ok (.iaload, 1) := dk_46 (dk_at dksX7_timetable_7 1 rfl rfl)
theorem dX7_timetable_163 : decode cX7_timetable 163 = .ok (.iastore, 1) := dk_79 (dk_at dksX7_timetable_7 2 rfl rfl)
theorem dX7_timetable_164 : decode cX7_timetable 164 = .ok (.aload_n 0, 1) := dk_42 (dk_at dksX7_timetable_7 3 rfl rfl)
theorem dX7_timetable_165 : decode cX7_timetable 165 = .ok (.getfield 34, 3) := dk_180 0 34 (dk_at dksX7_timetable_7 4 rfl rfl)
theorem dX7_timetable_168 : decode cX7_timetable 168 = .ok (.iload_n 3, 1) := dk_29 (dk_at dksX7_timetable_7 7 rfl rfl)
theorem dX7_timetable_169 : decode cX7_timetable 169 = .ok (.aload_n 0, 1) := dk_42 (dk_at dksX7_timetable_7 8 rfl rfl)
theorem dX7_timetable_170 : decode cX7_timetable 170 = .ok (.getfield 99, 3) := dk_180 0 99 (dk_at dksX7_timetable_7 9 rfl rfl)
theorem dX7_timetable_173 : decode cX7_timetable 173 = .ok (.iload_n 3, 1) := dk_29 (dk_at dksX7_timetable_7 12 rfl rfl)
theorem dX7_timetable_174 : decode cX7_timetable 174 = .ok (.iaload, 1) := dk_46 (dk_at dksX7_timetable_7 13 rfl rfl)
theorem dX7_timetable_175 : decode cX7_timetable 175 = .ok (.iastore, 1) := dk_79 (dk_at dksX7_timetable_7 14 rfl rfl)
theorem dX7_timetable_176 : decode cX7_timetable 176 = .ok (.iinc 3 1, 3) := dk_132 3 1 (dk_at dksX7_timetable_7 15 rfl rfl)
theorem dX7_timetable_179 : decode cX7_timetable 179 = .ok (.goto (-34), 3) := dk_167 255 222 (dk_at dksX7_timetable_7 18 rfl rfl)
theorem dX7_timetable_182 : decode cX7_timetable 182 = .ok (.aload_n 0, 1) := dk_42 (dk_at dksX7_timetable_7 21 rfl rfl)
theorem dX7_timetable_183 : decode cX7_timetable 183 = .ok (.invokevirtual 310, 3) := dk_182 1 54 (dk_at dksX7_timetable_8 0 rfl rfl)
theorem dX7_timetable_186 : decode cX7_timetable 186 = .ok (.aload_n 0, 1) := dk_42 (dk_at dksX7_timetable_8 3 rfl rfl)
theorem dX7_timetable_187 : decode cX7_timetable 187 = .ok (.getfield 162, 3) := dk_180 0 162 (dk_at dksX7_timetable_8 4 rfl rfl)
theorem dX7_timetable_190 : decode cX7_timetable 190 = .ok (.ireturn, 1) := dk_172 (dk_at dksX7_timetable_8 7 rfl rfl)
abbrev cX7_readsService : ByteArray := prog_21_method_50_code
def yX7_readsService : MethodName := ⟨RX7, "readsService", "()Z"⟩
def dkwX7_readsService_13 : List UInt8 := [181, 1, 39, 4, 172]
abbrev dktX7_readsService_13 : List UInt8 := dkwX7_readsService_13 ++ []
def dkwX7_readsService_12 : List UInt8 := [42, 180, 1, 45, 4, 96, 181, 1, 45, 132, 5, 1, 167, 255, 164, 42, 42, 180, 1, 39, 4, 96]
abbrev dktX7_readsService_12 : List UInt8 := dkwX7_readsService_12 ++ dktX7_readsService_13
def dkwX7_readsService_11 : List UInt8 := [184, 0, 165, 42, 180, 0, 105, 21, 6, 46, 21, 5, 21, 4, 104, 96, 79, 132, 6, 1, 167, 255, 199, 42]
abbrev dktX7_readsService_11 : List UInt8 := dkwX7_readsService_11 ++ dktX7_readsService_12
def dkwX7_readsService_10 : List UInt8 := [21, 6, 184, 0, 165, 42, 180, 0, 102, 21, 6, 46, 79, 42, 180, 0, 99, 42, 180, 1, 45, 21, 6]
abbrev dktX7_readsService_10 : List UInt8 := dkwX7_readsService_10 ++ dktX7_readsService_11
def dkwX7_readsService_9 : List UInt8 := [42, 180, 1, 45, 28, 79, 3, 54, 6, 21, 6, 28, 162, 0, 57, 42, 180, 0, 96, 42, 180, 1, 45]
abbrev dktX7_readsService_9 : List UInt8 := dkwX7_readsService_9 ++ dktX7_readsService_10
def dkwX7_readsService_8 : List UInt8 := [164, 0, 11, 42, 16, 8, 27, 182, 0, 199, 172, 3, 54, 5, 21, 5, 29, 162, 0, 92, 42, 180, 0, 93]
abbrev dktX7_readsService_8 : List UInt8 := dkwX7_readsService_8 ++ dktX7_readsService_9
def dkwX7_readsService_7 : List UInt8 := [104, 96, 17, 5, 159, 164, 0, 11, 42, 6, 21, 5, 182, 0, 199, 172, 42, 180, 1, 45, 29, 96, 16, 48]
abbrev dktX7_readsService_7 : List UInt8 := dkwX7_readsService_7 ++ dktX7_readsService_8
def dkwX7_readsService_6 : List UInt8 := [154, 0, 5, 3, 172, 42, 180, 0, 202, 54, 4, 42, 180, 0, 105, 28, 4, 100, 46, 29, 4, 100, 21, 4]
abbrev dktX7_readsService_6 : List UInt8 := dkwX7_readsService_6 ++ dktX7_readsService_7
def dkwX7_readsService_5 : List UInt8 := [182, 1, 20, 154, 0, 5, 3, 172, 42, 180, 0, 186, 54, 5, 42, 6, 4, 17, 2, 208, 182, 1, 36]
abbrev dktX7_readsService_5 : List UInt8 := dkwX7_readsService_5 ++ dktX7_readsService_6
def dkwX7_readsService_4 : List UInt8 := [181, 0, 186, 42, 5, 5, 16, 24, 182, 1, 36, 154, 0, 5, 3, 172, 42, 180, 0, 202, 62, 42, 16, 43]
abbrev dktX7_readsService_4 : List UInt8 := dkwX7_readsService_4 ++ dktX7_readsService_5
def dkwX7_readsService_3 : List UInt8 := [167, 255, 235, 4, 62, 3, 54, 4, 42, 182, 0, 192, 16, 120, 160, 0, 97, 42, 42, 180, 0, 186, 4, 96]
abbrev dktX7_readsService_3 : List UInt8 := dkwX7_readsService_3 ++ dktX7_readsService_4
def dkwX7_readsService_2 : List UInt8 := [172, 5, 61, 42, 182, 1, 33, 153, 0, 20, 42, 28, 182, 1, 42, 154, 0, 5, 3, 172, 28, 4, 96, 61]
abbrev dktX7_readsService_2 : List UInt8 := dkwX7_readsService_2 ++ dktX7_readsService_3
def dkwX7_readsService_1 : List UInt8 := [180, 0, 186, 182, 0, 199, 172, 42, 3, 182, 1, 42, 153, 0, 11, 42, 4, 182, 1, 42, 154, 0, 5, 3]
abbrev dktX7_readsService_1 : List UInt8 := dkwX7_readsService_1 ++ dktX7_readsService_2
def dkwX7_readsService_0 : List UInt8 := [42, 180, 0, 186, 60, 42, 182, 1, 33, 153, 0, 22, 42, 180, 1, 39, 16, 16, 160, 0, 13, 42, 7, 42]
abbrev dktX7_readsService_0 : List UInt8 := dkwX7_readsService_0 ++ dktX7_readsService_1
theorem dksX7_readsService_0 : cX7_readsService.data.toList.drop 0 = dktX7_readsService_0 := by decide +kernel
theorem dksX7_readsService_1 : cX7_readsService.data.toList.drop 24 = dktX7_readsService_1 := dk_seg dksX7_readsService_0 24 rfl rfl
theorem dksX7_readsService_2 : cX7_readsService.data.toList.drop 48 = dktX7_readsService_2 := dk_seg dksX7_readsService_1 24 rfl rfl
theorem dksX7_readsService_3 : cX7_readsService.data.toList.drop 72 = dktX7_readsService_3 := dk_seg dksX7_readsService_2 24 rfl rfl
theorem dksX7_readsService_4 : cX7_readsService.data.toList.drop 96 = dktX7_readsService_4 := dk_seg dksX7_readsService_3 24 rfl rfl
theorem dksX7_readsService_5 : cX7_readsService.data.toList.drop 120 = dktX7_readsService_5 := dk_seg dksX7_readsService_4 24 rfl rfl
theorem dksX7_readsService_6 : cX7_readsService.data.toList.drop 143 = dktX7_readsService_6 := dk_seg dksX7_readsService_5 23 rfl rfl
theorem dksX7_readsService_7 : cX7_readsService.data.toList.drop 167 = dktX7_readsService_7 := dk_seg dksX7_readsService_6 24 rfl rfl
theorem dksX7_readsService_8 : cX7_readsService.data.toList.drop 191 = dktX7_readsService_8 := dk_seg dksX7_readsService_7 24 rfl rfl
theorem dksX7_readsService_9 : cX7_readsService.data.toList.drop 215 = dktX7_readsService_9 := dk_seg dksX7_readsService_8 24 rfl rfl
theorem dksX7_readsService_10 : cX7_readsService.data.toList.drop 238 = dktX7_readsService_10 := dk_seg dksX7_readsService_9 23 rfl rfl
theorem dksX7_readsService_11 : cX7_readsService.data.toList.drop 261 = dktX7_readsService_11 := dk_seg dksX7_readsService_10 23 rfl rfl
theorem dksX7_readsService_12 : cX7_readsService.data.toList.drop 285 = dktX7_readsService_12 := dk_seg dksX7_readsService_11 24 rfl rfl
theorem dksX7_readsService_13 : cX7_readsService.data.toList.drop 307 = dktX7_readsService_13 := dk_seg dksX7_readsService_12 22 rfl rfl
theorem dX7_readsService_0 : decode cX7_readsService 0 = .ok (.aload_n 0, 1) := dk_42 (dk_at dksX7_readsService_0 0 rfl rfl)
theorem dX7_readsService_1 : decode cX7_readsService 1 = .ok (.getfield 186, 3) := dk_180 0 186 (dk_at dksX7_readsService_0 1 rfl rfl)
theorem dX7_readsService_4 : decode cX7_readsService 4 = .ok (.istore_n 1, 1) := dk_60 (dk_at dksX7_readsService_0 4 rfl rfl)
theorem dX7_readsService_5 : decode cX7_readsService 5 = .ok (.aload_n 0, 1) := dk_42 (dk_at dksX7_readsService_0 5 rfl rfl)
theorem dX7_readsService_6 : decode cX7_readsService 6 = .ok (.invokevirtual 289, 3) := dk_182 1 33 (dk_at dksX7_readsService_0 6 rfl rfl)
theorem dX7_readsService_9 : decode cX7_readsService 9 = .ok (.ifCond .eq 22, 3) := dk_153 0 22 (dk_at dksX7_readsService_0 9 rfl rfl)
theorem dX7_readsService_12 : decode cX7_readsService 12 = .ok (.aload_n 0, 1) := dk_42 (dk_at dksX7_readsService_0 12 rfl rfl)
theorem dX7_readsService_13 : decode cX7_readsService 13 = .ok (.getfield 295, 3) := dk_180 1 39 (dk_at dksX7_readsService_0 13 rfl rfl)
theorem dX7_readsService_16 : decode cX7_readsService 16 = .ok (.bipush 16, 2) := dk_16 16 (dk_at dksX7_readsService_0 16 rfl rfl)
theorem dX7_readsService_18 : decode cX7_readsService 18 = .ok (.if_icmp .ne 13, 3) := dk_160 0 13 (dk_at dksX7_readsService_0 18 rfl rfl)
theorem dX7_readsService_21 : decode cX7_readsService 21 = .ok (.aload_n 0, 1) := dk_42 (dk_at dksX7_readsService_0 21 rfl rfl)
theorem dX7_readsService_22 : decode cX7_readsService 22 = .ok (.iconst 4, 1) := dk_7 (dk_at dksX7_readsService_0 22 rfl rfl)
theorem dX7_readsService_23 : decode cX7_readsService 23 = .ok (.aload_n 0, 1) := dk_42 (dk_at dksX7_readsService_0 23 rfl rfl)
theorem dX7_readsService_24 : decode cX7_readsService 24 = .ok (.getfield 186, 3) := dk_180 0 186 (dk_at dksX7_readsService_1 0 rfl rfl)
theorem dX7_readsService_27 : decode cX7_readsService 27 = .ok (.invokevirtual 199, 3) := dk_182 0 199 (dk_at dksX7_readsService_1 3 rfl rfl)
theorem dX7_readsService_30 : decode cX7_readsService 30 = .ok (.ireturn, 1) := dk_172 (dk_at dksX7_readsService_1 6 rfl rfl)
theorem dX7_readsService_31 : decode cX7_readsService 31 = .ok (.aload_n 0, 1) := dk_42 (dk_at dksX7_readsService_1 7 rfl rfl)
theorem dX7_readsService_32 : decode cX7_readsService 32 = .ok (.iconst 0, 1) := dk_3 (dk_at dksX7_readsService_1 8 rfl rfl)
theorem dX7_readsService_33 : decode cX7_readsService 33 = .ok (.invokevirtual 298, 3) := dk_182 1 42 (dk_at dksX7_readsService_1 9 rfl rfl)
theorem dX7_readsService_36 : decode cX7_readsService 36 = .ok (.ifCond .eq 11, 3) := dk_153 0 11 (dk_at dksX7_readsService_1 12 rfl rfl)
theorem dX7_readsService_39 : decode cX7_readsService 39 = .ok (.aload_n 0, 1) := dk_42 (dk_at dksX7_readsService_1 15 rfl rfl)
theorem dX7_readsService_40 : decode cX7_readsService 40 = .ok (.iconst 1, 1) := dk_4 (dk_at dksX7_readsService_1 16 rfl rfl)
theorem dX7_readsService_41 : decode cX7_readsService 41 = .ok (.invokevirtual 298, 3) := dk_182 1 42 (dk_at dksX7_readsService_1 17 rfl rfl)
theorem dX7_readsService_44 : decode cX7_readsService 44 = .ok (.ifCond .ne 5, 3) := dk_154 0 5 (dk_at dksX7_readsService_1 20 rfl rfl)
theorem dX7_readsService_47 : decode cX7_readsService 47 = .ok (.iconst 0, 1) := dk_3 (dk_at dksX7_readsService_1 23 rfl rfl)
theorem dX7_readsService_48 : decode cX7_readsService 48 = .ok (.ireturn, 1) := dk_172 (dk_at dksX7_readsService_2 0 rfl rfl)
theorem dX7_readsService_49 : decode cX7_readsService 49 = .ok (.iconst 2, 1) := dk_5 (dk_at dksX7_readsService_2 1 rfl rfl)
theorem dX7_readsService_50 : decode cX7_readsService 50 = .ok (.istore_n 2, 1) := dk_61 (dk_at dksX7_readsService_2 2 rfl rfl)
theorem dX7_readsService_51 : decode cX7_readsService 51 = .ok (.aload_n 0, 1) := dk_42 (dk_at dksX7_readsService_2 3 rfl rfl)
theorem dX7_readsService_52 : decode cX7_readsService 52 = .ok (.invokevirtual 289, 3) := dk_182 1 33 (dk_at dksX7_readsService_2 4 rfl rfl)
theorem dX7_readsService_55 : decode cX7_readsService 55 = .ok (.ifCond .eq 20, 3) := dk_153 0 20 (dk_at dksX7_readsService_2 7 rfl rfl)
theorem dX7_readsService_58 : decode cX7_readsService 58 = .ok (.aload_n 0, 1) := dk_42 (dk_at dksX7_readsService_2 10 rfl rfl)
theorem dX7_readsService_59 : decode cX7_readsService 59 = .ok (.iload_n 2, 1) := dk_28 (dk_at dksX7_readsService_2 11 rfl rfl)
theorem dX7_readsService_60 : decode cX7_readsService 60 = .ok (.invokevirtual 298, 3) := dk_182 1 42 (dk_at dksX7_readsService_2 12 rfl rfl)
theorem dX7_readsService_63 : decode cX7_readsService 63 = .ok (.ifCond .ne 5, 3) := dk_154 0 5 (dk_at dksX7_readsService_2 15 rfl rfl)
theorem dX7_readsService_66 : decode cX7_readsService 66 = .ok (.iconst 0, 1) := dk_3 (dk_at dksX7_readsService_2 18 rfl rfl)
theorem dX7_readsService_67 : decode cX7_readsService 67 = .ok (.ireturn, 1) := dk_172 (dk_at dksX7_readsService_2 19 rfl rfl)
theorem dX7_readsService_68 : decode cX7_readsService 68 = .ok (.iload_n 2, 1) := dk_28 (dk_at dksX7_readsService_2 20 rfl rfl)
theorem dX7_readsService_69 : decode cX7_readsService 69 = .ok (.iconst 1, 1) := dk_4 (dk_at dksX7_readsService_2 21 rfl rfl)
theorem dX7_readsService_70 : decode cX7_readsService 70 = .ok (.iadd, 1) := dk_96 (dk_at dksX7_readsService_2 22 rfl rfl)
theorem dX7_readsService_71 : decode cX7_readsService 71 = .ok (.istore_n 2, 1) := dk_61 (dk_at dksX7_readsService_2 23 rfl rfl)
theorem dX7_readsService_72 : decode cX7_readsService 72 = .ok (.goto (-21), 3) := dk_167 255 235 (dk_at dksX7_readsService_3 0 rfl rfl)
theorem dX7_readsService_75 : decode cX7_readsService 75 = .ok (.iconst 1, 1) := dk_4 (dk_at dksX7_readsService_3 3 rfl rfl)
theorem dX7_readsService_76 : decode cX7_readsService 76 = .ok (.istore_n 3, 1) := dk_62 (dk_at dksX7_readsService_3 4 rfl rfl)
theorem dX7_readsService_77 : decode cX7_readsService 77 = .ok (.iconst 0, 1) := dk_3 (dk_at dksX7_readsService_3 5 rfl rfl)
theorem dX7_readsService_78 : decode cX7_readsService 78 = .ok (.istore 4, 2) := dk_54 4 (dk_at dksX7_readsService_3 6 rfl rfl)
theorem dX7_readsService_80 : decode cX7_readsService 80 = .ok (.aload_n 0, 1) := dk_42 (dk_at dksX7_readsService_3 8 rfl rfl)
theorem dX7_readsService_81 : decode cX7_readsService 81 = .ok (.invokevirtual 192, 3) := dk_182 0 192 (dk_at dksX7_readsService_3 9 rfl rfl)
theorem dX7_readsService_84 : decode cX7_readsService 84 = .ok (.bipush 120, 2) := dk_16 120 (dk_at dksX7_readsService_3 12 rfl rfl)
theorem dX7_readsService_86 : decode cX7_readsService 86 = .ok (.if_icmp .ne 97, 3) := dk_160 0 97 (dk_at dksX7_readsService_3 14 rfl rfl)
theorem dX7_readsService_89 : decode cX7_readsService 89 = .ok (.aload_n 0, 1) := dk_42 (dk_at dksX7_readsService_3 17 rfl rfl)
theorem dX7_readsService_90 : decode cX7_readsService 90 = .ok (.aload_n 0, 1) := dk_42 (dk_at dksX7_readsService_3 18 rfl rfl)
theorem dX7_readsService_91 : decode cX7_readsService 91 = .ok (.getfield 186, 3) := dk_180 0 186 (dk_at dksX7_readsService_3 19 rfl rfl)
theorem dX7_readsService_94 : decode cX7_readsService 94 = .ok (.iconst 1, 1) := dk_4 (dk_at dksX7_readsService_3 22 rfl rfl)
theorem dX7_readsService_95 : decode cX7_readsService 95 = .ok (.iadd, 1) := dk_96 (dk_at dksX7_readsService_3 23 rfl rfl)
theorem dX7_readsService_96 : decode cX7_readsService 96 = .ok (.putfield 186, 3) := dk_181 0 186 (dk_at dksX7_readsService_4 0 rfl rfl)
theorem dX7_readsService_99 : decode cX7_readsService 99 = .ok (.aload_n 0, 1) := dk_42 (dk_at dksX7_readsService_4 3 rfl rfl)
theorem dX7_readsService_100 : decode cX7_readsService 100 = .ok (.iconst 2, 1) := dk_5 (dk_at dksX7_readsService_4 4 rfl rfl)
theorem dX7_readsService_101 : decode cX7_readsService 101 = .ok (.iconst 2, 1) := dk_5 (dk_at dksX7_readsService_4 5 rfl rfl)
theorem dX7_readsService_102 : decode cX7_readsService 102 = .ok (.bipush 24, 2) := dk_16 24 (dk_at dksX7_readsService_4 6 rfl rfl)
theorem dX7_readsService_104 : decode cX7_readsService 104 = .ok (.invokevirtual 292, 3) := dk_182 1 36 (dk_at dksX7_readsService_4 8 rfl rfl)
theorem dX7_readsService_107 : decode cX7_readsService 107 = .ok (.ifCond .ne 5, 3) := dk_154 0 5 (dk_at dksX7_readsService_4 11 rfl rfl)
theorem dX7_readsService_110 : decode cX7_readsService 110 = .ok (.iconst 0, 1) := dk_3 (dk_at dksX7_readsService_4 14 rfl rfl)
theorem dX7_readsService_111 : decode cX7_readsService 111 = .ok (.ireturn, 1) := dk_172 (dk_at dksX7_readsService_4 15 rfl rfl)
theorem dX7_readsService_112 : decode cX7_readsService 112 = .ok (.aload_n 0, 1) := dk_42 (dk_at dksX7_readsService_4 16 rfl rfl)
theorem dX7_readsService_113 : decode cX7_readsService 113 = .ok (.getfield 202, 3) := dk_180 0 202 (dk_at dksX7_readsService_4 17 rfl rfl)
theorem dX7_readsService_116 : decode cX7_readsService 116 = .ok (.istore_n 3, 1) := dk_62 (dk_at dksX7_readsService_4 20 rfl rfl)
theorem dX7_readsService_117 : decode cX7_readsService 117 = .ok (.aload_n 0, 1) := dk_42 (dk_at dksX7_readsService_4 21 rfl rfl)
theorem dX7_readsService_118 : decode cX7_readsService 118 = .ok (.bipush 43, 2) := dk_16 43 (dk_at dksX7_readsService_4 22 rfl rfl)
theorem dX7_readsService_120 : decode cX7_readsService 120 = .ok (.invokevirtual 276, 3) := dk_182 1 20 (dk_at dksX7_readsService_5 0 rfl rfl)
theorem dX7_readsService_123 : decode cX7_readsService 123 = .ok (.ifCond .ne 5, 3) := dk_154 0 5 (dk_at dksX7_readsService_5 3 rfl rfl)
theorem dX7_readsService_126 : decode cX7_readsService 126 = .ok (.iconst 0, 1) := dk_3 (dk_at dksX7_readsService_5 6 rfl rfl)
theorem dX7_readsService_127 : decode cX7_readsService 127 = .ok (.ireturn, 1) := dk_172 (dk_at dksX7_readsService_5 7 rfl rfl)
theorem dX7_readsService_128 : decode cX7_readsService 128 = .ok (.aload_n 0, 1) := dk_42 (dk_at dksX7_readsService_5 8 rfl rfl)
theorem dX7_readsService_129 : decode cX7_readsService 129 = .ok (.getfield 186, 3) := dk_180 0 186 (dk_at dksX7_readsService_5 9 rfl rfl)
theorem dX7_readsService_132 : decode cX7_readsService 132 = .ok (.istore 5, 2) := dk_54 5 (dk_at dksX7_readsService_5 12 rfl rfl)
theorem dX7_readsService_134 : decode cX7_readsService 134 = .ok (.aload_n 0, 1) := dk_42 (dk_at dksX7_readsService_5 14 rfl rfl)
theorem dX7_readsService_135 : decode cX7_readsService 135 = .ok (.iconst 3, 1) := dk_6 (dk_at dksX7_readsService_5 15 rfl rfl)
theorem dX7_readsService_136 : decode cX7_readsService 136 = .ok (.iconst 1, 1) := dk_4 (dk_at dksX7_readsService_5 16 rfl rfl)
theorem dX7_readsService_137 : decode cX7_readsService 137 = .ok (.sipush 720, 3) := dk_17 2 208 (dk_at dksX7_readsService_5 17 rfl rfl)
theorem dX7_readsService_140 : decode cX7_readsService 140 = .ok (.invokevirtual 292, 3) := dk_182 1 36 (dk_at dksX7_readsService_5 20 rfl rfl)
theorem dX7_readsService_143 : decode cX7_readsService 143 = .ok (.ifCond .ne 5, 3) := dk_154 0 5 (dk_at dksX7_readsService_6 0 rfl rfl)
theorem dX7_readsService_146 : decode cX7_readsService 146 = .ok (.iconst 0, 1) := dk_3 (dk_at dksX7_readsService_6 3 rfl rfl)
theorem dX7_readsService_147 : decode cX7_readsService 147 = .ok (.ireturn, 1) := dk_172 (dk_at dksX7_readsService_6 4 rfl rfl)
theorem dX7_readsService_148 : decode cX7_readsService 148 = .ok (.aload_n 0, 1) := dk_42 (dk_at dksX7_readsService_6 5 rfl rfl)
theorem dX7_readsService_149 : decode cX7_readsService 149 = .ok (.getfield 202, 3) := dk_180 0 202 (dk_at dksX7_readsService_6 6 rfl rfl)
theorem dX7_readsService_152 : decode cX7_readsService 152 = .ok (.istore 4, 2) := dk_54 4 (dk_at dksX7_readsService_6 9 rfl rfl)
theorem dX7_readsService_154 : decode cX7_readsService 154 = .ok (.aload_n 0, 1) := dk_42 (dk_at dksX7_readsService_6 11 rfl rfl)
theorem dX7_readsService_155 : decode cX7_readsService 155 = .ok (.getfield 105, 3) := dk_180 0 105 (dk_at dksX7_readsService_6 12 rfl rfl)
theorem dX7_readsService_158 : decode cX7_readsService 158 = .ok (.iload_n 2, 1) := dk_28 (dk_at dksX7_readsService_6 15 rfl rfl)
theorem dX7_readsService_159 : decode cX7_readsService 159 = .ok (.iconst 1, 1) := dk_4 (dk_at dksX7_readsService_6 16 rfl rfl)
theorem dX7_readsService_160 : decode cX7_readsService 160 = .ok (.isub, 1) := dk_100 (dk_at dksX7_readsService_6 17 rfl rfl)
theorem dX7_readsService_161 : decode cX7_readsService 161 = .ok (.iaload, 1) := dk_46 (dk_at dksX7_readsService_6 18 rfl rfl)
theorem dX7_readsService_162 : decode cX7_readsService 162 = .ok (.iload_n 3, 1) := dk_29 (dk_at dksX7_readsService_6 19 rfl rfl)
theorem dX7_readsService_163 : decode cX7_readsService 163 = .ok (.iconst 1, 1) := dk_4 (dk_at dksX7_readsService_6 20 rfl rfl)
theorem dX7_readsService_164 : decode cX7_readsService 164 = .ok (.isub, 1) := dk_100 (dk_at dksX7_readsService_6 21 rfl rfl)
theorem dX7_readsService_165 : decode cX7_readsService 165 = .ok (.iload 4, 2) := dk_21 4 (dk_at dksX7_readsService_6 22 rfl rfl)
theorem dX7_readsService_167 : decode cX7_readsService 167 = .ok (.imul, 1) := dk_104 (dk_at dksX7_readsService_7 0 rfl rfl)
theorem dX7_readsService_168 : decode cX7_readsService 168 = .ok (.iadd, 1) := dk_96 (dk_at dksX7_readsService_7 1 rfl rfl)
theorem dX7_readsService_169 : decode cX7_readsService 169 = .ok (.sipush 1439, 3) := dk_17 5 159 (dk_at dksX7_readsService_7 2 rfl rfl)
theorem dX7_readsService_172 : decode cX7_readsService 172 = .ok (.if_icmp .le 11, 3) := dk_164 0 11 (dk_at dksX7_readsService_7 5 rfl rfl)
theorem dX7_readsService_175 : decode cX7_readsService 175 = .ok (.aload_n 0, 1) := dk_42 (dk_at dksX7_readsService_7 8 rfl rfl)
theorem dX7_readsService_176 : decode cX7_readsService 176 = .ok (.iconst 3, 1) := dk_6 (dk_at dksX7_readsService_7 9 rfl rfl)
theorem dX7_readsService_177 : decode cX7_readsService 177 = .ok (.iload 5, 2) := dk_21 5 (dk_at dksX7_readsService_7 10 rfl rfl)
theorem dX7_readsService_179 : decode cX7_readsService 179 = .ok (.invokevirtual 199, 3) := dk_182 0 199 (dk_at dksX7_readsService_7 12 rfl rfl)
theorem dX7_readsService_182 : decode cX7_readsService 182 = .ok (.ireturn, 1) := dk_172 (dk_at dksX7_readsService_7 15 rfl rfl)
theorem dX7_readsService_183 : decode cX7_readsService 183 = .ok (.aload_n 0, 1) := dk_42 (dk_at dksX7_readsService_7 16 rfl rfl)
theorem dX7_readsService_184 : decode cX7_readsService 184 = .ok (.getfield 301, 3) := dk_180 1 45 (dk_at dksX7_readsService_7 17 rfl rfl)
theorem dX7_readsService_187 : decode cX7_readsService 187 = .ok (.iload_n 3, 1) := dk_29 (dk_at dksX7_readsService_7 20 rfl rfl)
theorem dX7_readsService_188 : decode cX7_readsService 188 = .ok (.iadd, 1) := dk_96 (dk_at dksX7_readsService_7 21 rfl rfl)
theorem dX7_readsService_189 : decode cX7_readsService 189 = .ok (.bipush 48, 2) := dk_16 48 (dk_at dksX7_readsService_7 22 rfl rfl)
theorem dX7_readsService_191 : decode cX7_readsService 191 = .ok (.if_icmp .le 11, 3) := dk_164 0 11 (dk_at dksX7_readsService_8 0 rfl rfl)
theorem dX7_readsService_194 : decode cX7_readsService 194 = .ok (.aload_n 0, 1) := dk_42 (dk_at dksX7_readsService_8 3 rfl rfl)
theorem dX7_readsService_195 : decode cX7_readsService 195 = .ok (.bipush 8, 2) := dk_16 8 (dk_at dksX7_readsService_8 4 rfl rfl)
theorem dX7_readsService_197 : decode cX7_readsService 197 = .ok (.iload_n 1, 1) := dk_27 (dk_at dksX7_readsService_8 6 rfl rfl)
theorem dX7_readsService_198 : decode cX7_readsService 198 = .ok (.invokevirtual 199, 3) := dk_182 0 199 (dk_at dksX7_readsService_8 7 rfl rfl)
theorem dX7_readsService_201 : decode cX7_readsService 201 = .ok (.ireturn, 1) := dk_172 (dk_at dksX7_readsService_8 10 rfl rfl)
theorem dX7_readsService_202 : decode cX7_readsService 202 = .ok (.iconst 0, 1) := dk_3 (dk_at dksX7_readsService_8 11 rfl rfl)
theorem dX7_readsService_203 : decode cX7_readsService 203 = .ok (.istore 5, 2) := dk_54 5 (dk_at dksX7_readsService_8 12 rfl rfl)
theorem dX7_readsService_205 : decode cX7_readsService 205 = .ok (.iload 5, 2) := dk_21 5 (dk_at dksX7_readsService_8 14 rfl rfl)
theorem dX7_readsService_207 : decode cX7_readsService 207 = .ok (.iload_n 3, 1) := dk_29 (dk_at dksX7_readsService_8 16 rfl rfl)
theorem dX7_readsService_208 : decode cX7_readsService 208 = .ok (.if_icmp .ge 92, 3) := dk_162 0 92 (dk_at dksX7_readsService_8 17 rfl rfl)
theorem dX7_readsService_211 : decode cX7_readsService 211 = .ok (.aload_n 0, 1) := dk_42 (dk_at dksX7_readsService_8 20 rfl rfl)
theorem dX7_readsService_212 : decode cX7_readsService 212 = .ok (.getfield 93, 3) := dk_180 0 93 (dk_at dksX7_readsService_8 21 rfl rfl)
theorem dX7_readsService_215 : decode cX7_readsService 215 = .ok (.aload_n 0, 1) := dk_42 (dk_at dksX7_readsService_9 0 rfl rfl)
theorem dX7_readsService_216 : decode cX7_readsService 216 = .ok (.getfield 301, 3) := dk_180 1 45 (dk_at dksX7_readsService_9 1 rfl rfl)
theorem dX7_readsService_219 : decode cX7_readsService 219 = .ok (.iload_n 2, 1) := dk_28 (dk_at dksX7_readsService_9 4 rfl rfl)
theorem dX7_readsService_220 : decode cX7_readsService 220 = .ok (.iastore, 1) := dk_79 (dk_at dksX7_readsService_9 5 rfl rfl)
theorem dX7_readsService_221 : decode cX7_readsService 221 = .ok (.iconst 0, 1) := dk_3 (dk_at dksX7_readsService_9 6 rfl rfl)
theorem dX7_readsService_222 : decode cX7_readsService 222 = .ok (.istore 6, 2) := dk_54 6 (dk_at dksX7_readsService_9 7 rfl rfl)
theorem dX7_readsService_224 : decode cX7_readsService 224 = .ok (.iload 6, 2) := dk_21 6 (dk_at dksX7_readsService_9 9 rfl rfl)
theorem dX7_readsService_226 : decode cX7_readsService 226 = .ok (.iload_n 2, 1) := dk_28 (dk_at dksX7_readsService_9 11 rfl rfl)
theorem dX7_readsService_227 : decode cX7_readsService 227 = .ok (.if_icmp .ge 57, 3) := dk_162 0 57 (dk_at dksX7_readsService_9 12 rfl rfl)
theorem dX7_readsService_230 : decode cX7_readsService 230 = .ok (.aload_n 0, 1) := dk_42 (dk_at dksX7_readsService_9 15 rfl rfl)
theorem dX7_readsService_231 : decode cX7_readsService 231 = .ok (.getfield 96, 3) := dk_180 0 96 (dk_at dksX7_readsService_9 16 rfl rfl)
theorem dX7_readsService_234 : decode cX7_readsService 234 = .ok (.aload_n 0, 1) := dk_42 (dk_at dksX7_readsService_9 19 rfl rfl)
theorem dX7_readsService_235 : decode cX7_readsService 235 = .ok (.getfield 301, 3) := dk_180 1 45 (dk_at dksX7_readsService_9 20 rfl rfl)
theorem dX7_readsService_238 : decode cX7_readsService 238 = .ok (.iload 6, 2) := dk_21 6 (dk_at dksX7_readsService_10 0 rfl rfl)
theorem dX7_readsService_240 : decode cX7_readsService 240 = .ok (.invokestatic 165, 3) := dk_184 0 165 (dk_at dksX7_readsService_10 2 rfl rfl)
theorem dX7_readsService_243 : decode cX7_readsService 243 = .ok (.aload_n 0, 1) := dk_42 (dk_at dksX7_readsService_10 5 rfl rfl)
theorem dX7_readsService_244 : decode cX7_readsService 244 = .ok (.getfield 102, 3) := dk_180 0 102 (dk_at dksX7_readsService_10 6 rfl rfl)
theorem dX7_readsService_247 : decode cX7_readsService 247 = .ok (.iload 6, 2) := dk_21 6 (dk_at dksX7_readsService_10 9 rfl rfl)
theorem dX7_readsService_249 : decode cX7_readsService 249 = .ok (.iaload, 1) := dk_46 (dk_at dksX7_readsService_10 11 rfl rfl)
theorem dX7_readsService_250 : decode cX7_readsService 250 = .ok (.iastore, 1) := dk_79 (dk_at dksX7_readsService_10 12 rfl rfl)
theorem dX7_readsService_251 : decode cX7_readsService 251 = .ok (.aload_n 0, 1) := dk_42 (dk_at dksX7_readsService_10 13 rfl rfl)
theorem dX7_readsService_252 : decode cX7_readsService 252 = .ok (.getfield 99, 3) := dk_180 0 99 (dk_at dksX7_readsService_10 14 rfl rfl)
theorem dX7_readsService_255 : decode cX7_readsService 255 = .ok (.aload_n 0, 1) := dk_42 (dk_at dksX7_readsService_10 17 rfl rfl)
theorem dX7_readsService_256 : decode cX7_readsService 256 = .ok (.getfield 301, 3) := dk_180 1 45 (dk_at dksX7_readsService_10 18 rfl rfl)
theorem dX7_readsService_259 : decode cX7_readsService 259 = .ok (.iload 6, 2) := dk_21 6 (dk_at dksX7_readsService_10 21 rfl rfl)
theorem dX7_readsService_261 : decode cX7_readsService 261 = .ok (.invokestatic 165, 3) := dk_184 0 165 (dk_at dksX7_readsService_11 0 rfl rfl)
theorem dX7_readsService_264 : decode cX7_readsService 264 = .ok (.aload_n 0, 1) := dk_42 (dk_at dksX7_readsService_11 3 rfl rfl)
theorem dX7_readsService_265 : decode cX7_readsService 265 = .ok (.getfield 105, 3) := dk_180 0 105 (dk_at dksX7_readsService_11 4 rfl rfl)
theorem dX7_readsService_268 : decode cX7_readsService 268 = .ok (.iload 6, 2) := dk_21 6 (dk_at dksX7_readsService_11 7 rfl rfl)
theorem dX7_readsService_270 : decode cX7_readsService 270 = .ok (.iaload, 1) := dk_46 (dk_at dksX7_readsService_11 9 rfl rfl)
theorem dX7_readsService_271 : decode cX7_readsService 271 = .ok (.iload 5, 2) := dk_21 5 (dk_at dksX7_readsService_11 10 rfl rfl)
theorem dX7_readsService_273 : decode cX7_readsService 273 = .ok (.iload 4, 2) := dk_21 4 (dk_at dksX7_readsService_11 12 rfl rfl)
theorem dX7_readsService_275 : decode cX7_readsService 275 = .ok (.imul, 1) := dk_104 (dk_at dksX7_readsService_11 14 rfl rfl)
theorem dX7_readsService_276 : decode cX7_readsService 276 = .ok (.iadd, 1) := dk_96 (dk_at dksX7_readsService_11 15 rfl rfl)
theorem dX7_readsService_277 : decode cX7_readsService 277 = .ok (.iastore, 1) := dk_79 (dk_at dksX7_readsService_11 16 rfl rfl)
theorem dX7_readsService_278 : decode cX7_readsService 278 = .ok (.iinc 6 1, 3) := dk_132 6 1 (dk_at dksX7_readsService_11 17 rfl rfl)
theorem dX7_readsService_281 : decode cX7_readsService 281 = .ok (.goto (-57), 3) := dk_167 255 199 (dk_at dksX7_readsService_11 20 rfl rfl)
theorem dX7_readsService_284 : decode cX7_readsService 284 = .ok (.aload_n 0, 1) := dk_42 (dk_at dksX7_readsService_11 23 rfl rfl)
theorem dX7_readsService_285 : decode cX7_readsService 285 = .ok (.aload_n 0, 1) := dk_42 (dk_at dksX7_readsService_12 0 rfl rfl)
theorem dX7_readsService_286 : decode cX7_readsService 286 = .ok (.getfield 301, 3) := dk_180 1 45 (dk_at dksX7_readsService_12 1 rfl rfl)
theorem dX7_readsService_289 : decode cX7_readsService 289 = .ok (.iconst 1, 1) := dk_4 (dk_at dksX7_readsService_12 4 rfl rfl)
theorem dX7_readsService_290 : decode cX7_readsService 290 = .ok (.iadd, 1) := dk_96 (dk_at dksX7_readsService_12 5 rfl rfl)
theorem dX7_readsService_291 : decode cX7_readsService 291 = .ok (.putfield 301, 3) := dk_181 1 45 (dk_at dksX7_readsService_12 6 rfl rfl)
theorem dX7_readsService_294 : decode cX7_readsService 294 = .ok (.iinc 5 1, 3) := dk_132 5 1 (dk_at dksX7_readsService_12 9 rfl rfl)
theorem dX7_readsService_297 : decode cX7_readsService 297 = .ok (.goto (-92), 3) := dk_167 255 164 (dk_at dksX7_readsService_12 12 rfl rfl)
theorem dX7_readsService_300 : decode cX7_readsService 300 = .ok (.aload_n 0, 1) := dk_42 (dk_at dksX7_readsService_12 15 rfl rfl)
theorem dX7_readsService_301 : decode cX7_readsService 301 = .ok (.aload_n 0, 1) := dk_42 (dk_at dksX7_readsService_12 16 rfl rfl)
theorem dX7_readsService_302 : decode cX7_readsService 302 = .ok (.getfield 295, 3) := dk_180 1 39 (dk_at dksX7_readsService_12 17 rfl rfl)
theorem dX7_readsService_305 : decode cX7_readsService 305 = .ok (.iconst 1, 1) := dk_4 (dk_at dksX7_readsService_12 20 rfl rfl)
theorem dX7_readsService_306 : decode cX7_readsService 306 = .ok (.iadd, 1) := dk_96 (dk_at dksX7_readsService_12 21 rfl rfl)
theorem dX7_readsService_307 : decode cX7_readsService 307 = .ok (.putfield 295, 3) := dk_181 1 39 (dk_at dksX7_readsService_13 0 rfl rfl)
theorem dX7_readsService_310 : decode cX7_readsService 310 = .ok (.iconst 1, 1) := dk_4 (dk_at dksX7_readsService_13 3 rfl rfl)
theorem dX7_readsService_311 : decode cX7_readsService 311 = .ok (.ireturn, 1) := dk_172 (dk_at dksX7_readsService_13 4 rfl rfl)
abbrev cX7_isLetter : ByteArray := prog_21_method_47_code
def yX7_isLetter : MethodName := ⟨RX7, "isLetter", "()Z"⟩
def dkwX7_isLetter_0 : List UInt8 := [42, 182, 0, 192, 16, 97, 100, 3, 16, 9, 184, 0, 154, 172]
abbrev dktX7_isLetter_0 : List UInt8 := dkwX7_isLetter_0 ++ []
theorem dksX7_isLetter_0 : cX7_isLetter.data.toList.drop 0 = dktX7_isLetter_0 := by decide +kernel
theorem dX7_isLetter_0 : decode cX7_isLetter 0 = .ok (.aload_n 0, 1) := dk_42 (dk_at dksX7_isLetter_0 0 rfl rfl)
theorem dX7_isLetter_1 : decode cX7_isLetter 1 = .ok (.invokevirtual 192, 3) := dk_182 0 192 (dk_at dksX7_isLetter_0 1 rfl rfl)
theorem dX7_isLetter_4 : decode cX7_isLetter 4 = .ok (.bipush 97, 2) := dk_16 97 (dk_at dksX7_isLetter_0 4 rfl rfl)
theorem dX7_isLetter_6 : decode cX7_isLetter 6 = .ok (.isub, 1) := dk_100 (dk_at dksX7_isLetter_0 6 rfl rfl)
theorem dX7_isLetter_7 : decode cX7_isLetter 7 = .ok (.iconst 0, 1) := dk_3 (dk_at dksX7_isLetter_0 7 rfl rfl)
theorem dX7_isLetter_8 : decode cX7_isLetter 8 = .ok (.bipush 9, 2) := dk_16 9 (dk_at dksX7_isLetter_0 8 rfl rfl)
theorem dX7_isLetter_10 : decode cX7_isLetter 10 = .ok (.invokestatic 154, 3) := dk_184 0 154 (dk_at dksX7_isLetter_0 10 rfl rfl)
theorem dX7_isLetter_13 : decode cX7_isLetter 13 = .ok (.ireturn, 1) := dk_172 (dk_at dksX7_isLetter_0 13 rfl rfl)
abbrev cX7_readsStop : ByteArray := prog_21_method_49_code
def yX7_readsStop : MethodName := ⟨RX7, "readsStop", "(I)Z"⟩
def dkwX7_readsStop_5 : List UInt8 := [42, 180, 0, 102, 27, 28, 79, 42, 180, 0, 105, 27, 42, 180, 0, 202, 79, 4, 172]
abbrev dktX7_readsStop_5 : List UInt8 := dkwX7_readsStop_5 ++ []
def dkwX7_readsStop_4 : List UInt8 := [167, 0, 13, 42, 180, 0, 105, 27, 4, 100, 46, 4, 96, 17, 5, 159, 182, 1, 36, 154, 0, 5, 3, 172]
abbrev dktX7_readsStop_4 : List UInt8 := dkwX7_readsStop_4 ++ dktX7_readsStop_5
def dkwX7_readsStop_3 : List UInt8 := [180, 0, 186, 182, 0, 199, 172, 42, 42, 180, 0, 186, 4, 96, 181, 0, 186, 42, 7, 27, 154, 0, 7, 3]
abbrev dktX7_readsStop_3 : List UInt8 := dkwX7_readsStop_3 ++ dktX7_readsStop_4
def dkwX7_readsStop_2 : List UInt8 := [180, 0, 186, 182, 0, 199, 172, 132, 3, 1, 167, 255, 227, 27, 16, 8, 160, 0, 13, 42, 8, 42]
abbrev dktX7_readsStop_2 : List UInt8 := dkwX7_readsStop_2 ++ dktX7_readsStop_3
def dkwX7_readsStop_1 : List UInt8 := [61, 3, 62, 29, 27, 162, 0, 30, 42, 180, 0, 102, 29, 46, 28, 160, 0, 14, 42, 16, 6, 42]
abbrev dktX7_readsStop_1 : List UInt8 := dkwX7_readsStop_1 ++ dktX7_readsStop_2
def dkwX7_readsStop_0 : List UInt8 := [42, 182, 1, 33, 154, 0, 13, 42, 4, 42, 180, 0, 186, 182, 0, 199, 172, 42, 182, 0, 192, 16, 97, 100]
abbrev dktX7_readsStop_0 : List UInt8 := dkwX7_readsStop_0 ++ dktX7_readsStop_1
theorem dksX7_readsStop_0 : cX7_readsStop.data.toList.drop 0 = dktX7_readsStop_0 := by decide +kernel
theorem dksX7_readsStop_1 : cX7_readsStop.data.toList.drop 24 = dktX7_readsStop_1 := dk_seg dksX7_readsStop_0 24 rfl rfl
theorem dksX7_readsStop_2 : cX7_readsStop.data.toList.drop 46 = dktX7_readsStop_2 := dk_seg dksX7_readsStop_1 22 rfl rfl
theorem dksX7_readsStop_3 : cX7_readsStop.data.toList.drop 68 = dktX7_readsStop_3 := dk_seg dksX7_readsStop_2 22 rfl rfl
theorem dksX7_readsStop_4 : cX7_readsStop.data.toList.drop 92 = dktX7_readsStop_4 := dk_seg dksX7_readsStop_3 24 rfl rfl
theorem dksX7_readsStop_5 : cX7_readsStop.data.toList.drop 116 = dktX7_readsStop_5 := dk_seg dksX7_readsStop_4 24 rfl rfl
theorem dX7_readsStop_0 : decode cX7_readsStop 0 = .ok (.aload_n 0, 1) := dk_42 (dk_at dksX7_readsStop_0 0 rfl rfl)
theorem dX7_readsStop_1 : decode cX7_readsStop 1 = .ok (.invokevirtual 289, 3) := dk_182 1 33 (dk_at dksX7_readsStop_0 1 rfl rfl)
theorem dX7_readsStop_4 : decode cX7_readsStop 4 = .ok (.ifCond .ne 13, 3) := dk_154 0 13 (dk_at dksX7_readsStop_0 4 rfl rfl)
theorem dX7_readsStop_7 : decode cX7_readsStop 7 = .ok (.aload_n 0, 1) := dk_42 (dk_at dksX7_readsStop_0 7 rfl rfl)
theorem dX7_readsStop_8 : decode cX7_readsStop 8 = .ok (.iconst 1, 1) := dk_4 (dk_at dksX7_readsStop_0 8 rfl rfl)
theorem dX7_readsStop_9 : decode cX7_readsStop 9 = .ok (.aload_n 0, 1) := dk_42 (dk_at dksX7_readsStop_0 9 rfl rfl)
theorem dX7_readsStop_10 : decode cX7_readsStop 10 = .ok (.getfield 186, 3) := dk_180 0 186 (dk_at dksX7_readsStop_0 10 rfl rfl)
theorem dX7_readsStop_13 : decode cX7_readsStop 13 = .ok (.invokevirtual 199, 3) := dk_182 0 199 (dk_at dksX7_readsStop_0 13 rfl rfl)
theorem dX7_readsStop_16 : decode cX7_readsStop 16 = .ok (.ireturn, 1) := dk_172 (dk_at dksX7_readsStop_0 16 rfl rfl)
theorem dX7_readsStop_17 : decode cX7_readsStop 17 = .ok (.aload_n 0, 1) := dk_42 (dk_at dksX7_readsStop_0 17 rfl rfl)
theorem dX7_readsStop_18 : decode cX7_readsStop 18 = .ok (.invokevirtual 192, 3) := dk_182 0 192 (dk_at dksX7_readsStop_0 18 rfl rfl)
theorem dX7_readsStop_21 : decode cX7_readsStop 21 = .ok (.bipush 97, 2) := dk_16 97 (dk_at dksX7_readsStop_0 21 rfl rfl)
theorem dX7_readsStop_23 : decode cX7_readsStop 23 = .ok (.isub, 1) := dk_100 (dk_at dksX7_readsStop_0 23 rfl rfl)
theorem dX7_readsStop_24 : decode cX7_readsStop 24 = .ok (.istore_n 2, 1) := dk_61 (dk_at dksX7_readsStop_1 0 rfl rfl)
theorem dX7_readsStop_25 : decode cX7_readsStop 25 = .ok (.iconst 0, 1) := dk_3 (dk_at dksX7_readsStop_1 1 rfl rfl)
theorem dX7_readsStop_26 : decode cX7_readsStop 26 = .ok (.istore_n 3, 1) := dk_62 (dk_at dksX7_readsStop_1 2 rfl rfl)
theorem dX7_readsStop_27 : decode cX7_readsStop 27 = .ok (.iload_n 3, 1) := dk_29 (dk_at dksX7_readsStop_1 3 rfl rfl)
theorem dX7_readsStop_28 : decode cX7_readsStop 28 = .ok (.iload_n 1, 1) := dk_27 (dk_at dksX7_readsStop_1 4 rfl rfl)
theorem dX7_readsStop_29 : decode cX7_readsStop 29 = .ok (.if_icmp .ge 30, 3) := dk_162 0 30 (dk_at dksX7_readsStop_1 5 rfl rfl)
theorem dX7_readsStop_32 : decode cX7_readsStop 32 = .ok (.aload_n 0, 1) := dk_42 (dk_at dksX7_readsStop_1 8 rfl rfl)
theorem dX7_readsStop_33 : decode cX7_readsStop 33 = .ok (.getfield 102, 3) := dk_180 0 102 (dk_at dksX7_readsStop_1 9 rfl rfl)
theorem dX7_readsStop_36 : decode cX7_readsStop 36 = .ok (.iload_n 3, 1) := dk_29 (dk_at dksX7_readsStop_1 12 rfl rfl)
theorem dX7_readsStop_37 : decode cX7_readsStop 37 = .ok (.iaload, 1) := dk_46 (dk_at dksX7_readsStop_1 13 rfl rfl)
theorem dX7_readsStop_38 : decode cX7_readsStop 38 = .ok (.iload_n 2, 1) := dk_28 (dk_at dksX7_readsStop_1 14 rfl rfl)
theorem dX7_readsStop_39 : decode cX7_readsStop 39 = .ok (.if_icmp .ne 14, 3) := dk_160 0 14 (dk_at dksX7_readsStop_1 15 rfl rfl)
theorem dX7_readsStop_42 : decode cX7_readsStop 42 = .ok (.aload_n 0, 1) := dk_42 (dk_at dksX7_readsStop_1 18 rfl rfl)
theorem dX7_readsStop_43 : decode cX7_readsStop 43 = .ok (.bipush 6, 2) := dk_16 6 (dk_at dksX7_readsStop_1 19 rfl rfl)
theorem dX7_readsStop_45 : decode cX7_readsStop 45 = .ok (.aload_n 0, 1) := dk_42 (dk_at dksX7_readsStop_1 21 rfl rfl)
theorem dX7_readsStop_46 : decode cX7_readsStop 46 = .ok (.getfield 186, 3) := dk_180 0 186 (dk_at dksX7_readsStop_2 0 rfl rfl)
theorem dX7_readsStop_49 : decode cX7_readsStop 49 = .ok (.invokevirtual 199, 3) := dk_182 0 199 (dk_at dksX7_readsStop_2 3 rfl rfl)
theorem dX7_readsStop_52 : decode cX7_readsStop 52 = .ok (.ireturn, 1) := dk_172 (dk_at dksX7_readsStop_2 6 rfl rfl)
theorem dX7_readsStop_53 : decode cX7_readsStop 53 = .ok (.iinc 3 1, 3) := dk_132 3 1 (dk_at dksX7_readsStop_2 7 rfl rfl)
theorem dX7_readsStop_56 : decode cX7_readsStop 56 = .ok (.goto (-29), 3) := dk_167 255 227 (dk_at dksX7_readsStop_2 10 rfl rfl)
theorem dX7_readsStop_59 : decode cX7_readsStop 59 = .ok (.iload_n 1, 1) := dk_27 (dk_at dksX7_readsStop_2 13 rfl rfl)
theorem dX7_readsStop_60 : decode cX7_readsStop 60 = .ok (.bipush 8, 2) := dk_16 8 (dk_at dksX7_readsStop_2 14 rfl rfl)
theorem dX7_readsStop_62 : decode cX7_readsStop 62 = .ok (.if_icmp .ne 13, 3) := dk_160 0 13 (dk_at dksX7_readsStop_2 16 rfl rfl)
theorem dX7_readsStop_65 : decode cX7_readsStop 65 = .ok (.aload_n 0, 1) := dk_42 (dk_at dksX7_readsStop_2 19 rfl rfl)
theorem dX7_readsStop_66 : decode cX7_readsStop 66 = .ok (.iconst 5, 1) := dk_8 (dk_at dksX7_readsStop_2 20 rfl rfl)
theorem dX7_readsStop_67 : decode cX7_readsStop 67 = .ok (.aload_n 0, 1) := dk_42 (dk_at dksX7_readsStop_2 21 rfl rfl)
theorem dX7_readsStop_68 : decode cX7_readsStop 68 = .ok (.getfield 186, 3) := dk_180 0 186 (dk_at dksX7_readsStop_3 0 rfl rfl)
theorem dX7_readsStop_71 : decode cX7_readsStop 71 = .ok (.invokevirtual 199, 3) := dk_182 0 199 (dk_at dksX7_readsStop_3 3 rfl rfl)
theorem dX7_readsStop_74 : decode cX7_readsStop 74 = .ok (.ireturn, 1) := dk_172 (dk_at dksX7_readsStop_3 6 rfl rfl)
theorem dX7_readsStop_75 : decode cX7_readsStop 75 = .ok (.aload_n 0, 1) := dk_42 (dk_at dksX7_readsStop_3 7 rfl rfl)
theorem dX7_readsStop_76 : decode cX7_readsStop 76 = .ok (.aload_n 0, 1) := dk_42 (dk_at dksX7_readsStop_3 8 rfl rfl)
theorem dX7_readsStop_77 : decode cX7_readsStop 77 = .ok (.getfield 186, 3) := dk_180 0 186 (dk_at dksX7_readsStop_3 9 rfl rfl)
theorem dX7_readsStop_80 : decode cX7_readsStop 80 = .ok (.iconst 1, 1) := dk_4 (dk_at dksX7_readsStop_3 12 rfl rfl)
theorem dX7_readsStop_81 : decode cX7_readsStop 81 = .ok (.iadd, 1) := dk_96 (dk_at dksX7_readsStop_3 13 rfl rfl)
theorem dX7_readsStop_82 : decode cX7_readsStop 82 = .ok (.putfield 186, 3) := dk_181 0 186 (dk_at dksX7_readsStop_3 14 rfl rfl)
theorem dX7_readsStop_85 : decode cX7_readsStop 85 = .ok (.aload_n 0, 1) := dk_42 (dk_at dksX7_readsStop_3 17 rfl rfl)
theorem dX7_readsStop_86 : decode cX7_readsStop 86 = .ok (.iconst 4, 1) := dk_7 (dk_at dksX7_readsStop_3 18 rfl rfl)
theorem dX7_readsStop_87 : decode cX7_readsStop 87 = .ok (.iload_n 1, 1) := dk_27 (dk_at dksX7_readsStop_3 19 rfl rfl)
theorem dX7_readsStop_88 : decode cX7_readsStop 88 = .ok (.ifCond .ne 7, 3) := dk_154 0 7 (dk_at dksX7_readsStop_3 20 rfl rfl)
theorem dX7_readsStop_91 : decode cX7_readsStop 91 = .ok (.iconst 0, 1) := dk_3 (dk_at dksX7_readsStop_3 23 rfl rfl)
theorem dX7_readsStop_92 : decode cX7_readsStop 92 = .ok (.goto 13, 3) := dk_167 0 13 (dk_at dksX7_readsStop_4 0 rfl rfl)
theorem dX7_readsStop_95 : decode cX7_readsStop 95 = .ok (.aload_n 0, 1) := dk_42 (dk_at dksX7_readsStop_4 3 rfl rfl)
theorem dX7_readsStop_96 : decode cX7_readsStop 96 = .ok (.getfield 105, 3) := dk_180 0 105 (dk_at dksX7_readsStop_4 4 rfl rfl)
theorem dX7_readsStop_99 : decode cX7_readsStop 99 = .ok (.iload_n 1, 1) := dk_27 (dk_at dksX7_readsStop_4 7 rfl rfl)
theorem dX7_readsStop_100 : decode cX7_readsStop 100 = .ok (.iconst 1, 1) := dk_4 (dk_at dksX7_readsStop_4 8 rfl rfl)
theorem dX7_readsStop_101 : decode cX7_readsStop 101 = .ok (.isub, 1) := dk_100 (dk_at dksX7_readsStop_4 9 rfl rfl)
theorem dX7_readsStop_102 : decode cX7_readsStop 102 = .ok (.iaload, 1) := dk_46 (dk_at dksX7_readsStop_4 10 rfl rfl)
theorem dX7_readsStop_103 : decode cX7_readsStop 103 = .ok (.iconst 1, 1) := dk_4 (dk_at dksX7_readsStop_4 11 rfl rfl)
theorem dX7_readsStop_104 : decode cX7_readsStop 104 = .ok (.iadd, 1) := dk_96 (dk_at dksX7_readsStop_4 12 rfl rfl)
theorem dX7_readsStop_105 : decode cX7_readsStop 105 = .ok (.sipush 1439, 3) := dk_17 5 159 (dk_at dksX7_readsStop_4 13 rfl rfl)
theorem dX7_readsStop_108 : decode cX7_readsStop 108 = .ok (.invokevirtual 292, 3) := dk_182 1 36 (dk_at dksX7_readsStop_4 16 rfl rfl)
theorem dX7_readsStop_111 : decode cX7_readsStop 111 = .ok (.ifCond .ne 5, 3) := dk_154 0 5 (dk_at dksX7_readsStop_4 19 rfl rfl)
theorem dX7_readsStop_114 : decode cX7_readsStop 114 = .ok (.iconst 0, 1) := dk_3 (dk_at dksX7_readsStop_4 22 rfl rfl)
theorem dX7_readsStop_115 : decode cX7_readsStop 115 = .ok (.ireturn, 1) := dk_172 (dk_at dksX7_readsStop_4 23 rfl rfl)
theorem dX7_readsStop_116 : decode cX7_readsStop 116 = .ok (.aload_n 0, 1) := dk_42 (dk_at dksX7_readsStop_5 0 rfl rfl)
theorem dX7_readsStop_117 : decode cX7_readsStop 117 = .ok (.getfield 102, 3) := dk_180 0 102 (dk_at dksX7_readsStop_5 1 rfl rfl)
theorem dX7_readsStop_120 : decode cX7_readsStop 120 = .ok (.iload_n 1, 1) := dk_27 (dk_at dksX7_readsStop_5 4 rfl rfl)
theorem dX7_readsStop_121 : decode cX7_readsStop 121 = .ok (.iload_n 2, 1) := dk_28 (dk_at dksX7_readsStop_5 5 rfl rfl)
theorem dX7_readsStop_122 : decode cX7_readsStop 122 = .ok (.iastore, 1) := dk_79 (dk_at dksX7_readsStop_5 6 rfl rfl)
theorem dX7_readsStop_123 : decode cX7_readsStop 123 = .ok (.aload_n 0, 1) := dk_42 (dk_at dksX7_readsStop_5 7 rfl rfl)
theorem dX7_readsStop_124 : decode cX7_readsStop 124 = .ok (.getfield 105, 3) := dk_180 0 105 (dk_at dksX7_readsStop_5 8 rfl rfl)
theorem dX7_readsStop_127 : decode cX7_readsStop 127 = .ok (.iload_n 1, 1) := dk_27 (dk_at dksX7_readsStop_5 11 rfl rfl)
theorem dX7_readsStop_128 : decode cX7_readsStop 128 = .ok (.aload_n 0, 1) := dk_42 (dk_at dksX7_readsStop_5 12 rfl rfl)
theorem dX7_readsStop_129 : decode cX7_readsStop 129 = .ok (.getfield 202, 3) := dk_180 0 202 (dk_at dksX7_readsStop_5 13 rfl rfl)
theorem dX7_readsStop_132 : decode cX7_readsStop 132 = .ok (.iastore, 1) := dk_79 (dk_at dksX7_readsStop_5 16 rfl rfl)
theorem dX7_readsStop_133 : decode cX7_readsStop 133 = .ok (.iconst 1, 1) := dk_4 (dk_at dksX7_readsStop_5 17 rfl rfl)
theorem dX7_readsStop_134 : decode cX7_readsStop 134 = .ok (.ireturn, 1) := dk_172 (dk_at dksX7_readsStop_5 18 rfl rfl)
abbrev cX7_readsWithin : ByteArray := prog_21_method_48_code
def yX7_readsWithin : MethodName := ⟨RX7, "readsWithin", "(III)Z"⟩
def dkwX7_readsWithin_4 : List UInt8 := [184, 0, 154, 154, 0, 13, 42, 6, 21, 4, 182, 0, 199, 153, 0, 7, 4, 167, 0, 4, 3, 172]
abbrev dktX7_readsWithin_4 : List UInt8 := dkwX7_readsWithin_4 ++ []
def dkwX7_readsWithin_3 : List UInt8 := [181, 0, 202, 42, 42, 180, 0, 186, 4, 96, 181, 0, 186, 167, 255, 199, 42, 180, 0, 202, 28, 29]
abbrev dktX7_readsWithin_3 : List UInt8 := dkwX7_readsWithin_3 ++ dktX7_readsWithin_4
def dkwX7_readsWithin_2 : List UInt8 := [42, 180, 0, 186, 182, 0, 199, 172, 42, 16, 10, 42, 180, 0, 202, 104, 42, 182, 0, 192, 96, 16, 48, 100]
abbrev dktX7_readsWithin_2 : List UInt8 := dkwX7_readsWithin_2 ++ dktX7_readsWithin_3
def dkwX7_readsWithin_1 : List UInt8 := [3, 181, 0, 202, 42, 182, 0, 205, 153, 0, 56, 42, 180, 0, 186, 21, 4, 27, 96, 160, 0, 13, 42, 5]
abbrev dktX7_readsWithin_1 : List UInt8 := dkwX7_readsWithin_1 ++ dktX7_readsWithin_2
def dkwX7_readsWithin_0 : List UInt8 := [42, 180, 0, 186, 54, 4, 42, 182, 0, 205, 154, 0, 13, 42, 4, 42, 180, 0, 186, 182, 0, 199, 172, 42]
abbrev dktX7_readsWithin_0 : List UInt8 := dkwX7_readsWithin_0 ++ dktX7_readsWithin_1
theorem dksX7_readsWithin_0 : cX7_readsWithin.data.toList.drop 0 = dktX7_readsWithin_0 := by decide +kernel
theorem dksX7_readsWithin_1 : cX7_readsWithin.data.toList.drop 24 = dktX7_readsWithin_1 := dk_seg dksX7_readsWithin_0 24 rfl rfl
theorem dksX7_readsWithin_2 : cX7_readsWithin.data.toList.drop 48 = dktX7_readsWithin_2 := dk_seg dksX7_readsWithin_1 24 rfl rfl
theorem dksX7_readsWithin_3 : cX7_readsWithin.data.toList.drop 72 = dktX7_readsWithin_3 := dk_seg dksX7_readsWithin_2 24 rfl rfl
theorem dksX7_readsWithin_4 : cX7_readsWithin.data.toList.drop 94 = dktX7_readsWithin_4 := dk_seg dksX7_readsWithin_3 22 rfl rfl
theorem dX7_readsWithin_0 : decode cX7_readsWithin 0 = .ok (.aload_n 0, 1) := dk_42 (dk_at dksX7_readsWithin_0 0 rfl rfl)
theorem dX7_readsWithin_1 : decode cX7_readsWithin 1 = .ok (.getfield 186, 3) := dk_180 0 186 (dk_at dksX7_readsWithin_0 1 rfl rfl)
theorem dX7_readsWithin_4 : decode cX7_readsWithin 4 = .ok (.istore 4, 2) := dk_54 4 (dk_at dksX7_readsWithin_0 4 rfl rfl)
theorem dX7_readsWithin_6 : decode cX7_readsWithin 6 = .ok (.aload_n 0, 1) := dk_42 (dk_at dksX7_readsWithin_0 6 rfl rfl)
theorem dX7_readsWithin_7 : decode cX7_readsWithin 7 = .ok (.invokevirtual 205, 3) := dk_182 0 205 (dk_at dksX7_readsWithin_0 7 rfl rfl)
theorem dX7_readsWithin_10 : decode cX7_readsWithin 10 = .ok (.ifCond .ne 13, 3) := dk_154 0 13 (dk_at dksX7_readsWithin_0 10 rfl rfl)
theorem dX7_readsWithin_13 : decode cX7_readsWithin 13 = .ok (.aload_n 0, 1) := dk_42 (dk_at dksX7_readsWithin_0 13 rfl rfl)
theorem dX7_readsWithin_14 : decode cX7_readsWithin 14 = .ok (.iconst 1, 1) := dk_4 (dk_at dksX7_readsWithin_0 14 rfl rfl)
theorem dX7_readsWithin_15 : decode cX7_readsWithin 15 = .ok (.aload_n 0, 1) := dk_42 (dk_at dksX7_readsWithin_0 15 rfl rfl)
theorem dX7_readsWithin_16 : decode cX7_readsWithin 16 = .ok (.getfield 186, 3) := dk_180 0 186 (dk_at dksX7_readsWithin_0 16 rfl rfl)
theorem dX7_readsWithin_19 : decode cX7_readsWithin 19 = .ok (.invokevirtual 199, 3) := dk_182 0 199 (dk_at dksX7_readsWithin_0 19 rfl rfl)
theorem dX7_readsWithin_22 : decode cX7_readsWithin 22 = .ok (.ireturn, 1) := dk_172 (dk_at dksX7_readsWithin_0 22 rfl rfl)
theorem dX7_readsWithin_23 : decode cX7_readsWithin 23 = .ok (.aload_n 0, 1) := dk_42 (dk_at dksX7_readsWithin_0 23 rfl rfl)
theorem dX7_readsWithin_24 : decode cX7_readsWithin 24 = .ok (.iconst 0, 1) := dk_3 (dk_at dksX7_readsWithin_1 0 rfl rfl)
theorem dX7_readsWithin_25 : decode cX7_readsWithin 25 = .ok (.putfield 202, 3) := dk_181 0 202 (dk_at dksX7_readsWithin_1 1 rfl rfl)
theorem dX7_readsWithin_28 : decode cX7_readsWithin 28 = .ok (.aload_n 0, 1) := dk_42 (dk_at dksX7_readsWithin_1 4 rfl rfl)
theorem dX7_readsWithin_29 : decode cX7_readsWithin 29 = .ok (.invokevirtual 205, 3) := dk_182 0 205 (dk_at dksX7_readsWithin_1 5 rfl rfl)
theorem dX7_readsWithin_32 : decode cX7_readsWithin 32 = .ok (.ifCond .eq 56, 3) := dk_153 0 56 (dk_at dksX7_readsWithin_1 8 rfl rfl)
theorem dX7_readsWithin_35 : decode cX7_readsWithin 35 = .ok (.aload_n 0, 1) := dk_42 (dk_at dksX7_readsWithin_1 11 rfl rfl)
theorem dX7_readsWithin_36 : decode cX7_readsWithin 36 = .ok (.getfield 186, 3) := dk_180 0 186 (dk_at dksX7_readsWithin_1 12 rfl rfl)
theorem dX7_readsWithin_39 : decode cX7_readsWithin 39 = .ok (.iload 4, 2) := dk_21 4 (dk_at dksX7_readsWithin_1 15 rfl rfl)
theorem dX7_readsWithin_41 : decode cX7_readsWithin 41 = .ok (.iload_n 1, 1) := dk_27 (dk_at dksX7_readsWithin_1 17 rfl rfl)
theorem dX7_readsWithin_42 : decode cX7_readsWithin 42 = .ok (.iadd, 1) := dk_96 (dk_at dksX7_readsWithin_1 18 rfl rfl)
theorem dX7_readsWithin_43 : decode cX7_readsWithin 43 = .ok (.if_icmp .ne 13, 3) := dk_160 0 13 (dk_at dksX7_readsWithin_1 19 rfl rfl)
theorem dX7_readsWithin_46 : decode cX7_readsWithin 46 = .ok (.aload_n 0, 1) := dk_42 (dk_at dksX7_readsWithin_1 22 rfl rfl)
theorem dX7_readsWithin_47 : decode cX7_readsWithin 47 = .ok (.iconst 2, 1) := dk_5 (dk_at dksX7_readsWithin_1 23 rfl rfl)
theorem dX7_readsWithin_48 : decode cX7_readsWithin 48 = .ok (.aload_n 0, 1) := dk_42 (dk_at dksX7_readsWithin_2 0 rfl rfl)
theorem dX7_readsWithin_49 : decode cX7_readsWithin 49 = .ok (.getfield 186, 3) := dk_180 0 186 (dk_at dksX7_readsWithin_2 1 rfl rfl)
theorem dX7_readsWithin_52 : decode cX7_readsWithin 52 = .ok (.invokevirtual 199, 3) := dk_182 0 199 (dk_at dksX7_readsWithin_2 4 rfl rfl)
theorem dX7_readsWithin_55 : decode cX7_readsWithin 55 = .ok (.ireturn, 1) := dk_172 (dk_at dksX7_readsWithin_2 7 rfl rfl)
theorem dX7_readsWithin_56 : decode cX7_readsWithin 56 = .ok (.aload_n 0, 1) := dk_42 (dk_at dksX7_readsWithin_2 8 rfl rfl)
theorem dX7_readsWithin_57 : decode cX7_readsWithin 57 = .ok (.bipush 10, 2) := dk_16 10 (dk_at dksX7_readsWithin_2 9 rfl rfl)
theorem dX7_readsWithin_59 : decode cX7_readsWithin 59 = .ok (.aload_n 0, 1) := dk_42 (dk_at dksX7_readsWithin_2 11 rfl rfl)
theorem dX7_readsWithin_60 : decode cX7_readsWithin 60 = .ok (.getfield 202, 3) := dk_180 0 202 (dk_at dksX7_readsWithin_2 12 rfl rfl)
theorem dX7_readsWithin_63 : decode cX7_readsWithin 63 = .ok (.imul, 1) := dk_104 (dk_at dksX7_readsWithin_2 15 rfl rfl)
theorem dX7_readsWithin_64 : decode cX7_readsWithin 64 = .ok (.aload_n 0, 1) := dk_42 (dk_at dksX7_readsWithin_2 16 rfl rfl)
theorem dX7_readsWithin_65 : decode cX7_readsWithin 65 = .ok (.invokevirtual 192, 3) := dk_182 0 192 (dk_at dksX7_readsWithin_2 17 rfl rfl)
theorem dX7_readsWithin_68 : decode cX7_readsWithin 68 = .ok (.iadd, 1) := dk_96 (dk_at dksX7_readsWithin_2 20 rfl rfl)
theorem dX7_readsWithin_69 : decode cX7_readsWithin 69 = .ok (.bipush 48, 2) := dk_16 48 (dk_at dksX7_readsWithin_2 21 rfl rfl)
theorem dX7_readsWithin_71 : decode cX7_readsWithin 71 = .ok (.isub, 1) := dk_100 (dk_at dksX7_readsWithin_2 23 rfl rfl)
theorem dX7_readsWithin_72 : decode cX7_readsWithin 72 = .ok (.putfield 202, 3) := dk_181 0 202 (dk_at dksX7_readsWithin_3 0 rfl rfl)
theorem dX7_readsWithin_75 : decode cX7_readsWithin 75 = .ok (.aload_n 0, 1) := dk_42 (dk_at dksX7_readsWithin_3 3 rfl rfl)
theorem dX7_readsWithin_76 : decode cX7_readsWithin 76 = .ok (.aload_n 0, 1) := dk_42 (dk_at dksX7_readsWithin_3 4 rfl rfl)
theorem dX7_readsWithin_77 : decode cX7_readsWithin 77 = .ok (.getfield 186, 3) := dk_180 0 186 (dk_at dksX7_readsWithin_3 5 rfl rfl)
theorem dX7_readsWithin_80 : decode cX7_readsWithin 80 = .ok (.iconst 1, 1) := dk_4 (dk_at dksX7_readsWithin_3 8 rfl rfl)
theorem dX7_readsWithin_81 : decode cX7_readsWithin 81 = .ok (.iadd, 1) := dk_96 (dk_at dksX7_readsWithin_3 9 rfl rfl)
theorem dX7_readsWithin_82 : decode cX7_readsWithin 82 = .ok (.putfield 186, 3) := dk_181 0 186 (dk_at dksX7_readsWithin_3 10 rfl rfl)
theorem dX7_readsWithin_85 : decode cX7_readsWithin 85 = .ok (.goto (-57), 3) := dk_167 255 199 (dk_at dksX7_readsWithin_3 13 rfl rfl)
theorem dX7_readsWithin_88 : decode cX7_readsWithin 88 = .ok (.aload_n 0, 1) := dk_42 (dk_at dksX7_readsWithin_3 16 rfl rfl)
theorem dX7_readsWithin_89 : decode cX7_readsWithin 89 = .ok (.getfield 202, 3) := dk_180 0 202 (dk_at dksX7_readsWithin_3 17 rfl rfl)
theorem dX7_readsWithin_92 : decode cX7_readsWithin 92 = .ok (.iload_n 2, 1) := dk_28 (dk_at dksX7_readsWithin_3 20 rfl rfl)
theorem dX7_readsWithin_93 : decode cX7_readsWithin 93 = .ok (.iload_n 3, 1) := dk_29 (dk_at dksX7_readsWithin_3 21 rfl rfl)
theorem dX7_readsWithin_94 : decode cX7_readsWithin 94 = .ok (.invokestatic 154, 3) := dk_184 0 154 (dk_at dksX7_readsWithin_4 0 rfl rfl)
theorem dX7_readsWithin_97 : decode cX7_readsWithin 97 = .ok (.ifCond .ne 13, 3) := dk_154 0 13 (dk_at dksX7_readsWithin_4 3 rfl rfl)
theorem dX7_readsWithin_100 : decode cX7_readsWithin 100 = .ok (.aload_n 0, 1) := dk_42 (dk_at dksX7_readsWithin_4 6 rfl rfl)
theorem dX7_readsWithin_101 : decode cX7_readsWithin 101 = .ok (.iconst 3, 1) := dk_6 (dk_at dksX7_readsWithin_4 7 rfl rfl)
theorem dX7_readsWithin_102 : decode cX7_readsWithin 102 = .ok (.iload 4, 2) := dk_21 4 (dk_at dksX7_readsWithin_4 8 rfl rfl)
theorem dX7_readsWithin_104 : decode cX7_readsWithin 104 = .ok (.invokevirtual 199, 3) := dk_182 0 199 (dk_at dksX7_readsWithin_4 10 rfl rfl)
theorem dX7_readsWithin_107 : decode cX7_readsWithin 107 = .ok (.ifCond .eq 7, 3) := dk_153 0 7 (dk_at dksX7_readsWithin_4 13 rfl rfl)
theorem dX7_readsWithin_110 : decode cX7_readsWithin 110 = .ok (.iconst 1, 1) := dk_4 (dk_at dksX7_readsWithin_4 16 rfl rfl)
theorem dX7_readsWithin_111 : decode cX7_readsWithin 111 = .ok (.goto 4, 3) := dk_167 0 4 (dk_at dksX7_readsWithin_4 17 rfl rfl)
theorem dX7_readsWithin_114 : decode cX7_readsWithin 114 = .ok (.iconst 0, 1) := dk_3 (dk_at dksX7_readsWithin_4 20 rfl rfl)
theorem dX7_readsWithin_115 : decode cX7_readsWithin 115 = .ok (.ireturn, 1) := dk_172 (dk_at dksX7_readsWithin_4 21 rfl rfl)
abbrev cX7_at : ByteArray := prog_21_method_11_code
def yX7_at : MethodName := ⟨RX7, "at", "(II)I"⟩
def dkwX7_at_0 : List UInt8 := [16, 8, 26, 104, 27, 96, 172]
abbrev dktX7_at_0 : List UInt8 := dkwX7_at_0 ++ []
theorem dksX7_at_0 : cX7_at.data.toList.drop 0 = dktX7_at_0 := by decide +kernel
theorem dX7_at_0 : decode cX7_at 0 = .ok (.bipush 8, 2) := dk_16 8 (dk_at dksX7_at_0 0 rfl rfl)
theorem dX7_at_2 : decode cX7_at 2 = .ok (.iload_n 0, 1) := dk_26 (dk_at dksX7_at_0 2 rfl rfl)
theorem dX7_at_3 : decode cX7_at 3 = .ok (.imul, 1) := dk_104 (dk_at dksX7_at_0 3 rfl rfl)
theorem dX7_at_4 : decode cX7_at 4 = .ok (.iload_n 1, 1) := dk_27 (dk_at dksX7_at_0 4 rfl rfl)
theorem dX7_at_5 : decode cX7_at 5 = .ok (.iadd, 1) := dk_96 (dk_at dksX7_at_0 5 rfl rfl)
theorem dX7_at_6 : decode cX7_at 6 = .ok (.ireturn, 1) := dk_172 (dk_at dksX7_at_0 6 rfl rfl)
abbrev cX7_sortsEvents : ByteArray := prog_21_method_51_code
def yX7_sortsEvents : MethodName := ⟨RX7, "sortsEvents", "()V"⟩
def dkwX7_sortsEvents_4 : List UInt8 := [180, 1, 48, 4, 96, 181, 1, 48, 132, 2, 1, 167, 255, 166, 132, 1, 1, 167, 255, 150, 177]
abbrev dktX7_sortsEvents_4 : List UInt8 := dkwX7_sortsEvents_4 ++ []
def dkwX7_sortsEvents_3 : List UInt8 := [4, 100, 46, 79, 29, 4, 100, 62, 167, 255, 208, 42, 180, 0, 40, 29, 27, 28, 184, 0, 165, 79, 42, 42]
abbrev dktX7_sortsEvents_3 : List UInt8 := dkwX7_sortsEvents_3 ++ dktX7_sortsEvents_4
def dkwX7_sortsEvents_2 : List UInt8 := [46, 42, 180, 0, 34, 27, 28, 184, 0, 165, 46, 164, 0, 24, 42, 180, 0, 40, 29, 42, 180, 0, 40, 29]
abbrev dktX7_sortsEvents_2 : List UInt8 := dkwX7_sortsEvents_2 ++ dktX7_sortsEvents_3
def dkwX7_sortsEvents_1 : List UInt8 := [162, 0, 86, 42, 180, 1, 48, 62, 29, 158, 0, 50, 42, 180, 0, 34, 42, 180, 0, 40, 29, 4, 100, 46]
abbrev dktX7_sortsEvents_1 : List UInt8 := dkwX7_sortsEvents_1 ++ dktX7_sortsEvents_2
def dkwX7_sortsEvents_0 : List UInt8 := [42, 3, 181, 1, 48, 3, 60, 27, 42, 180, 0, 162, 162, 0, 104, 3, 61, 28, 42, 180, 0, 28, 27, 46]
abbrev dktX7_sortsEvents_0 : List UInt8 := dkwX7_sortsEvents_0 ++ dktX7_sortsEvents_1
theorem dksX7_sortsEvents_0 : cX7_sortsEvents.data.toList.drop 0 = dktX7_sortsEvents_0 := by decide +kernel
theorem dksX7_sortsEvents_1 : cX7_sortsEvents.data.toList.drop 24 = dktX7_sortsEvents_1 := dk_seg dksX7_sortsEvents_0 24 rfl rfl
theorem dksX7_sortsEvents_2 : cX7_sortsEvents.data.toList.drop 48 = dktX7_sortsEvents_2 := dk_seg dksX7_sortsEvents_1 24 rfl rfl
theorem dksX7_sortsEvents_3 : cX7_sortsEvents.data.toList.drop 72 = dktX7_sortsEvents_3 := dk_seg dksX7_sortsEvents_2 24 rfl rfl
theorem dksX7_sortsEvents_4 : cX7_sortsEvents.data.toList.drop 96 = dktX7_sortsEvents_4 := dk_seg dksX7_sortsEvents_3 24 rfl rfl
theorem dX7_sortsEvents_0 : decode cX7_sortsEvents 0 = .ok (.aload_n 0, 1) := dk_42 (dk_at dksX7_sortsEvents_0 0 rfl rfl)
theorem dX7_sortsEvents_1 : decode cX7_sortsEvents 1 = .ok (.iconst 0, 1) := dk_3 (dk_at dksX7_sortsEvents_0 1 rfl rfl)
theorem dX7_sortsEvents_2 : decode cX7_sortsEvents 2 = .ok (.putfield 304, 3) := dk_181 1 48 (dk_at dksX7_sortsEvents_0 2 rfl rfl)
theorem dX7_sortsEvents_5 : decode cX7_sortsEvents 5 = .ok (.iconst 0, 1) := dk_3 (dk_at dksX7_sortsEvents_0 5 rfl rfl)
theorem dX7_sortsEvents_6 : decode cX7_sortsEvents 6 = .ok (.istore_n 1, 1) := dk_60 (dk_at dksX7_sortsEvents_0 6 rfl rfl)
theorem dX7_sortsEvents_7 : decode cX7_sortsEvents 7 = .ok (.iload_n 1, 1) := dk_27 (dk_at dksX7_sortsEvents_0 7 rfl rfl)
theorem dX7_sortsEvents_8 : decode cX7_sortsEvents 8 = .ok (.aload_n 0, 1) := dk_42 (dk_at dksX7_sortsEvents_0 8 rfl rfl)
theorem dX7_sortsEvents_9 : decode cX7_sortsEvents 9 = .ok (.getfield 162, 3) := dk_180 0 162 (dk_at dksX7_sortsEvents_0 9 rfl rfl)
theorem dX7_sortsEvents_12 : decode cX7_sortsEvents 12 = .ok (.if_icmp .ge 104, 3) := dk_162 0 104 (dk_at dksX7_sortsEvents_0 12 rfl rfl)
theorem dX7_sortsEvents_15 : decode cX7_sortsEvents 15 = .ok (.iconst 0, 1) := dk_3 (dk_at dksX7_sortsEvents_0 15 rfl rfl)
theorem dX7_sortsEvents_16 : decode cX7_sortsEvents 16 = .ok (.istore_n 2, 1) := dk_61 (dk_at dksX7_sortsEvents_0 16 rfl rfl)
theorem dX7_sortsEvents_17 : decode cX7_sortsEvents 17 = .ok (.iload_n 2, 1) := dk_28 (dk_at dksX7_sortsEvents_0 17 rfl rfl)
theorem dX7_sortsEvents_18 : decode cX7_sortsEvents 18 = .ok (.aload_n 0, 1) := dk_42 (dk_at dksX7_sortsEvents_0 18 rfl rfl)
theorem dX7_sortsEvents_19 : decode cX7_sortsEvents 19 = .ok (.getfield 28, 3) := dk_180 0 28 (dk_at dksX7_sortsEvents_0 19 rfl rfl)
theorem dX7_sortsEvents_22 : decode cX7_sortsEvents 22 = .ok (.iload_n 1, 1) := dk_27 (dk_at dksX7_sortsEvents_0 22 rfl rfl)
theorem dX7_sortsEvents_23 : decode cX7_sortsEvents 23 = .ok (.iaload, 1) := dk_46 (dk_at dksX7_sortsEvents_0 23 rfl rfl)
theorem dX7_sortsEvents_24 : decode cX7_sortsEvents 24 = .ok (.if_icmp .ge 86, 3) := dk_162 0 86 (dk_at dksX7_sortsEvents_1 0 rfl rfl)
theorem dX7_sortsEvents_27 : decode cX7_sortsEvents 27 = .ok (.aload_n 0, 1) := dk_42 (dk_at dksX7_sortsEvents_1 3 rfl rfl)
theorem dX7_sortsEvents_28 : decode cX7_sortsEvents 28 = .ok (.getfield 304, 3) := dk_180 1 48 (dk_at dksX7_sortsEvents_1 4 rfl rfl)
theorem dX7_sortsEvents_31 : decode cX7_sortsEvents 31 = .ok (.istore_n 3, 1) := dk_62 (dk_at dksX7_sortsEvents_1 7 rfl rfl)
theorem dX7_sortsEvents_32 : decode cX7_sortsEvents 32 = .ok (.iload_n 3, 1) := dk_29 (dk_at dksX7_sortsEvents_1 8 rfl rfl)
theorem dX7_sortsEvents_33 : decode cX7_sortsEvents 33 = .ok (.ifCond .le 50, 3) := dk_158 0 50 (dk_at dksX7_sortsEvents_1 9 rfl rfl)
theorem dX7_sortsEvents_36 : decode cX7_sortsEvents 36 = .ok (.aload_n 0, 1) := dk_42 (dk_at dksX7_sortsEvents_1 12 rfl rfl)
theorem dX7_sortsEvents_37 : decode cX7_sortsEvents 37 = .ok (.getfield 34, 3) := dk_180 0 34 (dk_at dksX7_sortsEvents_1 13 rfl rfl)
theorem dX7_sortsEvents_40 : decode cX7_sortsEvents 40 = .ok (.aload_n 0, 1) := dk_42 (dk_at dksX7_sortsEvents_1 16 rfl rfl)
theorem dX7_sortsEvents_41 : decode cX7_sortsEvents 41 = .ok (.getfield 40, 3) := dk_180 0 40 (dk_at dksX7_sortsEvents_1 17 rfl rfl)
theorem dX7_sortsEvents_44 : decode cX7_sortsEvents 44 = .ok (.iload_n 3, 1) := dk_29 (dk_at dksX7_sortsEvents_1 20 rfl rfl)
theorem dX7_sortsEvents_45 : decode cX7_sortsEvents 45 = .ok (.iconst 1, 1) := dk_4 (dk_at dksX7_sortsEvents_1 21 rfl rfl)
theorem dX7_sortsEvents_46 : decode cX7_sortsEvents 46 = .ok (.isub, 1) := dk_100 (dk_at dksX7_sortsEvents_1 22 rfl rfl)
theorem dX7_sortsEvents_47 : decode cX7_sortsEvents 47 = .ok (.iaload, 1) := dk_46 (dk_at dksX7_sortsEvents_1 23 rfl rfl)
theorem dX7_sortsEvents_48 : decode cX7_sortsEvents 48 = .ok (.iaload, 1) := dk_46 (dk_at dksX7_sortsEvents_2 0 rfl rfl)
theorem dX7_sortsEvents_49 : decode cX7_sortsEvents 49 = .ok (.aload_n 0, 1) := dk_42 (dk_at dksX7_sortsEvents_2 1 rfl rfl)
theorem dX7_sortsEvents_50 : decode cX7_sortsEvents 50 = .ok (.getfield 34, 3) := dk_180 0 34 (dk_at dksX7_sortsEvents_2 2 rfl rfl)
theorem dX7_sortsEvents_53 : decode cX7_sortsEvents 53 = .ok (.iload_n 1, 1) := dk_27 (dk_at dksX7_sortsEvents_2 5 rfl rfl)
theorem dX7_sortsEvents_54 : decode cX7_sortsEvents 54 = .ok (.iload_n 2, 1) := dk_28 (dk_at dksX7_sortsEvents_2 6 rfl rfl)
theorem dX7_sortsEvents_55 : decode cX7_sortsEvents 55 = .ok (.invokestatic 165, 3) := dk_184 0 165 (dk_at dksX7_sortsEvents_2 7 rfl rfl)
theorem dX7_sortsEvents_58 : decode cX7_sortsEvents 58 = .ok (.iaload, 1) := dk_46 (dk_at dksX7_sortsEvents_2 10 rfl rfl)
theorem dX7_sortsEvents_59 : decode cX7_sortsEvents 59 = .ok (.if_icmp .le 24, 3) := dk_164 0 24 (dk_at dksX7_sortsEvents_2 11 rfl rfl)
theorem dX7_sortsEvents_62 : decode cX7_sortsEvents 62 = .ok (.aload_n 0, 1) := dk_42 (dk_at dksX7_sortsEvents_2 14 rfl rfl)
theorem dX7_sortsEvents_63 : decode cX7_sortsEvents 63 = .ok (.getfield 40, 3) := dk_180 0 40 (dk_at dksX7_sortsEvents_2 15 rfl rfl)
theorem dX7_sortsEvents_66 : decode cX7_sortsEvents 66 = .ok (.iload_n 3, 1) := dk_29 (dk_at dksX7_sortsEvents_2 18 rfl rfl)
theorem dX7_sortsEvents_67 : decode cX7_sortsEvents 67 = .ok (.aload_n 0, 1) := dk_42 (dk_at dksX7_sortsEvents_2 19 rfl rfl)
theorem dX7_sortsEvents_68 : decode cX7_sortsEvents 68 = .ok (.getfield 40, 3) := dk_180 0 40 (dk_at dksX7_sortsEvents_2 20 rfl rfl)
theorem dX7_sortsEvents_71 : decode cX7_sortsEvents 71 = .ok (.iload_n 3, 1) := dk_29 (dk_at dksX7_sortsEvents_2 23 rfl rfl)
theorem dX7_sortsEvents_72 : decode cX7_sortsEvents 72 = .ok (.iconst 1, 1) := dk_4 (dk_at dksX7_sortsEvents_3 0 rfl rfl)
theorem dX7_sortsEvents_73 : decode cX7_sortsEvents 73 = .ok (.isub, 1) := dk_100 (dk_at dksX7_sortsEvents_3 1 rfl rfl)
theorem dX7_sortsEvents_74 : decode cX7_sortsEvents 74 = .ok (.iaload, 1) := dk_46 (dk_at dksX7_sortsEvents_3 2 rfl rfl)
theorem dX7_sortsEvents_75 : decode cX7_sortsEvents 75 = .ok (.iastore, 1) := dk_79 (dk_at dksX7_sortsEvents_3 3 rfl rfl)
theorem dX7_sortsEvents_76 : decode cX7_sortsEvents 76 = .ok (.iload_n 3, 1) := dk_29 (dk_at dksX7_sortsEvents_3 4 rfl rfl)
theorem dX7_sortsEvents_77 : decode cX7_sortsEvents 77 = .ok (.iconst 1, 1) := dk_4 (dk_at dksX7_sortsEvents_3 5 rfl rfl)
theorem dX7_sortsEvents_78 : decode cX7_sortsEvents 78 = .ok (.isub, 1) := dk_100 (dk_at dksX7_sortsEvents_3 6 rfl rfl)
theorem dX7_sortsEvents_79 : decode cX7_sortsEvents 79 = .ok (.istore_n 3, 1) := dk_62 (dk_at dksX7_sortsEvents_3 7 rfl rfl)
theorem dX7_sortsEvents_80 : decode cX7_sortsEvents 80 = .ok (.goto (-48), 3) := dk_167 255 208 (dk_at dksX7_sortsEvents_3 8 rfl rfl)
theorem dX7_sortsEvents_83 : decode cX7_sortsEvents 83 = .ok (.aload_n 0, 1) := dk_42 (dk_at dksX7_sortsEvents_3 11 rfl rfl)
theorem dX7_sortsEvents_84 : decode cX7_sortsEvents 84 = .ok (.getfield 40, 3) := dk_180 0 40 (dk_at dksX7_sortsEvents_3 12 rfl rfl)
theorem dX7_sortsEvents_87 : decode cX7_sortsEvents 87 = .ok (.iload_n 3, 1) := dk_29 (dk_at dksX7_sortsEvents_3 15 rfl rfl)
theorem dX7_sortsEvents_88 : decode cX7_sortsEvents 88 = .ok (.iload_n 1, 1) := dk_27 (dk_at dksX7_sortsEvents_3 16 rfl rfl)
theorem dX7_sortsEvents_89 : decode cX7_sortsEvents 89 = .ok (.iload_n 2, 1) := dk_28 (dk_at dksX7_sortsEvents_3 17 rfl rfl)
theorem dX7_sortsEvents_90 : decode cX7_sortsEvents 90 = .ok (.invokestatic 165, 3) := dk_184 0 165 (dk_at dksX7_sortsEvents_3 18 rfl rfl)
theorem dX7_sortsEvents_93 : decode cX7_sortsEvents 93 = .ok (.iastore, 1) := dk_79 (dk_at dksX7_sortsEvents_3 21 rfl rfl)
theorem dX7_sortsEvents_94 : decode cX7_sortsEvents 94 = .ok (.aload_n 0, 1) := dk_42 (dk_at dksX7_sortsEvents_3 22 rfl rfl)
theorem dX7_sortsEvents_95 : decode cX7_sortsEvents 95 = .ok (.aload_n 0, 1) := dk_42 (dk_at dksX7_sortsEvents_3 23 rfl rfl)
theorem dX7_sortsEvents_96 : decode cX7_sortsEvents 96 = .ok (.getfield 304, 3) := dk_180 1 48 (dk_at dksX7_sortsEvents_4 0 rfl rfl)
theorem dX7_sortsEvents_99 : decode cX7_sortsEvents 99 = .ok (.iconst 1, 1) := dk_4 (dk_at dksX7_sortsEvents_4 3 rfl rfl)
theorem dX7_sortsEvents_100 : decode cX7_sortsEvents 100 = .ok (.iadd, 1) := dk_96 (dk_at dksX7_sortsEvents_4 4 rfl rfl)
theorem dX7_sortsEvents_101 : decode cX7_sortsEvents 101 = .ok (.putfield 304, 3) := dk_181 1 48 (dk_at dksX7_sortsEvents_4 5 rfl rfl)
theorem dX7_sortsEvents_104 : decode cX7_sortsEvents 104 = .ok (.iinc 2 1, 3) := dk_132 2 1 (dk_at dksX7_sortsEvents_4 8 rfl rfl)
theorem dX7_sortsEvents_107 : decode cX7_sortsEvents 107 = .ok (.goto (-90), 3) := dk_167 255 166 (dk_at dksX7_sortsEvents_4 11 rfl rfl)
theorem dX7_sortsEvents_110 : decode cX7_sortsEvents 110 = .ok (.iinc 1 1, 3) := dk_132 1 1 (dk_at dksX7_sortsEvents_4 14 rfl rfl)
theorem dX7_sortsEvents_113 : decode cX7_sortsEvents 113 = .ok (.goto (-106), 3) := dk_167 255 150 (dk_at dksX7_sortsEvents_4 17 rfl rfl)
theorem dX7_sortsEvents_116 : decode cX7_sortsEvents 116 = .ok (.return_, 1) := dk_177 (dk_at dksX7_sortsEvents_4 20 rfl rfl)
abbrev cX7_orders : ByteArray := prog_21_method_54_code
def yX7_orders : MethodName := ⟨RX7, "orders", "(I)I"⟩
def dkwX7_orders_7 : List UInt8 := [167, 255, 223, 42, 180, 0, 196, 172]
abbrev dktX7_orders_7 : List UInt8 := dkwX7_orders_7 ++ []
def dkwX7_orders_6 : List UInt8 := [29, 42, 180, 0, 108, 29, 46, 79, 42, 180, 0, 47, 29, 42, 180, 0, 111, 29, 51, 84, 132, 3, 1]
abbrev dktX7_orders_6 : List UInt8 := dkwX7_orders_6 ++ dktX7_orders_7
def dkwX7_orders_5 : List UInt8 := [181, 0, 179, 28, 153, 0, 8, 42, 180, 1, 57, 172, 3, 62, 29, 16, 48, 162, 0, 33, 42, 180, 0, 37]
abbrev dktX7_orders_5 : List UInt8 := dkwX7_orders_5 ++ dktX7_orders_6
def dkwX7_orders_4 : List UInt8 := [182, 1, 20, 153, 0, 14, 42, 182, 1, 60, 153, 0, 7, 4, 167, 0, 4, 3, 61, 167, 255, 219, 42, 3]
abbrev dktX7_orders_4 : List UInt8 := dkwX7_orders_4 ++ dktX7_orders_5
def dkwX7_orders_3 : List UInt8 := [42, 182, 1, 60, 61, 28, 153, 0, 39, 42, 180, 0, 186, 42, 180, 0, 189, 162, 0, 28, 42, 16, 59]
abbrev dktX7_orders_3 : List UInt8 := dkwX7_orders_3 ++ dktX7_orders_4
def dkwX7_orders_2 : List UInt8 := [180, 0, 37, 28, 46, 79, 42, 180, 0, 111, 28, 42, 180, 0, 47, 28, 51, 84, 132, 2, 1, 167, 255, 223]
abbrev dktX7_orders_2 : List UInt8 := dkwX7_orders_2 ++ dktX7_orders_3
def dkwX7_orders_1 : List UInt8 := [182, 1, 14, 42, 3, 181, 1, 57, 3, 61, 28, 16, 48, 162, 0, 33, 42, 180, 0, 108, 28, 42]
abbrev dktX7_orders_1 : List UInt8 := dkwX7_orders_1 ++ dktX7_orders_2
def dkwX7_orders_0 : List UInt8 := [27, 4, 16, 120, 184, 0, 154, 153, 0, 11, 27, 42, 180, 0, 179, 164, 0, 5, 2, 172, 42, 27]
abbrev dktX7_orders_0 : List UInt8 := dkwX7_orders_0 ++ dktX7_orders_1
theorem dksX7_orders_0 : cX7_orders.data.toList.drop 0 = dktX7_orders_0 := by decide +kernel
theorem dksX7_orders_1 : cX7_orders.data.toList.drop 22 = dktX7_orders_1 := dk_seg dksX7_orders_0 22 rfl rfl
theorem dksX7_orders_2 : cX7_orders.data.toList.drop 44 = dktX7_orders_2 := dk_seg dksX7_orders_1 22 rfl rfl
theorem dksX7_orders_3 : cX7_orders.data.toList.drop 68 = dktX7_orders_3 := dk_seg dksX7_orders_2 24 rfl rfl
theorem dksX7_orders_4 : cX7_orders.data.toList.drop 91 = dktX7_orders_4 := dk_seg dksX7_orders_3 23 rfl rfl
theorem dksX7_orders_5 : cX7_orders.data.toList.drop 115 = dktX7_orders_5 := dk_seg dksX7_orders_4 24 rfl rfl
theorem dksX7_orders_6 : cX7_orders.data.toList.drop 139 = dktX7_orders_6 := dk_seg dksX7_orders_5 24 rfl rfl
theorem dksX7_orders_7 : cX7_orders.data.toList.drop 162 = dktX7_orders_7 := dk_seg dksX7_orders_6 23 rfl rfl
theorem dX7_orders_0 : decode cX7_orders 0 = .ok (.iload_n 1, 1) := dk_27 (dk_at dksX7_orders_0 0 rfl rfl)
theorem dX7_orders_1 : decode cX7_orders 1 = .ok (.iconst 1, 1) := dk_4 (dk_at dksX7_orders_0 1 rfl rfl)
theorem dX7_orders_2 : decode cX7_orders 2 = .ok (.bipush 120, 2) := dk_16 120 (dk_at dksX7_orders_0 2 rfl rfl)
theorem dX7_orders_4 : decode cX7_orders 4 = .ok (.invokestatic 154, 3) := dk_184 0 154 (dk_at dksX7_orders_0 4 rfl rfl)
theorem dX7_orders_7 : decode cX7_orders 7 = .ok (.ifCond .eq 11, 3) := dk_153 0 11 (dk_at dksX7_orders_0 7 rfl rfl)
theorem dX7_orders_10 : decode cX7_orders 10 = .ok (.iload_n 1, 1) := dk_27 (dk_at dksX7_orders_0 10 rfl rfl)
theorem dX7_orders_11 : decode cX7_orders 11 = .ok (.aload_n 0, 1) := dk_42 (dk_at dksX7_orders_0 11 rfl rfl)
theorem dX7_orders_12 : decode cX7_orders 12 = .ok (.getfield 179, 3) := dk_180 0 179 (dk_at dksX7_orders_0 12 rfl rfl)
theorem dX7_orders_15 : decode cX7_orders 15 = .ok (.if_icmp .le 5, 3) := dk_164 0 5 (dk_at dksX7_orders_0 15 rfl rfl)
theorem dX7_orders_18 : decode cX7_orders 18 = .ok (.iconst (-1), 1) := dk_2 (dk_at dksX7_orders_0 18 rfl rfl)
theorem dX7_orders_19 : decode cX7_orders 19 = .ok (.ireturn, 1) := dk_172 (dk_at dksX7_orders_0 19 rfl rfl)
theorem dX7_orders_20 : decode cX7_orders 20 = .ok (.aload_n 0, 1) := dk_42 (dk_at dksX7_orders_0 20 rfl rfl)
theorem dX7_orders_21 : decode cX7_orders 21 = .ok (.iload_n 1, 1) := dk_27 (dk_at dksX7_orders_0 21 rfl rfl)
theorem dX7_orders_22 : decode cX7_orders 22 = .ok (.invokevirtual 270, 3) := dk_182 1 14 (dk_at dksX7_orders_1 0 rfl rfl)
theorem dX7_orders_25 : decode cX7_orders 25 = .ok (.aload_n 0, 1) := dk_42 (dk_at dksX7_orders_1 3 rfl rfl)
theorem dX7_orders_26 : decode cX7_orders 26 = .ok (.iconst 0, 1) := dk_3 (dk_at dksX7_orders_1 4 rfl rfl)
theorem dX7_orders_27 : decode cX7_orders 27 = .ok (.putfield 313, 3) := dk_181 1 57 (dk_at dksX7_orders_1 5 rfl rfl)
theorem dX7_orders_30 : decode cX7_orders 30 = .ok (.iconst 0, 1) := dk_3 (dk_at dksX7_orders_1 8 rfl rfl)
theorem dX7_orders_31 : decode cX7_orders 31 = .ok (.istore_n 2, 1) := dk_61 (dk_at dksX7_orders_1 9 rfl rfl)
theorem dX7_orders_32 : decode cX7_orders 32 = .ok (.iload_n 2, 1) := dk_28 (dk_at dksX7_orders_1 10 rfl rfl)
theorem dX7_orders_33 : decode cX7_orders 33 = .ok (.bipush 48, 2) := dk_16 48 (dk_at dksX7_orders_1 11 rfl rfl)
theorem dX7_orders_35 : decode cX7_orders 35 = .ok (.if_icmp .ge 33, 3) := dk_162 0 33 (dk_at dksX7_orders_1 13 rfl rfl)
theorem dX7_orders_38 : decode cX7_orders 38 = .ok (.aload_n 0, 1) := dk_42 (dk_at dksX7_orders_1 16 rfl rfl)
theorem dX7_orders_39 : decode cX7_orders 39 = .ok (.getfield 108, 3) := dk_180 0 108 (dk_at dksX7_orders_1 17 rfl rfl)
theorem dX7_orders_42 : decode cX7_orders 42 = .ok (.iload_n 2, 1) := dk_28 (dk_at dksX7_orders_1 20 rfl rfl)
theorem dX7_orders_43 : decode cX7_orders 43 = .ok (.aload_n 0, 1) := dk_42 (dk_at dksX7_orders_1 21 rfl rfl)
theorem dX7_orders_44 : decode cX7_orders 44 = .ok (.getfield 37, 3) := dk_180 0 37 (dk_at dksX7_orders_2 0 rfl rfl)
theorem dX7_orders_47 : decode cX7_orders 47 = .ok (.iload_n 2, 1) := dk_28 (dk_at dksX7_orders_2 3 rfl rfl)
theorem dX7_orders_48 : decode cX7_orders 48 = .ok (.iaload, 1) := dk_46 (dk_at dksX7_orders_2 4 rfl rfl)
theorem dX7_orders_49 : decode cX7_orders 49 = .ok (.iastore, 1) := dk_79 (dk_at dksX7_orders_2 5 rfl rfl)
theorem dX7_orders_50 : decode cX7_orders 50 = .ok (.aload_n 0, 1) := dk_42 (dk_at dksX7_orders_2 6 rfl rfl)
theorem dX7_orders_51 : decode cX7_orders 51 = .ok (.getfield 111, 3) := dk_180 0 111 (dk_at dksX7_orders_2 7 rfl rfl)
theorem dX7_orders_54 : decode cX7_orders 54 = .ok (.iload_n 2, 1) := dk_28 (dk_at dksX7_orders_2 10 rfl rfl)
theorem dX7_orders_55 : decode cX7_orders 55 = .ok (.aload_n 0, 1) := dk_42 (dk_at dksX7_orders_2 11 rfl rfl)
theorem dX7_orders_56 : decode cX7_orders 56 = .ok (.getfield 47, 3) := dk_180 0 47 (dk_at dksX7_orders_2 12 rfl rfl)
theorem dX7_orders_59 : decode cX7_orders 59 = .ok (.iload_n 2, 1) := dk_28 (dk_at dksX7_orders_2 15 rfl rfl)
theorem dX7_orders_60 : decode cX7_orders 60 = .ok (.baload, 1) := dk_51 (dk_at dksX7_orders_2 16 rfl rfl)
theorem dX7_orders_61 : decode cX7_orders 61 = .ok (.bastore, 1) := dk_84 (dk_at dksX7_orders_2 17 rfl rfl)
theorem dX7_orders_62 : decode cX7_orders 62 = .ok (.iinc 2 1, 3) := dk_132 2 1 (dk_at dksX7_orders_2 18 rfl rfl)
theorem dX7_orders_65 : decode cX7_orders 65 = .ok (.goto (-33), 3) := dk_167 255 223 (dk_at dksX7_orders_2 21 rfl rfl)
theorem dX7_orders_68 : decode cX7_orders 68 = .ok (.aload_n 0, 1) := dk_42 (dk_at dksX7_orders_3 0 rfl rfl)
theorem dX7_orders_69 : decode cX7_orders 69 = .ok (.invokevirtual 316, 3) := dk_182 1 60 (dk_at dksX7_orders_3 1 rfl rfl)
theorem dX7_orders_72 : decode cX7_orders 72 = .ok (.istore_n 2, 1) := dk_61 (dk_at dksX7_orders_3 4 rfl rfl)
theorem dX7_orders_73 : decode cX7_orders 73 = .ok (.iload_n 2, 1) := dk_28 (dk_at dksX7_orders_3 5 rfl rfl)
theorem dX7_orders_74 : decode cX7_orders 74 = .ok (.ifCond .eq 39, 3) := dk_153 0 39 (dk_at dksX7_orders_3 6 rfl rfl)
theorem dX7_orders_77 : decode cX7_orders 77 = .ok (.aload_n 0, 1) := dk_42 (dk_at dksX7_orders_3 9 rfl rfl)
theorem dX7_orders_78 : decode cX7_orders 78 = .ok (.getfield 186, 3) := dk_180 0 186 (dk_at dksX7_orders_3 10 rfl rfl)
theorem dX7_orders_81 : decode cX7_orders 81 = .ok (.aload_n 0, 1) := dk_42 (dk_at dksX7_orders_3 13 rfl rfl)
theorem dX7_orders_82 : decode cX7_orders 82 = .ok (.getfield 189, 3) := dk_180 0 189 (dk_at dksX7_orders_3 14 rfl rfl)
theorem dX7_orders_85 : decode cX7_orders 85 = .ok (.if_icmp .ge 28, 3) := dk_162 0 28 (dk_at dksX7_orders_3 17 rfl rfl)
theorem dX7_orders_88 : decode cX7_orders 88 = .ok (.aload_n 0, 1) := dk_42 (dk_at dksX7_orders_3 20 rfl rfl)
theorem dX7_orders_89 : decode cX7_orders 89 = .ok (.bipush 59, 2) := dk_16 59 (dk_at dksX7_orders_3 21 rfl rfl)
theorem dX7_orders_91 : decode cX7_orders 91 = .ok (.invokevirtual 276, 3) := dk_182 1 20 (dk_at dksX7_orders_4 0 rfl rfl)
theorem dX7_orders_94 : decode cX7_orders 94 = .ok (.ifCond .eq 14, 3) := dk_153 0 14 (dk_at dksX7_orders_4 3 rfl rfl)
theorem dX7_orders_97 : decode cX7_orders 97 = .ok (.aload_n 0, 1) := dk_42 (dk_at dksX7_orders_4 6 rfl rfl)
theorem dX7_orders_98 : decode cX7_orders 98 = .ok (.invokevirtual 316, 3) := dk_182 1 60 (dk_at dksX7_orders_4 7 rfl rfl)
theorem dX7_orders_101 : decode cX7_orders 101 = .ok (.ifCond .eq 7, 3) := dk_153 0 7 (dk_at dksX7_orders_4 10 rfl rfl)
theorem dX7_orders_104 : decode cX7_orders 104 = .ok (.iconst 1, 1) := dk_4 (dk_at dksX7_orders_4 13 rfl rfl)
theorem dX7_orders_105 : decode cX7_orders 105 = .ok (.goto 4, 3) := dk_167 0 4 (dk_at dksX7_orders_4 14 rfl rfl)
theorem dX7_orders_108 : decode cX7_orders 108 = .ok (.iconst 0, 1) := dk_3 (dk_at dksX7_orders_4 17 rfl rfl)
theorem dX7_orders_109 : decode cX7_orders 109 = .ok (.istore_n 2, 1) := dk_61 (dk_at dksX7_orders_4 18 rfl rfl)
theorem dX7_orders_110 : decode cX7_orders 110 = .ok (.goto (-37), 3) := dk_167 255 219 (dk_at dksX7_orders_4 19 rfl rfl)
theorem dX7_orders_113 : decode cX7_orders 113 = .ok (.aload_n 0, 1) := dk_42 (dk_at dksX7_orders_4 22 rfl rfl)
theorem dX7_orders_114 : decode cX7_orders 114 = .ok (.iconst 0, 1) := dk_3 (dk_at dksX7_orders_4 23 rfl rfl)
theorem dX7_orders_115 : decode cX7_orders 115 = .ok (.putfield 179, 3) := dk_181 0 179 (dk_at dksX7_orders_5 0 rfl rfl)
theorem dX7_orders_118 : decode cX7_orders 118 = .ok (.iload_n 2, 1) := dk_28 (dk_at dksX7_orders_5 3 rfl rfl)
theorem dX7_orders_119 : decode cX7_orders 119 = .ok (.ifCond .eq 8, 3) := dk_153 0 8 (dk_at dksX7_orders_5 4 rfl rfl)
theorem dX7_orders_122 : decode cX7_orders 122 = .ok (.aload_n 0, 1) := dk_42 (dk_at dksX7_orders_5 7 rfl rfl)
theorem dX7_orders_123 : decode cX7_orders 123 = .ok (.getfield 313, 3) := dk_180 1 57 (dk_at dksX7_orders_5 8 rfl rfl)
theorem dX7_orders_126 : decode cX7_orders 126 = .ok (.ireturn, 1) := dk_172 (dk_at dksX7_orders_5 11 rfl rfl)
theorem dX7_orders_127 : decode cX7_orders 127 = .ok (.iconst 0, 1) := dk_3 (dk_at dksX7_orders_5 12 rfl rfl)
theorem dX7_orders_128 : decode cX7_orders 128 = .ok (.istore_n 3, 1) := dk_62 (dk_at dksX7_orders_5 13 rfl rfl)
theorem dX7_orders_129 : decode cX7_orders 129 = .ok (.iload_n 3, 1) := dk_29 (dk_at dksX7_orders_5 14 rfl rfl)
theorem dX7_orders_130 : decode cX7_orders 130 = .ok (.bipush 48, 2) := dk_16 48 (dk_at dksX7_orders_5 15 rfl rfl)
theorem dX7_orders_132 : decode cX7_orders 132 = .ok (.if_icmp .ge 33, 3) := dk_162 0 33 (dk_at dksX7_orders_5 17 rfl rfl)
theorem dX7_orders_135 : decode cX7_orders 135 = .ok (.aload_n 0, 1) := dk_42 (dk_at dksX7_orders_5 20 rfl rfl)
theorem dX7_orders_136 : decode cX7_orders 136 = .ok (.getfield 37, 3) := dk_180 0 37 (dk_at dksX7_orders_5 21 rfl rfl)
theorem dX7_orders_139 : decode cX7_orders 139 = .ok (.iload_n 3, 1) := dk_29 (dk_at dksX7_orders_6 0 rfl rfl)
theorem dX7_orders_140 : decode cX7_orders 140 = .ok (.aload_n 0, 1) := dk_42 (dk_at dksX7_orders_6 1 rfl rfl)
theorem dX7_orders_141 : decode cX7_orders 141 = .ok (.getfield 108, 3) := dk_180 0 108 (dk_at dksX7_orders_6 2 rfl rfl)
theorem dX7_orders_144 : decode cX7_orders 144 = .ok (.iload_n 3, 1) := dk_29 (dk_at dksX7_orders_6 5 rfl rfl)
theorem dX7_orders_145 : decode cX7_orders 145 = .ok (.iaload, 1) := dk_46 (dk_at dksX7_orders_6 6 rfl rfl)
theorem dX7_orders_146 : decode cX7_orders 146 = .ok (.iastore, 1) := dk_79 (dk_at dksX7_orders_6 7 rfl rfl)
theorem dX7_orders_147 : decode cX7_orders 147 = .ok (.aload_n 0, 1) := dk_42 (dk_at dksX7_orders_6 8 rfl rfl)
theorem dX7_orders_148 : decode cX7_orders 148 = .ok (.getfield 47, 3) := dk_180 0 47 (dk_at dksX7_orders_6 9 rfl rfl)
theorem dX7_orders_151 : decode cX7_orders 151 = .ok (.iload_n 3, 1) := dk_29 (dk_at dksX7_orders_6 12 rfl rfl)
theorem dX7_orders_152 : decode cX7_orders 152 = .ok (.aload_n 0, 1) := dk_42 (dk_at dksX7_orders_6 13 rfl rfl)
theorem dX7_orders_153 : decode cX7_orders 153 = .ok (.getfield 111, 3) := dk_180 0 111 (dk_at dksX7_orders_6 14 rfl rfl)
theorem dX7_orders_156 : decode cX7_orders 156 = .ok (.iload_n 3, 1) := dk_29 (dk_at dksX7_orders_6 17 rfl rfl)
theorem dX7_orders_157 : decode cX7_orders 157 = .ok (.baload, 1) := dk_51 (dk_at dksX7_orders_6 18 rfl rfl)
theorem dX7_orders_158 : decode cX7_orders 158 = .ok (.bastore, 1) := dk_84 (dk_at dksX7_orders_6 19 rfl rfl)
theorem dX7_orders_159 : decode cX7_orders 159 = .ok (.iinc 3 1, 3) := dk_132 3 1 (dk_at dksX7_orders_6 20 rfl rfl)
theorem dX7_orders_162 : decode cX7_orders 162 = .ok (.goto (-33), 3) := dk_167 255 223 (dk_at dksX7_orders_7 0 rfl rfl)
theorem dX7_orders_165 : decode cX7_orders 165 = .ok (.aload_n 0, 1) := dk_42 (dk_at dksX7_orders_7 3 rfl rfl)
theorem dX7_orders_166 : decode cX7_orders 166 = .ok (.getfield 196, 3) := dk_180 0 196 (dk_at dksX7_orders_7 4 rfl rfl)
theorem dX7_orders_169 : decode cX7_orders 169 = .ok (.ireturn, 1) := dk_172 (dk_at dksX7_orders_7 7 rfl rfl)
abbrev cX7_readsOrder : ByteArray := prog_21_method_53_code
def yX7_readsOrder : MethodName := ⟨RX7, "readsOrder", "()Z"⟩
def dkwX7_readsOrder_7 : List UInt8 := [3, 172, 42, 180, 0, 37, 28, 42, 180, 0, 202, 79, 4, 172]
abbrev dktX7_readsOrder_7 : List UInt8 := dkwX7_readsOrder_7 ++ []
def dkwX7_readsOrder_6 : List UInt8 := [16, 33, 160, 0, 7, 4, 167, 0, 4, 3, 84, 4, 172, 42, 5, 3, 16, 99, 182, 1, 36, 154, 0, 5]
abbrev dktX7_readsOrder_6 : List UInt8 := dkwX7_readsOrder_6 ++ dktX7_readsOrder_7
def dkwX7_readsOrder_5 : List UInt8 := [172, 42, 42, 180, 0, 186, 4, 96, 181, 0, 186, 29, 16, 43, 159, 0, 22, 42, 180, 0, 47, 28, 29]
abbrev dktX7_readsOrder_5 : List UInt8 := dkwX7_readsOrder_5 ++ dktX7_readsOrder_6
def dkwX7_readsOrder_4 : List UInt8 := [159, 0, 25, 29, 16, 63, 159, 0, 19, 29, 16, 43, 159, 0, 13, 42, 4, 42, 180, 0, 186, 182, 0, 199]
abbrev dktX7_readsOrder_4 : List UInt8 := dkwX7_readsOrder_4 ++ dktX7_readsOrder_5
def dkwX7_readsOrder_3 : List UInt8 := [180, 0, 162, 161, 0, 11, 42, 16, 7, 27, 182, 0, 199, 172, 42, 182, 0, 192, 62, 29, 16, 33]
abbrev dktX7_readsOrder_3 : List UInt8 := dkwX7_readsOrder_3 ++ dktX7_readsOrder_4
def dkwX7_readsOrder_2 : List UInt8 := [180, 0, 186, 60, 42, 5, 3, 16, 99, 182, 1, 36, 154, 0, 5, 3, 172, 42, 180, 0, 202, 61, 28, 42]
abbrev dktX7_readsOrder_2 : List UInt8 := dkwX7_readsOrder_2 ++ dktX7_readsOrder_3
def dkwX7_readsOrder_1 : List UInt8 := [160, 0, 13, 42, 7, 42, 180, 0, 186, 182, 0, 199, 172, 42, 42, 180, 1, 57, 4, 96, 181, 1, 57, 42]
abbrev dktX7_readsOrder_1 : List UInt8 := dkwX7_readsOrder_1 ++ dktX7_readsOrder_2
def dkwX7_readsOrder_0 : List UInt8 := [42, 182, 0, 205, 154, 0, 13, 42, 4, 42, 180, 0, 186, 182, 0, 199, 172, 42, 180, 1, 57, 16, 20]
abbrev dktX7_readsOrder_0 : List UInt8 := dkwX7_readsOrder_0 ++ dktX7_readsOrder_1
theorem dksX7_readsOrder_0 : cX7_readsOrder.data.toList.drop 0 = dktX7_readsOrder_0 := by decide +kernel
theorem dksX7_readsOrder_1 : cX7_readsOrder.data.toList.drop 23 = dktX7_readsOrder_1 := dk_seg dksX7_readsOrder_0 23 rfl rfl
theorem dksX7_readsOrder_2 : cX7_readsOrder.data.toList.drop 47 = dktX7_readsOrder_2 := dk_seg dksX7_readsOrder_1 24 rfl rfl
theorem dksX7_readsOrder_3 : cX7_readsOrder.data.toList.drop 71 = dktX7_readsOrder_3 := dk_seg dksX7_readsOrder_2 24 rfl rfl
theorem dksX7_readsOrder_4 : cX7_readsOrder.data.toList.drop 93 = dktX7_readsOrder_4 := dk_seg dksX7_readsOrder_3 22 rfl rfl
theorem dksX7_readsOrder_5 : cX7_readsOrder.data.toList.drop 117 = dktX7_readsOrder_5 := dk_seg dksX7_readsOrder_4 24 rfl rfl
theorem dksX7_readsOrder_6 : cX7_readsOrder.data.toList.drop 140 = dktX7_readsOrder_6 := dk_seg dksX7_readsOrder_5 23 rfl rfl
theorem dksX7_readsOrder_7 : cX7_readsOrder.data.toList.drop 164 = dktX7_readsOrder_7 := dk_seg dksX7_readsOrder_6 24 rfl rfl
theorem dX7_readsOrder_0 : decode cX7_readsOrder 0 = .ok (.aload_n 0, 1) := dk_42 (dk_at dksX7_readsOrder_0 0 rfl rfl)
theorem dX7_readsOrder_1 : decode cX7_readsOrder 1 = .ok (.invokevirtual 205, 3) := dk_182 0 205 (dk_at dksX7_readsOrder_0 1 rfl rfl)
theorem dX7_readsOrder_4 : decode cX7_readsOrder 4 = .ok (.ifCond .ne 13, 3) := dk_154 0 13 (dk_at dksX7_readsOrder_0 4 rfl rfl)
theorem dX7_readsOrder_7 : decode cX7_readsOrder 7 = .ok (.aload_n 0, 1) := dk_42 (dk_at dksX7_readsOrder_0 7 rfl rfl)
theorem dX7_readsOrder_8 : decode cX7_readsOrder 8 = .ok (.iconst 1, 1) := dk_4 (dk_at dksX7_readsOrder_0 8 rfl rfl)
theorem dX7_readsOrder_9 : decode cX7_readsOrder 9 = .ok (.aload_n 0, 1) := dk_42 (dk_at dksX7_readsOrder_0 9 rfl rfl)
theorem dX7_readsOrder_10 : decode cX7_readsOrder 10 = .ok (.getfield 186, 3) := dk_180 0 186 (dk_at dksX7_readsOrder_0 10 rfl rfl)
theorem dX7_readsOrder_13 : decode cX7_readsOrder 13 = .ok (.invokevirtual 199, 3) := dk_182 0 199 (dk_at dksX7_readsOrder_0 13 rfl rfl)
theorem dX7_readsOrder_16 : decode cX7_readsOrder 16 = .ok (.ireturn, 1) := dk_172 (dk_at dksX7_readsOrder_0 16 rfl rfl)
theorem dX7_readsOrder_17 : decode cX7_readsOrder 17 = .ok (.aload_n 0, 1) := dk_42 (dk_at dksX7_readsOrder_0 17 rfl rfl)
theorem dX7_readsOrder_18 : decode cX7_readsOrder 18 = .ok (.getfield 313, 3) := dk_180 1 57 (dk_at dksX7_readsOrder_0 18 rfl rfl)
theorem dX7_readsOrder_21 : decode cX7_readsOrder 21 = .ok (.bipush 20, 2) := dk_16 20 (dk_at dksX7_readsOrder_0 21 rfl rfl)
theorem dX7_readsOrder_23 : decode cX7_readsOrder 23 = .ok (.if_icmp .ne 13, 3) := dk_160 0 13 (dk_at dksX7_readsOrder_1 0 rfl rfl)
theorem dX7_readsOrder_26 : decode cX7_readsOrder 26 = .ok (.aload_n 0, 1) := dk_42 (dk_at dksX7_readsOrder_1 3 rfl rfl)
theorem dX7_readsOrder_27 : decode cX7_readsOrder 27 = .ok (.iconst 4, 1) := dk_7 (dk_at dksX7_readsOrder_1 4 rfl rfl)
theorem dX7_readsOrder_28 : decode cX7_readsOrder 28 = .ok (.aload_n 0, 1) := dk_42 (dk_at dksX7_readsOrder_1 5 rfl rfl)
theorem dX7_readsOrder_29 : decode cX7_readsOrder 29 = .ok (.getfield 186, 3) := dk_180 0 186 (dk_at dksX7_readsOrder_1 6 rfl rfl)
theorem dX7_readsOrder_32 : decode cX7_readsOrder 32 = .ok (.invokevirtual 199, 3) := dk_182 0 199 (dk_at dksX7_readsOrder_1 9 rfl rfl)
theorem dX7_readsOrder_35 : decode cX7_readsOrder 35 = .ok (.ireturn, 1) := dk_172 (dk_at dksX7_readsOrder_1 12 rfl rfl)
theorem dX7_readsOrder_36 : decode cX7_readsOrder 36 = .ok (.aload_n 0, 1) := dk_42 (dk_at dksX7_readsOrder_1 13 rfl rfl)
theorem dX7_readsOrder_37 : decode cX7_readsOrder 37 = .ok (.aload_n 0, 1) := dk_42 (dk_at dksX7_readsOrder_1 14 rfl rfl)
theorem dX7_readsOrder_38 : decode cX7_readsOrder 38 = .ok (.getfield 313, 3) := dk_180 1 57 (dk_at dksX7_readsOrder_1 15 rfl rfl)
theorem dX7_readsOrder_41 : decode cX7_readsOrder 41 = .ok (.iconst 1, 1) := dk_4 (dk_at dksX7_readsOrder_1 18 rfl rfl)
theorem dX7_readsOrder_42 : decode cX7_readsOrder 42 = .ok (.iadd, 1) := dk_96 (dk_at dksX7_readsOrder_1 19 rfl rfl)
theorem dX7_readsOrder_43 : decode cX7_readsOrder 43 = .ok (.putfield 313, 3) := dk_181 1 57 (dk_at dksX7_readsOrder_1 20 rfl rfl)
theorem dX7_readsOrder_46 : decode cX7_readsOrder 46 = .ok (.aload_n 0, 1) := dk_42 (dk_at dksX7_readsOrder_1 23 rfl rfl)
theorem dX7_readsOrder_47 : decode cX7_readsOrder 47 = .ok (.getfield 186, 3) := dk_180 0 186 (dk_at dksX7_readsOrder_2 0 rfl rfl)
theorem dX7_readsOrder_50 : decode cX7_readsOrder 50 = .ok (.istore_n 1, 1) := dk_60 (dk_at dksX7_readsOrder_2 3 rfl rfl)
theorem dX7_readsOrder_51 : decode cX7_readsOrder 51 = .ok (.aload_n 0, 1) := dk_42 (dk_at dksX7_readsOrder_2 4 rfl rfl)
theorem dX7_readsOrder_52 : decode cX7_readsOrder 52 = .ok (.iconst 2, 1) := dk_5 (dk_at dksX7_readsOrder_2 5 rfl rfl)
theorem dX7_readsOrder_53 : decode cX7_readsOrder 53 = .ok (.iconst 0, 1) := dk_3 (dk_at dksX7_readsOrder_2 6 rfl rfl)
theorem dX7_readsOrder_54 : decode cX7_readsOrder 54 = .ok (.bipush 99, 2) := dk_16 99 (dk_at dksX7_readsOrder_2 7 rfl rfl)
theorem dX7_readsOrder_56 : decode cX7_readsOrder 56 = .ok (.invokevirtual 292, 3) := dk_182 1 36 (dk_at dksX7_readsOrder_2 9 rfl rfl)
theorem dX7_readsOrder_59 : decode cX7_readsOrder 59 = .ok (.ifCond .ne 5, 3) := dk_154 0 5 (dk_at dksX7_readsOrder_2 12 rfl rfl)
theorem dX7_readsOrder_62 : decode cX7_readsOrder 62 = .ok (.iconst 0, 1) := dk_3 (dk_at dksX7_readsOrder_2 15 rfl rfl)
theorem dX7_readsOrder_63 : decode cX7_readsOrder 63 = .ok (.ireturn, 1) := dk_172 (dk_at dksX7_readsOrder_2 16 rfl rfl)
theorem dX7_readsOrder_64 : decode cX7_readsOrder 64 = .ok (.aload_n 0, 1) := dk_42 (dk_at dksX7_readsOrder_2 17 rfl rfl)
theorem dX7_readsOrder_65 : decode cX7_readsOrder 65 = .ok (.getfield 202, 3) := dk_180 0 202 (dk_at dksX7_readsOrder_2 18 rfl rfl)
theorem dX7_readsOrder_68 : decode cX7_readsOrder 68 = .ok (.istore_n 2, 1) := dk_61 (dk_at dksX7_readsOrder_2 21 rfl rfl)
theorem dX7_readsOrder_69 : decode cX7_readsOrder 69 = .ok (.iload_n 2, 1) := dk_28 (dk_at dksX7_readsOrder_2 22 rfl rfl)
theorem dX7_readsOrder_70 : decode cX7_readsOrder 70 = .ok (.aload_n 0, 1) := dk_42 (dk_at dksX7_readsOrder_2 23 rfl rfl)
theorem dX7_readsOrder_71 : decode cX7_readsOrder 71 = .ok (.getfield 162, 3) := dk_180 0 162 (dk_at dksX7_readsOrder_3 0 rfl rfl)
theorem dX7_readsOrder_74 : decode cX7_readsOrder 74 = .ok (.if_icmp .lt 11, 3) := dk_161 0 11 (dk_at dksX7_readsOrder_3 3 rfl rfl)
theorem dX7_readsOrder_77 : decode cX7_readsOrder 77 = .ok (.aload_n 0, 1) := dk_42 (dk_at dksX7_readsOrder_3 6 rfl rfl)
theorem dX7_readsOrder_78 : decode cX7_readsOrder 78 = .ok (.bipush 7, 2) := dk_16 7 (dk_at dksX7_readsOrder_3 7 rfl rfl)
theorem dX7_readsOrder_80 : decode cX7_readsOrder 80 = .ok (.iload_n 1, 1) := dk_27 (dk_at dksX7_readsOrder_3 9 rfl rfl)
theorem dX7_readsOrder_81 : decode cX7_readsOrder 81 = .ok (.invokevirtual 199, 3) := dk_182 0 199 (dk_at dksX7_readsOrder_3 10 rfl rfl)
theorem dX7_readsOrder_84 : decode cX7_readsOrder 84 = .ok (.ireturn, 1) := dk_172 (dk_at dksX7_readsOrder_3 13 rfl rfl)
theorem dX7_readsOrder_85 : decode cX7_readsOrder 85 = .ok (.aload_n 0, 1) := dk_42 (dk_at dksX7_readsOrder_3 14 rfl rfl)
theorem dX7_readsOrder_86 : decode cX7_readsOrder 86 = .ok (.invokevirtual 192, 3) := dk_182 0 192 (dk_at dksX7_readsOrder_3 15 rfl rfl)
theorem dX7_readsOrder_89 : decode cX7_readsOrder 89 = .ok (.istore_n 3, 1) := dk_62 (dk_at dksX7_readsOrder_3 18 rfl rfl)
theorem dX7_readsOrder_90 : decode cX7_readsOrder 90 = .ok (.iload_n 3, 1) := dk_29 (dk_at dksX7_readsOrder_3 19 rfl rfl)
theorem dX7_readsOrder_91 : decode cX7_readsOrder 91 = .ok (.bipush 33, 2) := dk_16 33 (dk_at dksX7_readsOrder_3 20 rfl rfl)
theorem dX7_readsOrder_93 : decode cX7_readsOrder 93 = .ok (.if_icmp .eq 25, 3) := dk_159 0 25 (dk_at dksX7_readsOrder_4 0 rfl rfl)
theorem dX7_readsOrder_96 : decode cX7_readsOrder 96 = .ok (.iload_n 3, 1) := dk_29 (dk_at dksX7_readsOrder_4 3 rfl rfl)
theorem dX7_readsOrder_97 : decode cX7_readsOrder 97 = .ok (.bipush 63, 2) := dk_16 63 (dk_at dksX7_readsOrder_4 4 rfl rfl)
theorem dX7_readsOrder_99 : decode cX7_readsOrder 99 = .ok (.if_icmp .eq 19, 3) := dk_159 0 19 (dk_at dksX7_readsOrder_4 6 rfl rfl)
theorem dX7_readsOrder_102 : decode cX7_readsOrder 102 = .ok (.iload_n 3, 1) := dk_29 (dk_at dksX7_readsOrder_4 9 rfl rfl)
theorem dX7_readsOrder_103 : decode cX7_readsOrder 103 = .ok (.bipush 43, 2) := dk_16 43 (dk_at dksX7_readsOrder_4 10 rfl rfl)
theorem dX7_readsOrder_105 : decode cX7_readsOrder 105 = .ok (.if_icmp .eq 13, 3) := dk_159 0 13 (dk_at dksX7_readsOrder_4 12 rfl rfl)
theorem dX7_readsOrder_108 : decode cX7_readsOrder 108 = .ok (.aload_n 0, 1) := dk_42 (dk_at dksX7_readsOrder_4 15 rfl rfl)
theorem dX7_readsOrder_109 : decode cX7_readsOrder 109 = .ok (.iconst 1, 1) := dk_4 (dk_at dksX7_readsOrder_4 16 rfl rfl)
theorem dX7_readsOrder_110 : decode cX7_readsOrder 110 = .ok (.aload_n 0, 1) := dk_42 (dk_at dksX7_readsOrder_4 17 rfl rfl)
theorem dX7_readsOrder_111 : decode cX7_readsOrder 111 = .ok (.getfield 186, 3) := dk_180 0 186 (dk_at dksX7_readsOrder_4 18 rfl rfl)
theorem dX7_readsOrder_114 : decode cX7_readsOrder 114 = .ok (.invokevirtual 199, 3) := dk_182 0 199 (dk_at dksX7_readsOrder_4 21 rfl rfl)
theorem dX7_readsOrder_117 : decode cX7_readsOrder 117 = .ok (.ireturn, 1) := dk_172 (dk_at dksX7_readsOrder_5 0 rfl rfl)
theorem dX7_readsOrder_118 : decode cX7_readsOrder 118 = .ok (.aload_n 0, 1) := dk_42 (dk_at dksX7_readsOrder_5 1 rfl rfl)
theorem dX7_readsOrder_119 : decode cX7_readsOrder 119 = .ok (.aload_n 0, 1) := dk_42 (dk_at dksX7_readsOrder_5 2 rfl rfl)
theorem dX7_readsOrder_120 : decode cX7_readsOrder 120 = .ok (.getfield 186, 3) := dk_180 0 186 (dk_at dksX7_readsOrder_5 3 rfl rfl)
theorem dX7_readsOrder_123 : decode cX7_readsOrder 123 = .ok (.iconst 1, 1) := dk_4 (dk_at dksX7_readsOrder_5 6 rfl rfl)
theorem dX7_readsOrder_124 : decode cX7_readsOrder 124 = .ok (.iadd, 1) := dk_96 (dk_at dksX7_readsOrder_5 7 rfl rfl)
theorem dX7_readsOrder_125 : decode cX7_readsOrder 125 = .ok (.putfield 186, 3) := dk_181 0 186 (dk_at dksX7_readsOrder_5 8 rfl rfl)
theorem dX7_readsOrder_128 : decode cX7_readsOrder 128 = .ok (.iload_n 3, 1) := dk_29 (dk_at dksX7_readsOrder_5 11 rfl rfl)
theorem dX7_readsOrder_129 : decode cX7_readsOrder 129 = .ok (.bipush 43, 2) := dk_16 43 (dk_at dksX7_readsOrder_5 12 rfl rfl)
theorem dX7_readsOrder_131 : decode cX7_readsOrder 131 = .ok (.if_icmp .eq 22, 3) := dk_159 0 22 (dk_at dksX7_readsOrder_5 14 rfl rfl)
theorem dX7_readsOrder_134 : decode cX7_readsOrder 134 = .ok (.aload_n 0, 1) := dk_42 (dk_at dksX7_readsOrder_5 17 rfl rfl)
theorem dX7_readsOrder_135 : decode cX7_readsOrder 135 = .ok (.getfield 47, 3) := dk_180 0 47 (dk_at dksX7_readsOrder_5 18 rfl rfl)
theorem dX7_readsOrder_138 : decode cX7_readsOrder 138 = .ok (.iload_n 2, 1) := dk_28 (dk_at dksX7_readsOrder_5 21 rfl rfl)
theorem dX7_readsOrder_139 : decode cX7_readsOrder 139 = .ok (.iload_n 3, 1) := dk_29 (dk_at dksX7_readsOrder_5 22 rfl rfl)
theorem dX7_readsOrder_140 : decode cX7_readsOrder 140 = .ok (.bipush 33, 2) := dk_16 33 (dk_at dksX7_readsOrder_6 0 rfl rfl)
theorem dX7_readsOrder_142 : decode cX7_readsOrder 142 = .ok (.if_icmp .ne 7, 3) := dk_160 0 7 (dk_at dksX7_readsOrder_6 2 rfl rfl)
theorem dX7_readsOrder_145 : decode cX7_readsOrder 145 = .ok (.iconst 1, 1) := dk_4 (dk_at dksX7_readsOrder_6 5 rfl rfl)
theorem dX7_readsOrder_146 : decode cX7_readsOrder 146 = .ok (.goto 4, 3) := dk_167 0 4 (dk_at dksX7_readsOrder_6 6 rfl rfl)
theorem dX7_readsOrder_149 : decode cX7_readsOrder 149 = .ok (.iconst 0, 1) := dk_3 (dk_at dksX7_readsOrder_6 9 rfl rfl)
theorem dX7_readsOrder_150 : decode cX7_readsOrder 150 = .ok (.bastore, 1) := dk_84 (dk_at dksX7_readsOrder_6 10 rfl rfl)
theorem dX7_readsOrder_151 : decode cX7_readsOrder 151 = .ok (.iconst 1, 1) := dk_4 (dk_at dksX7_readsOrder_6 11 rfl rfl)
theorem dX7_readsOrder_152 : decode cX7_readsOrder 152 = .ok (.ireturn, 1) := dk_172 (dk_at dksX7_readsOrder_6 12 rfl rfl)
theorem dX7_readsOrder_153 : decode cX7_readsOrder 153 = .ok (.aload_n 0, 1) := dk_42 (dk_at dksX7_readsOrder_6 13 rfl rfl)
theorem dX7_readsOrder_154 : decode cX7_readsOrder 154 = .ok (.iconst 2, 1) := dk_5 (dk_at dksX7_readsOrder_6 14 rfl rfl)
theorem dX7_readsOrder_155 : decode cX7_readsOrder 155 = .ok (.iconst 0, 1) := dk_3 (dk_at dksX7_readsOrder_6 15 rfl rfl)
theorem dX7_readsOrder_156 : decode cX7_readsOrder 156 = .ok (.bipush 99, 2) := dk_16 99 (dk_at dksX7_readsOrder_6 16 rfl rfl)
theorem dX7_readsOrder_158 : decode cX7_readsOrder 158 = .ok (.invokevirtual 292, 3) := dk_182 1 36 (dk_at dksX7_readsOrder_6 18 rfl rfl)
theorem dX7_readsOrder_161 : decode cX7_readsOrder 161 = .ok (.ifCond .ne 5, 3) := dk_154 0 5 (dk_at dksX7_readsOrder_6 21 rfl rfl)
theorem dX7_readsOrder_164 : decode cX7_readsOrder 164 = .ok (.iconst 0, 1) := dk_3 (dk_at dksX7_readsOrder_7 0 rfl rfl)
theorem dX7_readsOrder_165 : decode cX7_readsOrder 165 = .ok (.ireturn, 1) := dk_172 (dk_at dksX7_readsOrder_7 1 rfl rfl)
theorem dX7_readsOrder_166 : decode cX7_readsOrder 166 = .ok (.aload_n 0, 1) := dk_42 (dk_at dksX7_readsOrder_7 2 rfl rfl)
theorem dX7_readsOrder_167 : decode cX7_readsOrder 167 = .ok (.getfield 37, 3) := dk_180 0 37 (dk_at dksX7_readsOrder_7 3 rfl rfl)
theorem dX7_readsOrder_170 : decode cX7_readsOrder 170 = .ok (.iload_n 2, 1) := dk_28 (dk_at dksX7_readsOrder_7 6 rfl rfl)
theorem dX7_readsOrder_171 : decode cX7_readsOrder 171 = .ok (.aload_n 0, 1) := dk_42 (dk_at dksX7_readsOrder_7 7 rfl rfl)
theorem dX7_readsOrder_172 : decode cX7_readsOrder 172 = .ok (.getfield 202, 3) := dk_180 0 202 (dk_at dksX7_readsOrder_7 8 rfl rfl)
theorem dX7_readsOrder_175 : decode cX7_readsOrder 175 = .ok (.iastore, 1) := dk_79 (dk_at dksX7_readsOrder_7 11 rfl rfl)
theorem dX7_readsOrder_176 : decode cX7_readsOrder 176 = .ok (.iconst 1, 1) := dk_4 (dk_at dksX7_readsOrder_7 12 rfl rfl)
theorem dX7_readsOrder_177 : decode cX7_readsOrder 177 = .ok (.ireturn, 1) := dk_172 (dk_at dksX7_readsOrder_7 13 rfl rfl)
abbrev cX7_days : ByteArray := prog_21_method_62_code
def yX7_days : MethodName := ⟨RX7, "days", "(I)I"⟩
def dkwX7_days_0 : List UInt8 := [27, 4, 16, 30, 184, 0, 154, 154, 0, 5, 2, 172, 42, 27, 182, 1, 105, 42, 180, 1, 69, 172]
abbrev dktX7_days_0 : List UInt8 := dkwX7_days_0 ++ []
theorem dksX7_days_0 : cX7_days.data.toList.drop 0 = dktX7_days_0 := by decide +kernel
theorem dX7_days_0 : decode cX7_days 0 = .ok (.iload_n 1, 1) := dk_27 (dk_at dksX7_days_0 0 rfl rfl)
theorem dX7_days_1 : decode cX7_days 1 = .ok (.iconst 1, 1) := dk_4 (dk_at dksX7_days_0 1 rfl rfl)
theorem dX7_days_2 : decode cX7_days 2 = .ok (.bipush 30, 2) := dk_16 30 (dk_at dksX7_days_0 2 rfl rfl)
theorem dX7_days_4 : decode cX7_days 4 = .ok (.invokestatic 154, 3) := dk_184 0 154 (dk_at dksX7_days_0 4 rfl rfl)
theorem dX7_days_7 : decode cX7_days 7 = .ok (.ifCond .ne 5, 3) := dk_154 0 5 (dk_at dksX7_days_0 7 rfl rfl)
theorem dX7_days_10 : decode cX7_days 10 = .ok (.iconst (-1), 1) := dk_2 (dk_at dksX7_days_0 10 rfl rfl)
theorem dX7_days_11 : decode cX7_days 11 = .ok (.ireturn, 1) := dk_172 (dk_at dksX7_days_0 11 rfl rfl)
theorem dX7_days_12 : decode cX7_days 12 = .ok (.aload_n 0, 1) := dk_42 (dk_at dksX7_days_0 12 rfl rfl)
theorem dX7_days_13 : decode cX7_days 13 = .ok (.iload_n 1, 1) := dk_27 (dk_at dksX7_days_0 13 rfl rfl)
theorem dX7_days_14 : decode cX7_days 14 = .ok (.invokevirtual 361, 3) := dk_182 1 105 (dk_at dksX7_days_0 14 rfl rfl)
theorem dX7_days_17 : decode cX7_days 17 = .ok (.aload_n 0, 1) := dk_42 (dk_at dksX7_days_0 17 rfl rfl)
theorem dX7_days_18 : decode cX7_days 18 = .ok (.getfield 325, 3) := dk_180 1 69 (dk_at dksX7_days_0 18 rfl rfl)
theorem dX7_days_21 : decode cX7_days 21 = .ok (.ireturn, 1) := dk_172 (dk_at dksX7_days_0 21 rfl rfl)
abbrev cX7_daysGo : ByteArray := prog_21_method_61_code
def yX7_daysGo : MethodName := ⟨RX7, "daysGo", "(I)V"⟩
def dkwX7_daysGo_1 : List UInt8 := [180, 0, 7, 16, 24, 46, 17, 39, 15, 162, 0, 13, 42, 182, 1, 102, 132, 2, 1, 167, 255, 231, 177]
abbrev dktX7_daysGo_1 : List UInt8 := dkwX7_daysGo_1 ++ []
def dkwX7_daysGo_0 : List UInt8 := [42, 3, 181, 1, 69, 42, 3, 181, 1, 79, 42, 3, 181, 1, 89, 3, 61, 28, 27, 162, 0, 26, 42]
abbrev dktX7_daysGo_0 : List UInt8 := dkwX7_daysGo_0 ++ dktX7_daysGo_1
theorem dksX7_daysGo_0 : cX7_daysGo.data.toList.drop 0 = dktX7_daysGo_0 := by decide +kernel
theorem dksX7_daysGo_1 : cX7_daysGo.data.toList.drop 23 = dktX7_daysGo_1 := dk_seg dksX7_daysGo_0 23 rfl rfl
theorem dX7_daysGo_0 : decode cX7_daysGo 0 = .ok (.aload_n 0, 1) := dk_42 (dk_at dksX7_daysGo_0 0 rfl rfl)
theorem dX7_daysGo_1 : decode cX7_daysGo 1 = .ok (.iconst 0, 1) := dk_3 (dk_at dksX7_daysGo_0 1 rfl rfl)
theorem dX7_daysGo_2 : decode cX7_daysGo 2 = .ok (.putfield 325, 3) := dk_181 1 69 (dk_at dksX7_daysGo_0 2 rfl rfl)
theorem dX7_daysGo_5 : decode cX7_daysGo 5 = .ok (.aload_n 0, 1) := dk_42 (dk_at dksX7_daysGo_0 5 rfl rfl)
theorem dX7_daysGo_6 : decode cX7_daysGo 6 = .ok (.iconst 0, 1) := dk_3 (dk_at dksX7_daysGo_0 6 rfl rfl)
theorem dX7_daysGo_7 : decode cX7_daysGo 7 = .ok (.putfield 335, 3) := dk_181 1 79 (dk_at dksX7_daysGo_0 7 rfl rfl)
theorem dX7_daysGo_10 : decode cX7_daysGo 10 = .ok (.aload_n 0, 1) := dk_42 (dk_at dksX7_daysGo_0 10 rfl rfl)
theorem dX7_daysGo_11 : decode cX7_daysGo 11 = .ok (.iconst 0, 1) := dk_3 (dk_at dksX7_daysGo_0 11 rfl rfl)
theorem dX7_daysGo_12 : decode cX7_daysGo 12 = .ok (.putfield 345, 3) := dk_181 1 89 (dk_at dksX7_daysGo_0 12 rfl rfl)
theorem dX7_daysGo_15 : decode cX7_daysGo 15 = .ok (.iconst 0, 1) := dk_3 (dk_at dksX7_daysGo_0 15 rfl rfl)
theorem dX7_daysGo_16 : decode cX7_daysGo 16 = .ok (.istore_n 2, 1) := dk_61 (dk_at dksX7_daysGo_0 16 rfl rfl)
theorem dX7_daysGo_17 : decode cX7_daysGo 17 = .ok (.iload_n 2, 1) := dk_28 (dk_at dksX7_daysGo_0 17 rfl rfl)
theorem dX7_daysGo_18 : decode cX7_daysGo 18 = .ok (.iload_n 1, 1) := dk_27 (dk_at dksX7_daysGo_0 18 rfl rfl)
theorem dX7_daysGo_19 : decode cX7_daysGo 19 = .ok (.if_icmp .ge 26, 3) := dk_162 0 26 (dk_at dksX7_daysGo_0 19 rfl rfl)
theorem dX7_daysGo_22 : decode cX7_daysGo 22 = .ok (.aload_n 0, 1) := dk_42 (dk_at dksX7_daysGo_0 22 rfl rfl)
theorem dX7_daysGo_23 : decode cX7_daysGo 23 = .ok (.getfield 7, 3) := dk_180 0 7 (dk_at dksX7_daysGo_1 0 rfl rfl)
theorem dX7_daysGo_26 : decode cX7_daysGo 26 = .ok (.bipush 24, 2) := dk_16 24 (dk_at dksX7_daysGo_1 3 rfl rfl)
theorem dX7_daysGo_28 : decode cX7_daysGo 28 = .ok (.iaload, 1) := dk_46 (dk_at dksX7_daysGo_1 5 rfl rfl)
theorem dX7_daysGo_29 : decode cX7_daysGo 29 = .ok (.sipush 9999, 3) := dk_17 39 15 (dk_at dksX7_daysGo_1 6 rfl rfl)
theorem dX7_daysGo_32 : decode cX7_daysGo 32 = .ok (.if_icmp .ge 13, 3) := dk_162 0 13 (dk_at dksX7_daysGo_1 9 rfl rfl)
theorem dX7_daysGo_35 : decode cX7_daysGo 35 = .ok (.aload_n 0, 1) := dk_42 (dk_at dksX7_daysGo_1 12 rfl rfl)
theorem dX7_daysGo_36 : decode cX7_daysGo 36 = .ok (.invokevirtual 358, 3) := dk_182 1 102 (dk_at dksX7_daysGo_1 13 rfl rfl)
theorem dX7_daysGo_39 : decode cX7_daysGo 39 = .ok (.iinc 2 1, 3) := dk_132 2 1 (dk_at dksX7_daysGo_1 16 rfl rfl)
theorem dX7_daysGo_42 : decode cX7_daysGo 42 = .ok (.goto (-25), 3) := dk_167 255 231 (dk_at dksX7_daysGo_1 19 rfl rfl)
theorem dX7_daysGo_45 : decode cX7_daysGo 45 = .ok (.return_, 1) := dk_177 (dk_at dksX7_daysGo_1 22 rfl rfl)
abbrev cX7_dayGoes : ByteArray := prog_21_method_60_code
def yX7_dayGoes : MethodName := ⟨RX7, "dayGoes", "()V"⟩
def dkwX7_dayGoes_5 : List UInt8 := [96, 79, 177]
abbrev dktX7_dayGoes_5 : List UInt8 := dkwX7_dayGoes_5 ++ []
def dkwX7_dayGoes_4 : List UInt8 := [112, 182, 1, 99, 132, 1, 1, 167, 255, 207, 42, 180, 0, 7, 16, 24, 42, 180, 0, 7, 16, 24, 46, 4]
abbrev dktX7_dayGoes_4 : List UInt8 := dkwX7_dayGoes_4 ++ dktX7_dayGoes_5
def dkwX7_dayGoes_3 : List UInt8 := [182, 0, 169, 153, 0, 25, 42, 42, 180, 0, 40, 27, 46, 16, 8, 108, 42, 180, 0, 40, 27, 46, 16, 8]
abbrev dktX7_dayGoes_3 : List UInt8 := dkwX7_dayGoes_3 ++ dktX7_dayGoes_4
def dkwX7_dayGoes_2 : List UInt8 := [167, 255, 233, 3, 60, 27, 42, 180, 1, 48, 162, 0, 47, 42, 42, 180, 0, 40, 27, 46, 16, 8, 108]
abbrev dktX7_dayGoes_2 : List UInt8 := dkwX7_dayGoes_2 ++ dktX7_dayGoes_3
def dkwX7_dayGoes_1 : List UInt8 := [42, 180, 0, 162, 162, 0, 21, 42, 180, 0, 117, 27, 42, 180, 0, 37, 27, 46, 79, 132, 1, 1]
abbrev dktX7_dayGoes_1 : List UInt8 := dkwX7_dayGoes_1 ++ dktX7_dayGoes_2
def dkwX7_dayGoes_0 : List UInt8 := [3, 60, 27, 16, 12, 162, 0, 16, 42, 180, 0, 114, 27, 2, 79, 132, 1, 1, 167, 255, 240, 3, 60, 27]
abbrev dktX7_dayGoes_0 : List UInt8 := dkwX7_dayGoes_0 ++ dktX7_dayGoes_1
theorem dksX7_dayGoes_0 : cX7_dayGoes.data.toList.drop 0 = dktX7_dayGoes_0 := by decide +kernel
theorem dksX7_dayGoes_1 : cX7_dayGoes.data.toList.drop 24 = dktX7_dayGoes_1 := dk_seg dksX7_dayGoes_0 24 rfl rfl
theorem dksX7_dayGoes_2 : cX7_dayGoes.data.toList.drop 46 = dktX7_dayGoes_2 := dk_seg dksX7_dayGoes_1 22 rfl rfl
theorem dksX7_dayGoes_3 : cX7_dayGoes.data.toList.drop 69 = dktX7_dayGoes_3 := dk_seg dksX7_dayGoes_2 23 rfl rfl
theorem dksX7_dayGoes_4 : cX7_dayGoes.data.toList.drop 93 = dktX7_dayGoes_4 := dk_seg dksX7_dayGoes_3 24 rfl rfl
theorem dksX7_dayGoes_5 : cX7_dayGoes.data.toList.drop 117 = dktX7_dayGoes_5 := dk_seg dksX7_dayGoes_4 24 rfl rfl
theorem dX7_dayGoes_0 : decode cX7_dayGoes 0 = .ok (.iconst 0, 1) := dk_3 (dk_at dksX7_dayGoes_0 0 rfl rfl)
theorem dX7_dayGoes_1 : decode cX7_dayGoes 1 = .ok (.istore_n 1, 1) := dk_60 (dk_at dksX7_dayGoes_0 1 rfl rfl)
theorem dX7_dayGoes_2 : decode cX7_dayGoes 2 = .ok (.iload_n 1, 1) := dk_27 (dk_at dksX7_dayGoes_0 2 rfl rfl)
theorem dX7_dayGoes_3 : decode cX7_dayGoes 3 = .ok (.bipush 12, 2) := dk_16 12 (dk_at dksX7_dayGoes_0 3 rfl rfl)
theorem dX7_dayGoes_5 : decode cX7_dayGoes 5 = .ok (.if_icmp .ge 16, 3) := dk_162 0 16 (dk_at dksX7_dayGoes_0 5 rfl rfl)
theorem dX7_dayGoes_8 : decode cX7_dayGoes 8 = .ok (.aload_n 0, 1) := dk_42 (dk_at dksX7_dayGoes_0 8 rfl rfl)
theorem dX7_dayGoes_9 : decode cX7_dayGoes 9 = .ok (.getfield 114, 3) := dk_180 0 114 (dk_at dksX7_dayGoes_0 9 rfl rfl)
theorem dX7_dayGoes_12 : decode cX7_dayGoes 12 = .ok (.iload_n 1, 1) := dk_27 (dk_at dksX7_dayGoes_0 12 rfl rfl)
theorem dX7_dayGoes_13 : decode cX7_dayGoes 13 = .ok (.iconst (-1), 1) := dk_2 (dk_at dksX7_dayGoes_0 13 rfl rfl)
theorem dX7_dayGoes_14 : decode cX7_dayGoes 14 = .ok (.iastore, 1) := dk_79 (dk_at dksX7_dayGoes_0 14 rfl rfl)
theorem dX7_dayGoes_15 : decode cX7_dayGoes 15 = .ok (.iinc 1 1, 3) := dk_132 1 1 (dk_at dksX7_dayGoes_0 15 rfl rfl)
theorem dX7_dayGoes_18 : decode cX7_dayGoes 18 = .ok (.goto (-16), 3) := dk_167 255 240 (dk_at dksX7_dayGoes_0 18 rfl rfl)
theorem dX7_dayGoes_21 : decode cX7_dayGoes 21 = .ok (.iconst 0, 1) := dk_3 (dk_at dksX7_dayGoes_0 21 rfl rfl)
theorem dX7_dayGoes_22 : decode cX7_dayGoes 22 = .ok (.istore_n 1, 1) := dk_60 (dk_at dksX7_dayGoes_0 22 rfl rfl)
theorem dX7_dayGoes_23 : decode cX7_dayGoes 23 = .ok (.iload_n 1, 1) := dk_27 (dk_at dksX7_dayGoes_0 23 rfl rfl)
theorem dX7_dayGoes_24 : decode cX7_dayGoes 24 = .ok (.aload_n 0, 1) := dk_42 (dk_at dksX7_dayGoes_1 0 rfl rfl)
theorem dX7_dayGoes_25 : decode cX7_dayGoes 25 = .ok (.getfield 162, 3) := dk_180 0 162 (dk_at dksX7_dayGoes_1 1 rfl rfl)
theorem dX7_dayGoes_28 : decode cX7_dayGoes 28 = .ok (.if_icmp .ge 21, 3) := dk_162 0 21 (dk_at dksX7_dayGoes_1 4 rfl rfl)
theorem dX7_dayGoes_31 : decode cX7_dayGoes 31 = .ok (.aload_n 0, 1) := dk_42 (dk_at dksX7_dayGoes_1 7 rfl rfl)
theorem dX7_dayGoes_32 : decode cX7_dayGoes 32 = .ok (.getfield 117, 3) := dk_180 0 117 (dk_at dksX7_dayGoes_1 8 rfl rfl)
theorem dX7_dayGoes_35 : decode cX7_dayGoes 35 = .ok (.iload_n 1, 1) := dk_27 (dk_at dksX7_dayGoes_1 11 rfl rfl)
theorem dX7_dayGoes_36 : decode cX7_dayGoes 36 = .ok (.aload_n 0, 1) := dk_42 (dk_at dksX7_dayGoes_1 12 rfl rfl)
theorem dX7_dayGoes_37 : decode cX7_dayGoes 37 = .ok (.getfield 37, 3) := dk_180 0 37 (dk_at dksX7_dayGoes_1 13 rfl rfl)
theorem dX7_dayGoes_40 : decode cX7_dayGoes 40 = .ok (.iload_n 1, 1) := dk_27 (dk_at dksX7_dayGoes_1 16 rfl rfl)
theorem dX7_dayGoes_41 : decode cX7_dayGoes 41 = .ok (.iaload, 1) := dk_46 (dk_at dksX7_dayGoes_1 17 rfl rfl)
theorem dX7_dayGoes_42 : decode cX7_dayGoes 42 = .ok (.iastore, 1) := dk_79 (dk_at dksX7_dayGoes_1 18 rfl rfl)
theorem dX7_dayGoes_43 : decode cX7_dayGoes 43 = .ok (.iinc 1 1, 3) := dk_132 1 1 (dk_at dksX7_dayGoes_1 19 rfl rfl)
theorem dX7_dayGoes_46 : decode cX7_dayGoes 46 = .ok (.goto (-23), 3) := dk_167 255 233 (dk_at dksX7_dayGoes_2 0 rfl rfl)
theorem dX7_dayGoes_49 : decode cX7_dayGoes 49 = .ok (.iconst 0, 1) := dk_3 (dk_at dksX7_dayGoes_2 3 rfl rfl)
theorem dX7_dayGoes_50 : decode cX7_dayGoes 50 = .ok (.istore_n 1, 1) := dk_60 (dk_at dksX7_dayGoes_2 4 rfl rfl)
theorem dX7_dayGoes_51 : decode cX7_dayGoes 51 = .ok (.iload_n 1, 1) := dk_27 (dk_at dksX7_dayGoes_2 5 rfl rfl)
theorem dX7_dayGoes_52 : decode cX7_dayGoes 52 = .ok (.aload_n 0, 1) := dk_42 (dk_at dksX7_dayGoes_2 6 rfl rfl)
theorem dX7_dayGoes_53 : decode cX7_dayGoes 53 = .ok (.getfield 304, 3) := dk_180 1 48 (dk_at dksX7_dayGoes_2 7 rfl rfl)
theorem dX7_dayGoes_56 : decode cX7_dayGoes 56 = .ok (.if_icmp .ge 47, 3) := dk_162 0 47 (dk_at dksX7_dayGoes_2 10 rfl rfl)
theorem dX7_dayGoes_59 : decode cX7_dayGoes 59 = .ok (.aload_n 0, 1) := dk_42 (dk_at dksX7_dayGoes_2 13 rfl rfl)
theorem dX7_dayGoes_60 : decode cX7_dayGoes 60 = .ok (.aload_n 0, 1) := dk_42 (dk_at dksX7_dayGoes_2 14 rfl rfl)
theorem dX7_dayGoes_61 : decode cX7_dayGoes 61 = .ok (.getfield 40, 3) := dk_180 0 40 (dk_at dksX7_dayGoes_2 15 rfl rfl)
theorem dX7_dayGoes_64 : decode cX7_dayGoes 64 = .ok (.iload_n 1, 1) := dk_27 (dk_at dksX7_dayGoes_2 18 rfl rfl)
theorem dX7_dayGoes_65 : decode cX7_dayGoes 65 = .ok (.iaload, 1) := dk_46 (dk_at dksX7_dayGoes_2 19 rfl rfl)
theorem dX7_dayGoes_66 : decode cX7_dayGoes 66 = .ok (.bipush 8, 2) := dk_16 8 (dk_at dksX7_dayGoes_2 20 rfl rfl)
theorem dX7_dayGoes_68 : decode cX7_dayGoes 68 = .ok (.idiv, 1) := dk_108 (dk_at dksX7_dayGoes_2 22 rfl rfl)
theorem dX7_dayGoes_69 : decode cX7_dayGoes 69 = .ok (.invokevirtual 169, 3) := dk_182 0 169 (dk_at dksX7_dayGoes_3 0 rfl rfl)
theorem dX7_dayGoes_72 : decode cX7_dayGoes 72 = .ok (.ifCond .eq 25, 3) := dk_153 0 25 (dk_at dksX7_dayGoes_3 3 rfl rfl)
theorem dX7_dayGoes_75 : decode cX7_dayGoes 75 = .ok (.aload_n 0, 1) := dk_42 (dk_at dksX7_dayGoes_3 6 rfl rfl)
theorem dX7_dayGoes_76 : decode cX7_dayGoes 76 = .ok (.aload_n 0, 1) := dk_42 (dk_at dksX7_dayGoes_3 7 rfl rfl)
theorem dX7_dayGoes_77 : decode cX7_dayGoes 77 = .ok (.getfield 40, 3) := dk_180 0 40 (dk_at dksX7_dayGoes_3 8 rfl rfl)
theorem dX7_dayGoes_80 : decode cX7_dayGoes 80 = .ok (.iload_n 1, 1) := dk_27 (dk_at dksX7_dayGoes_3 11 rfl rfl)
theorem dX7_dayGoes_81 : decode cX7_dayGoes 81 = .ok (.iaload, 1) := dk_46 (dk_at dksX7_dayGoes_3 12 rfl rfl)
theorem dX7_dayGoes_82 : decode cX7_dayGoes 82 = .ok (.bipush 8, 2) := dk_16 8 (dk_at dksX7_dayGoes_3 13 rfl rfl)
theorem dX7_dayGoes_84 : decode cX7_dayGoes 84 = .ok (.idiv, 1) := dk_108 (dk_at dksX7_dayGoes_3 15 rfl rfl)
theorem dX7_dayGoes_85 : decode cX7_dayGoes 85 = .ok (.aload_n 0, 1) := dk_42 (dk_at dksX7_dayGoes_3 16 rfl rfl)
theorem dX7_dayGoes_86 : decode cX7_dayGoes 86 = .ok (.getfield 40, 3) := dk_180 0 40 (dk_at dksX7_dayGoes_3 17 rfl rfl)
theorem dX7_dayGoes_89 : decode cX7_dayGoes 89 = .ok (.iload_n 1, 1) := dk_27 (dk_at dksX7_dayGoes_3 20 rfl rfl)
theorem dX7_dayGoes_90 : decode cX7_dayGoes 90 = .ok (.iaload, 1) := dk_46 (dk_at dksX7_dayGoes_3 21 rfl rfl)
theorem dX7_dayGoes_91 : decode cX7_dayGoes 91 = .ok (.bipush 8, 2) := dk_16 8 (dk_at dksX7_dayGoes_3 22 rfl rfl)
theorem dX7_dayGoes_93 : decode cX7_dayGoes 93 = .ok (.irem, 1) := dk_112 (dk_at dksX7_dayGoes_4 0 rfl rfl)
theorem dX7_dayGoes_94 : decode cX7_dayGoes 94 = .ok (.invokevirtual 355, 3) := dk_182 1 99 (dk_at dksX7_dayGoes_4 1 rfl rfl)
theorem dX7_dayGoes_97 : decode cX7_dayGoes 97 = .ok (.iinc 1 1, 3) := dk_132 1 1 (dk_at dksX7_dayGoes_4 4 rfl rfl)
theorem dX7_dayGoes_100 : decode cX7_dayGoes 100 = .ok (.goto (-49), 3) := dk_167 255 207 (dk_at dksX7_dayGoes_4 7 rfl rfl)
theorem dX7_dayGoes_103 : decode cX7_dayGoes 103 = .ok (.aload_n 0, 1) := dk_42 (dk_at dksX7_dayGoes_4 10 rfl rfl)
theorem dX7_dayGoes_104 : decode cX7_dayGoes 104 = .ok (.getfield 7, 3) := dk_180 0 7 (dk_at dksX7_dayGoes_4 11 rfl rfl)
theorem dX7_dayGoes_107 : decode cX7_dayGoes 107 = .ok (.bipush 24, 2) := dk_16 24 (dk_at dksX7_dayGoes_4 14 rfl rfl)
theorem dX7_dayGoes_109 : decode cX7_dayGoes 109 = .ok (.aload_n 0, 1) := dk_42 (dk_at dksX7_dayGoes_4 16 rfl rfl)
theorem dX7_dayGoes_110 : decode cX7_dayGoes 110 = .ok (.getfield 7, 3) := dk_180 0 7 (dk_at dksX7_dayGoes_4 17 rfl rfl)
theorem dX7_dayGoes_113 : decode cX7_dayGoes 113 = .ok (.bipush 24, 2) := dk_16 24 (dk_at dksX7_dayGoes_4 20 rfl rfl)
theorem dX7_dayGoes_115 : decode cX7_dayGoes 115 = .ok (.iaload, 1) := dk_46 (dk_at dksX7_dayGoes_4 22 rfl rfl)
theorem dX7_dayGoes_116 : decode cX7_dayGoes 116 = .ok (.iconst 1, 1) := dk_4 (dk_at dksX7_dayGoes_4 23 rfl rfl)
theorem dX7_dayGoes_117 : decode cX7_dayGoes 117 = .ok (.iadd, 1) := dk_96 (dk_at dksX7_dayGoes_5 0 rfl rfl)
theorem dX7_dayGoes_118 : decode cX7_dayGoes 118 = .ok (.iastore, 1) := dk_79 (dk_at dksX7_dayGoes_5 1 rfl rfl)
theorem dX7_dayGoes_119 : decode cX7_dayGoes 119 = .ok (.return_, 1) := dk_177 (dk_at dksX7_dayGoes_5 2 rfl rfl)
abbrev cX7_runs : ByteArray := prog_21_method_10_code
def yX7_runs : MethodName := ⟨RX7, "runs", "(I)Z"⟩
def dkwX7_runs_1 : List UInt8 := [167, 0, 4, 3, 172]
abbrev dktX7_runs_1 : List UInt8 := dkwX7_runs_1 ++ []
def dkwX7_runs_0 : List UInt8 := [27, 3, 42, 180, 0, 162, 4, 100, 184, 0, 154, 153, 0, 16, 42, 180, 0, 47, 27, 51, 154, 0, 7, 4]
abbrev dktX7_runs_0 : List UInt8 := dkwX7_runs_0 ++ dktX7_runs_1
theorem dksX7_runs_0 : cX7_runs.data.toList.drop 0 = dktX7_runs_0 := by decide +kernel
theorem dksX7_runs_1 : cX7_runs.data.toList.drop 24 = dktX7_runs_1 := dk_seg dksX7_runs_0 24 rfl rfl
theorem dX7_runs_0 : decode cX7_runs 0 = .ok (.iload_n 1, 1) := dk_27 (dk_at dksX7_runs_0 0 rfl rfl)
theorem dX7_runs_1 : decode cX7_runs 1 = .ok (.iconst 0, 1) := dk_3 (dk_at dksX7_runs_0 1 rfl rfl)
theorem dX7_runs_2 : decode cX7_runs 2 = .ok (.aload_n 0, 1) := dk_42 (dk_at dksX7_runs_0 2 rfl rfl)
theorem dX7_runs_3 : decode cX7_runs 3 = .ok (.getfield 162, 3) := dk_180 0 162 (dk_at dksX7_runs_0 3 rfl rfl)
theorem dX7_runs_6 : decode cX7_runs 6 = .ok (.iconst 1, 1) := dk_4 (dk_at dksX7_runs_0 6 rfl rfl)
theorem dX7_runs_7 : decode cX7_runs 7 = .ok (.isub, 1) := dk_100 (dk_at dksX7_runs_0 7 rfl rfl)
theorem dX7_runs_8 : decode cX7_runs 8 = .ok (.invokestatic 154, 3) := dk_184 0 154 (dk_at dksX7_runs_0 8 rfl rfl)
theorem dX7_runs_11 : decode cX7_runs 11 = .ok (.ifCond .eq 16, 3) := dk_153 0 16 (dk_at dksX7_runs_0 11 rfl rfl)
theorem dX7_runs_14 : decode cX7_runs 14 = .ok (.aload_n 0, 1) := dk_42 (dk_at dksX7_runs_0 14 rfl rfl)
theorem dX7_runs_15 : decode cX7_runs 15 = .ok (.getfield 47, 3) := dk_180 0 47 (dk_at dksX7_runs_0 15 rfl rfl)
theorem dX7_runs_18 : decode cX7_runs 18 = .ok (.iload_n 1, 1) := dk_27 (dk_at dksX7_runs_0 18 rfl rfl)
theorem dX7_runs_19 : decode cX7_runs 19 = .ok (.baload, 1) := dk_51 (dk_at dksX7_runs_0 19 rfl rfl)
theorem dX7_runs_20 : decode cX7_runs 20 = .ok (.ifCond .ne 7, 3) := dk_154 0 7 (dk_at dksX7_runs_0 20 rfl rfl)
theorem dX7_runs_23 : decode cX7_runs 23 = .ok (.iconst 1, 1) := dk_4 (dk_at dksX7_runs_0 23 rfl rfl)
theorem dX7_runs_24 : decode cX7_runs 24 = .ok (.goto 4, 3) := dk_167 0 4 (dk_at dksX7_runs_1 0 rfl rfl)
theorem dX7_runs_27 : decode cX7_runs 27 = .ok (.iconst 0, 1) := dk_3 (dk_at dksX7_runs_1 3 rfl rfl)
theorem dX7_runs_28 : decode cX7_runs 28 = .ok (.ireturn, 1) := dk_172 (dk_at dksX7_runs_1 4 rfl rfl)
abbrev cX7_stops : ByteArray := prog_21_method_59_code
def yX7_stops : MethodName := ⟨RX7, "stops", "(II)V"⟩
def dkwX7_stops_6 : List UInt8 := [4, 100, 162, 0, 18, 42, 21, 6, 27, 28, 29, 182, 1, 95, 132, 6, 1, 167, 255, 225, 177]
abbrev dktX7_stops_6 : List UInt8 := dkwX7_stops_6 ++ []
def dkwX7_stops_5 : List UInt8 := [184, 0, 165, 46, 182, 1, 92, 3, 54, 6, 21, 6, 16, 12, 162, 0, 30, 28, 42, 180, 0, 28, 27, 46]
abbrev dktX7_stops_5 : List UInt8 := dkwX7_stops_5 ++ dktX7_stops_6
def dkwX7_stops_4 : List UInt8 := [180, 1, 89, 42, 180, 0, 117, 27, 46, 184, 1, 86, 181, 1, 89, 42, 27, 42, 180, 0, 31, 27, 28]
abbrev dktX7_stops_4 : List UInt8 := dkwX7_stops_4 ++ dktX7_stops_5
def dkwX7_stops_3 : List UInt8 := [17, 0, 240, 42, 180, 0, 117, 27, 46, 21, 4, 96, 21, 5, 100, 184, 1, 66, 184, 1, 86, 79, 42, 42]
abbrev dktX7_stops_3 : List UInt8 := dkwX7_stops_3 ++ dktX7_stops_4
def dkwX7_stops_2 : List UInt8 := [16, 60, 182, 1, 83, 54, 4, 42, 16, 99, 16, 60, 182, 1, 83, 54, 5, 42, 180, 0, 117, 27, 3]
abbrev dktX7_stops_2 : List UInt8 := dkwX7_stops_2 ++ dktX7_stops_3
def dkwX7_stops_1 : List UInt8 := [112, 79, 42, 180, 0, 7, 16, 25, 46, 16, 10, 112, 62, 42, 27, 28, 29, 182, 1, 72, 42, 16, 100]
abbrev dktX7_stops_1 : List UInt8 := dkwX7_stops_1 ++ dktX7_stops_2
def dkwX7_stops_0 : List UInt8 := [42, 180, 0, 7, 16, 25, 17, 98, 85, 42, 180, 0, 7, 16, 25, 46, 104, 17, 54, 25, 96, 19, 1, 82]
abbrev dktX7_stops_0 : List UInt8 := dkwX7_stops_0 ++ dktX7_stops_1
theorem dksX7_stops_0 : cX7_stops.data.toList.drop 0 = dktX7_stops_0 := by decide +kernel
theorem dksX7_stops_1 : cX7_stops.data.toList.drop 24 = dktX7_stops_1 := dk_seg dksX7_stops_0 24 rfl rfl
theorem dksX7_stops_2 : cX7_stops.data.toList.drop 47 = dktX7_stops_2 := dk_seg dksX7_stops_1 23 rfl rfl
theorem dksX7_stops_3 : cX7_stops.data.toList.drop 70 = dktX7_stops_3 := dk_seg dksX7_stops_2 23 rfl rfl
theorem dksX7_stops_4 : cX7_stops.data.toList.drop 94 = dktX7_stops_4 := dk_seg dksX7_stops_3 24 rfl rfl
theorem dksX7_stops_5 : cX7_stops.data.toList.drop 117 = dktX7_stops_5 := dk_seg dksX7_stops_4 23 rfl rfl
theorem dksX7_stops_6 : cX7_stops.data.toList.drop 141 = dktX7_stops_6 := dk_seg dksX7_stops_5 24 rfl rfl
theorem dX7_stops_0 : decode cX7_stops 0 = .ok (.aload_n 0, 1) := dk_42 (dk_at dksX7_stops_0 0 rfl rfl)
theorem dX7_stops_1 : decode cX7_stops 1 = .ok (.getfield 7, 3) := dk_180 0 7 (dk_at dksX7_stops_0 1 rfl rfl)
theorem dX7_stops_4 : decode cX7_stops 4 = .ok (.bipush 25, 2) := dk_16 25 (dk_at dksX7_stops_0 4 rfl rfl)
theorem dX7_stops_6 : decode cX7_stops 6 = .ok (.sipush 25173, 3) := dk_17 98 85 (dk_at dksX7_stops_0 6 rfl rfl)
theorem dX7_stops_9 : decode cX7_stops 9 = .ok (.aload_n 0, 1) := dk_42 (dk_at dksX7_stops_0 9 rfl rfl)
theorem dX7_stops_10 : decode cX7_stops 10 = .ok (.getfield 7, 3) := dk_180 0 7 (dk_at dksX7_stops_0 10 rfl rfl)
theorem dX7_stops_13 : decode cX7_stops 13 = .ok (.bipush 25, 2) := dk_16 25 (dk_at dksX7_stops_0 13 rfl rfl)
theorem dX7_stops_15 : decode cX7_stops 15 = .ok (.iaload, 1) := dk_46 (dk_at dksX7_stops_0 15 rfl rfl)
theorem dX7_stops_16 : decode cX7_stops 16 = .ok (.imul, 1) := dk_104 (dk_at dksX7_stops_0 16 rfl rfl)
theorem dX7_stops_17 : decode cX7_stops 17 = .ok (.sipush 13849, 3) := dk_17 54 25 (dk_at dksX7_stops_0 17 rfl rfl)
theorem dX7_stops_20 : decode cX7_stops 20 = .ok (.iadd, 1) := dk_96 (dk_at dksX7_stops_0 20 rfl rfl)
theorem dX7_stops_21 : decode cX7_stops 21 = .ok (.ldc_w 338, 3) := dk_19 1 82 (dk_at dksX7_stops_0 21 rfl rfl)
theorem dX7_stops_24 : decode cX7_stops 24 = .ok (.irem, 1) := dk_112 (dk_at dksX7_stops_1 0 rfl rfl)
theorem dX7_stops_25 : decode cX7_stops 25 = .ok (.iastore, 1) := dk_79 (dk_at dksX7_stops_1 1 rfl rfl)
theorem dX7_stops_26 : decode cX7_stops 26 = .ok (.aload_n 0, 1) := dk_42 (dk_at dksX7_stops_1 2 rfl rfl)
theorem dX7_stops_27 : decode cX7_stops 27 = .ok (.getfield 7, 3) := dk_180 0 7 (dk_at dksX7_stops_1 3 rfl rfl)
theorem dX7_stops_30 : decode cX7_stops 30 = .ok (.bipush 25, 2) := dk_16 25 (dk_at dksX7_stops_1 6 rfl rfl)
theorem dX7_stops_32 : decode cX7_stops 32 = .ok (.iaload, 1) := dk_46 (dk_at dksX7_stops_1 8 rfl rfl)
theorem dX7_stops_33 : decode cX7_stops 33 = .ok (.bipush 10, 2) := dk_16 10 (dk_at dksX7_stops_1 9 rfl rfl)
theorem dX7_stops_35 : decode cX7_stops 35 = .ok (.irem, 1) := dk_112 (dk_at dksX7_stops_1 11 rfl rfl)
theorem dX7_stops_36 : decode cX7_stops 36 = .ok (.istore_n 3, 1) := dk_62 (dk_at dksX7_stops_1 12 rfl rfl)
theorem dX7_stops_37 : decode cX7_stops 37 = .ok (.aload_n 0, 1) := dk_42 (dk_at dksX7_stops_1 13 rfl rfl)
theorem dX7_stops_38 : decode cX7_stops 38 = .ok (.iload_n 1, 1) := dk_27 (dk_at dksX7_stops_1 14 rfl rfl)
theorem dX7_stops_39 : decode cX7_stops 39 = .ok (.iload_n 2, 1) := dk_28 (dk_at dksX7_stops_1 15 rfl rfl)
theorem dX7_stops_40 : decode cX7_stops 40 = .ok (.iload_n 3, 1) := dk_29 (dk_at dksX7_stops_1 16 rfl rfl)
theorem dX7_stops_41 : decode cX7_stops 41 = .ok (.invokevirtual 328, 3) := dk_182 1 72 (dk_at dksX7_stops_1 17 rfl rfl)
theorem dX7_stops_44 : decode cX7_stops 44 = .ok (.aload_n 0, 1) := dk_42 (dk_at dksX7_stops_1 20 rfl rfl)
theorem dX7_stops_45 : decode cX7_stops 45 = .ok (.bipush 100, 2) := dk_16 100 (dk_at dksX7_stops_1 21 rfl rfl)
theorem dX7_stops_47 : decode cX7_stops 47 = .ok (.bipush 60, 2) := dk_16 60 (dk_at dksX7_stops_2 0 rfl rfl)
theorem dX7_stops_49 : decode cX7_stops 49 = .ok (.invokevirtual 339, 3) := dk_182 1 83 (dk_at dksX7_stops_2 2 rfl rfl)
theorem dX7_stops_52 : decode cX7_stops 52 = .ok (.istore 4, 2) := dk_54 4 (dk_at dksX7_stops_2 5 rfl rfl)
theorem dX7_stops_54 : decode cX7_stops 54 = .ok (.aload_n 0, 1) := dk_42 (dk_at dksX7_stops_2 7 rfl rfl)
theorem dX7_stops_55 : decode cX7_stops 55 = .ok (.bipush 99, 2) := dk_16 99 (dk_at dksX7_stops_2 8 rfl rfl)
theorem dX7_stops_57 : decode cX7_stops 57 = .ok (.bipush 60, 2) := dk_16 60 (dk_at dksX7_stops_2 10 rfl rfl)
theorem dX7_stops_59 : decode cX7_stops 59 = .ok (.invokevirtual 339, 3) := dk_182 1 83 (dk_at dksX7_stops_2 12 rfl rfl)
theorem dX7_stops_62 : decode cX7_stops 62 = .ok (.istore 5, 2) := dk_54 5 (dk_at dksX7_stops_2 15 rfl rfl)
theorem dX7_stops_64 : decode cX7_stops 64 = .ok (.aload_n 0, 1) := dk_42 (dk_at dksX7_stops_2 17 rfl rfl)
theorem dX7_stops_65 : decode cX7_stops 65 = .ok (.getfield 117, 3) := dk_180 0 117 (dk_at dksX7_stops_2 18 rfl rfl)
theorem dX7_stops_68 : decode cX7_stops 68 = .ok (.iload_n 1, 1) := dk_27 (dk_at dksX7_stops_2 21 rfl rfl)
theorem dX7_stops_69 : decode cX7_stops 69 = .ok (.iconst 0, 1) := dk_3 (dk_at dksX7_stops_2 22 rfl rfl)
theorem dX7_stops_70 : decode cX7_stops 70 = .ok (.sipush 240, 3) := dk_17 0 240 (dk_at dksX7_stops_3 0 rfl rfl)
theorem dX7_stops_73 : decode cX7_stops 73 = .ok (.aload_n 0, 1) := dk_42 (dk_at dksX7_stops_3 3 rfl rfl)
theorem dX7_stops_74 : decode cX7_stops 74 = .ok (.getfield 117, 3) := dk_180 0 117 (dk_at dksX7_stops_3 4 rfl rfl)
theorem dX7_stops_77 : decode cX7_stops 77 = .ok (.iload_n 1, 1) := dk_27 (dk_at dksX7_stops_3 7 rfl rfl)
theorem dX7_stops_78 : decode cX7_stops 78 = .ok (.iaload, 1) := dk_46 (dk_at dksX7_stops_3 8 rfl rfl)
theorem dX7_stops_79 : decode cX7_stops 79 = .ok (.iload 4, 2) := dk_21 4 (dk_at dksX7_stops_3 9 rfl rfl)
theorem dX7_stops_81 : decode cX7_stops 81 = .ok (.iadd, 1) := dk_96 (dk_at dksX7_stops_3 11 rfl rfl)
theorem dX7_stops_82 : decode cX7_stops 82 = .ok (.iload 5, 2) := dk_21 5 (dk_at dksX7_stops_3 12 rfl rfl)
theorem dX7_stops_84 : decode cX7_stops 84 = .ok (.isub, 1) := dk_100 (dk_at dksX7_stops_3 14 rfl rfl)
theorem dX7_stops_85 : decode cX7_stops 85 = .ok (.invokestatic 322, 3) := dk_184 1 66 (dk_at dksX7_stops_3 15 rfl rfl)
theorem dX7_stops_88 : decode cX7_stops 88 = .ok (.invokestatic 342, 3) := dk_184 1 86 (dk_at dksX7_stops_3 18 rfl rfl)
theorem dX7_stops_91 : decode cX7_stops 91 = .ok (.iastore, 1) := dk_79 (dk_at dksX7_stops_3 21 rfl rfl)
theorem dX7_stops_92 : decode cX7_stops 92 = .ok (.aload_n 0, 1) := dk_42 (dk_at dksX7_stops_3 22 rfl rfl)
theorem dX7_stops_93 : decode cX7_stops 93 = .ok (.aload_n 0, 1) := dk_42 (dk_at dksX7_stops_3 23 rfl rfl)
theorem dX7_stops_94 : decode cX7_stops 94 = .ok (.getfield 345, 3) := dk_180 1 89 (dk_at dksX7_stops_4 0 rfl rfl)
theorem dX7_stops_97 : decode cX7_stops 97 = .ok (.aload_n 0, 1) := dk_42 (dk_at dksX7_stops_4 3 rfl rfl)
theorem dX7_stops_98 : decode cX7_stops 98 = .ok (.getfield 117, 3) := dk_180 0 117 (dk_at dksX7_stops_4 4 rfl rfl)
theorem dX7_stops_101 : decode cX7_stops 101 = .ok (.iload_n 1, 1) := dk_27 (dk_at dksX7_stops_4 7 rfl rfl)
theorem dX7_stops_102 : decode cX7_stops 102 = .ok (.iaload, 1) := dk_46 (dk_at dksX7_stops_4 8 rfl rfl)
theorem dX7_stops_103 : decode cX7_stops 103 = .ok (.invokestatic 342, 3) := dk_184 1 86 (dk_at dksX7_stops_4 9 rfl rfl)
theorem dX7_stops_106 : decode cX7_stops 106 = .ok (.putfield 345, 3) := dk_181 1 89 (dk_at dksX7_stops_4 12 rfl rfl)
theorem dX7_stops_109 : decode cX7_stops 109 = .ok (.aload_n 0, 1) := dk_42 (dk_at dksX7_stops_4 15 rfl rfl)
theorem dX7_stops_110 : decode cX7_stops 110 = .ok (.iload_n 1, 1) := dk_27 (dk_at dksX7_stops_4 16 rfl rfl)
theorem dX7_stops_111 : decode cX7_stops 111 = .ok (.aload_n 0, 1) := dk_42 (dk_at dksX7_stops_4 17 rfl rfl)
theorem dX7_stops_112 : decode cX7_stops 112 = .ok (.getfield 31, 3) := dk_180 0 31 (dk_at dksX7_stops_4 18 rfl rfl)
theorem dX7_stops_115 : decode cX7_stops 115 = .ok (.iload_n 1, 1) := dk_27 (dk_at dksX7_stops_4 21 rfl rfl)
theorem dX7_stops_116 : decode cX7_stops 116 = .ok (.iload_n 2, 1) := dk_28 (dk_at dksX7_stops_4 22 rfl rfl)
theorem dX7_stops_117 : decode cX7_stops 117 = .ok (.invokestatic 165, 3) := dk_184 0 165 (dk_at dksX7_stops_5 0 rfl rfl)
theorem dX7_stops_120 : decode cX7_stops 120 = .ok (.iaload, 1) := dk_46 (dk_at dksX7_stops_5 3 rfl rfl)
theorem dX7_stops_121 : decode cX7_stops 121 = .ok (.invokevirtual 348, 3) := dk_182 1 92 (dk_at dksX7_stops_5 4 rfl rfl)
theorem dX7_stops_124 : decode cX7_stops 124 = .ok (.iconst 0, 1) := dk_3 (dk_at dksX7_stops_5 7 rfl rfl)
theorem dX7_stops_125 : decode cX7_stops 125 = .ok (.istore 6, 2) := dk_54 6 (dk_at dksX7_stops_5 8 rfl rfl)
theorem dX7_stops_127 : decode cX7_stops 127 = .ok (.iload 6, 2) := dk_21 6 (dk_at dksX7_stops_5 10 rfl rfl)
theorem dX7_stops_129 : decode cX7_stops 129 = .ok (.bipush 12, 2) := dk_16 12 (dk_at dksX7_stops_5 12 rfl rfl)
theorem dX7_stops_131 : decode cX7_stops 131 = .ok (.if_icmp .ge 30, 3) := dk_162 0 30 (dk_at dksX7_stops_5 14 rfl rfl)
theorem dX7_stops_134 : decode cX7_stops 134 = .ok (.iload_n 2, 1) := dk_28 (dk_at dksX7_stops_5 17 rfl rfl)
theorem dX7_stops_135 : decode cX7_stops 135 = .ok (.aload_n 0, 1) := dk_42 (dk_at dksX7_stops_5 18 rfl rfl)
theorem dX7_stops_136 : decode cX7_stops 136 = .ok (.getfield 28, 3) := dk_180 0 28 (dk_at dksX7_stops_5 19 rfl rfl)
theorem dX7_stops_139 : decode cX7_stops 139 = .ok (.iload_n 1, 1) := dk_27 (dk_at dksX7_stops_5 22 rfl rfl)
theorem dX7_stops_140 : decode cX7_stops 140 = .ok (.iaload, 1) := dk_46 (dk_at dksX7_stops_5 23 rfl rfl)
theorem dX7_stops_141 : decode cX7_stops 141 = .ok (.iconst 1, 1) := dk_4 (dk_at dksX7_stops_6 0 rfl rfl)
theorem dX7_stops_142 : decode cX7_stops 142 = .ok (.isub, 1) := dk_100 (dk_at dksX7_stops_6 1 rfl rfl)
theorem dX7_stops_143 : decode cX7_stops 143 = .ok (.if_icmp .ge 18, 3) := dk_162 0 18 (dk_at dksX7_stops_6 2 rfl rfl)
theorem dX7_stops_146 : decode cX7_stops 146 = .ok (.aload_n 0, 1) := dk_42 (dk_at dksX7_stops_6 5 rfl rfl)
theorem dX7_stops_147 : decode cX7_stops 147 = .ok (.iload 6, 2) := dk_21 6 (dk_at dksX7_stops_6 6 rfl rfl)
theorem dX7_stops_149 : decode cX7_stops 149 = .ok (.iload_n 1, 1) := dk_27 (dk_at dksX7_stops_6 8 rfl rfl)
theorem dX7_stops_150 : decode cX7_stops 150 = .ok (.iload_n 2, 1) := dk_28 (dk_at dksX7_stops_6 9 rfl rfl)
theorem dX7_stops_151 : decode cX7_stops 151 = .ok (.iload_n 3, 1) := dk_29 (dk_at dksX7_stops_6 10 rfl rfl)
theorem dX7_stops_152 : decode cX7_stops 152 = .ok (.invokevirtual 351, 3) := dk_182 1 95 (dk_at dksX7_stops_6 11 rfl rfl)
theorem dX7_stops_155 : decode cX7_stops 155 = .ok (.iinc 6 1, 3) := dk_132 6 1 (dk_at dksX7_stops_6 14 rfl rfl)
theorem dX7_stops_158 : decode cX7_stops 158 = .ok (.goto (-31), 3) := dk_167 255 225 (dk_at dksX7_stops_6 17 rfl rfl)
theorem dX7_stops_161 : decode cX7_stops 161 = .ok (.return_, 1) := dk_177 (dk_at dksX7_stops_6 20 rfl rfl)
abbrev cX7_feels : ByteArray := prog_21_method_56_code
def yX7_feels : MethodName := ⟨RX7, "feels", "(III)V"⟩
def dkwX7_feels_4 : List UInt8 := [29, 79, 177]
abbrev dktX7_feels_4 : List UInt8 := dkwX7_feels_4 ++ []
def dkwX7_feels_3 : List UInt8 := [79, 42, 180, 0, 90, 16, 7, 42, 180, 0, 7, 16, 24, 46, 16, 7, 112, 79, 42, 180, 0, 90, 16, 8]
abbrev dktX7_feels_3 : List UInt8 := dkwX7_feels_3 ++ dktX7_feels_4
def dkwX7_feels_2 : List UInt8 := [42, 180, 0, 90, 4, 46, 182, 1, 63, 79, 42, 180, 0, 90, 8, 3, 79, 42, 180, 0, 90, 16, 6, 3]
abbrev dktX7_feels_2 : List UInt8 := dkwX7_feels_2 ++ dktX7_feels_3
def dkwX7_feels_1 : List UInt8 := [180, 0, 90, 5, 28, 79, 42, 180, 0, 90, 6, 42, 180, 0, 117, 27, 46, 79, 42, 180, 0, 90, 7, 42]
abbrev dktX7_feels_1 : List UInt8 := dkwX7_feels_1 ++ dktX7_feels_2
def dkwX7_feels_0 : List UInt8 := [42, 180, 0, 90, 3, 27, 79, 42, 180, 0, 90, 4, 42, 180, 0, 31, 27, 28, 184, 0, 165, 46, 79, 42]
abbrev dktX7_feels_0 : List UInt8 := dkwX7_feels_0 ++ dktX7_feels_1
theorem dksX7_feels_0 : cX7_feels.data.toList.drop 0 = dktX7_feels_0 := by decide +kernel
theorem dksX7_feels_1 : cX7_feels.data.toList.drop 24 = dktX7_feels_1 := dk_seg dksX7_feels_0 24 rfl rfl
theorem dksX7_feels_2 : cX7_feels.data.toList.drop 48 = dktX7_feels_2 := dk_seg dksX7_feels_1 24 rfl rfl
theorem dksX7_feels_3 : cX7_feels.data.toList.drop 72 = dktX7_feels_3 := dk_seg dksX7_feels_2 24 rfl rfl
theorem dksX7_feels_4 : cX7_feels.data.toList.drop 96 = dktX7_feels_4 := dk_seg dksX7_feels_3 24 rfl rfl
theorem dX7_feels_0 : decode cX7_feels 0 = .ok (.aload_n 0, 1) := dk_42 (dk_at dksX7_feels_0 0 rfl rfl)
theorem dX7_feels_1 : decode cX7_feels 1 = .ok (.getfield 90, 3) := dk_180 0 90 (dk_at dksX7_feels_0 1 rfl rfl)
theorem dX7_feels_4 : decode cX7_feels 4 = .ok (.iconst 0, 1) := dk_3 (dk_at dksX7_feels_0 4 rfl rfl)
theorem dX7_feels_5 : decode cX7_feels 5 = .ok (.iload_n 1, 1) := dk_27 (dk_at dksX7_feels_0 5 rfl rfl)
theorem dX7_feels_6 : decode cX7_feels 6 = .ok (.iastore, 1) := dk_79 (dk_at dksX7_feels_0 6 rfl rfl)
theorem dX7_feels_7 : decode cX7_feels 7 = .ok (.aload_n 0, 1) := dk_42 (dk_at dksX7_feels_0 7 rfl rfl)
theorem dX7_feels_8 : decode cX7_feels 8 = .ok (.getfield 90, 3) := dk_180 0 90 (dk_at dksX7_feels_0 8 rfl rfl)
theorem dX7_feels_11 : decode cX7_feels 11 = .ok (.iconst 1, 1) := dk_4 (dk_at dksX7_feels_0 11 rfl rfl)
theorem dX7_feels_12 : decode cX7_feels 12 = .ok (.aload_n 0, 1) := dk_42 (dk_at dksX7_feels_0 12 rfl rfl)
theorem dX7_feels_13 : decode cX7_feels 13 = .ok (.getfield 31, 3) := dk_180 0 31 (dk_at dksX7_feels_0 13 rfl rfl)
theorem dX7_feels_16 : decode cX7_feels 16 = .ok (.iload_n 1, 1) := dk_27 (dk_at dksX7_feels_0 16 rfl rfl)
theorem dX7_feels_17 : decode cX7_feels 17 = .ok (.iload_n 2, 1) := dk_28 (dk_at dksX7_feels_0 17 rfl rfl)
theorem dX7_feels_18 : decode cX7_feels 18 = .ok (.invokestatic 165, 3) := dk_184 0 165 (dk_at dksX7_feels_0 18 rfl rfl)
theorem dX7_feels_21 : decode cX7_feels 21 = .ok (.iaload, 1) := dk_46 (dk_at dksX7_feels_0 21 rfl rfl)
theorem dX7_feels_22 : decode cX7_feels 22 = .ok (.iastore, 1) := dk_79 (dk_at dksX7_feels_0 22 rfl rfl)
theorem dX7_feels_23 : decode cX7_feels 23 = .ok (.aload_n 0, 1) := dk_42 (dk_at dksX7_feels_0 23 rfl rfl)
theorem dX7_feels_24 : decode cX7_feels 24 = .ok (.getfield 90, 3) := dk_180 0 90 (dk_at dksX7_feels_1 0 rfl rfl)
theorem dX7_feels_27 : decode cX7_feels 27 = .ok (.iconst 2, 1) := dk_5 (dk_at dksX7_feels_1 3 rfl rfl)
theorem dX7_feels_28 : decode cX7_feels 28 = .ok (.iload_n 2, 1) := dk_28 (dk_at dksX7_feels_1 4 rfl rfl)
theorem dX7_feels_29 : decode cX7_feels 29 = .ok (.iastore, 1) := dk_79 (dk_at dksX7_feels_1 5 rfl rfl)
theorem dX7_feels_30 : decode cX7_feels 30 = .ok (.aload_n 0, 1) := dk_42 (dk_at dksX7_feels_1 6 rfl rfl)
theorem dX7_feels_31 : decode cX7_feels 31 = .ok (.getfield 90, 3) := dk_180 0 90 (dk_at dksX7_feels_1 7 rfl rfl)
theorem dX7_feels_34 : decode cX7_feels 34 = .ok (.iconst 3, 1) := dk_6 (dk_at dksX7_feels_1 10 rfl rfl)
theorem dX7_feels_35 : decode cX7_feels 35 = .ok (.aload_n 0, 1) := dk_42 (dk_at dksX7_feels_1 11 rfl rfl)
theorem dX7_feels_36 : decode cX7_feels 36 = .ok (.getfield 117, 3) := dk_180 0 117 (dk_at dksX7_feels_1 12 rfl rfl)
theorem dX7_feels_39 : decode cX7_feels 39 = .ok (.iload_n 1, 1) := dk_27 (dk_at dksX7_feels_1 15 rfl rfl)
theorem dX7_feels_40 : decode cX7_feels 40 = .ok (.iaload, 1) := dk_46 (dk_at dksX7_feels_1 16 rfl rfl)
theorem dX7_feels_41 : decode cX7_feels 41 = .ok (.iastore, 1) := dk_79 (dk_at dksX7_feels_1 17 rfl rfl)
theorem dX7_feels_42 : decode cX7_feels 42 = .ok (.aload_n 0, 1) := dk_42 (dk_at dksX7_feels_1 18 rfl rfl)
theorem dX7_feels_43 : decode cX7_feels 43 = .ok (.getfield 90, 3) := dk_180 0 90 (dk_at dksX7_feels_1 19 rfl rfl)
theorem dX7_feels_46 : decode cX7_feels 46 = .ok (.iconst 4, 1) := dk_7 (dk_at dksX7_feels_1 22 rfl rfl)
theorem dX7_feels_47 : decode cX7_feels 47 = .ok (.aload_n 0, 1) := dk_42 (dk_at dksX7_feels_1 23 rfl rfl)
theorem dX7_feels_48 : decode cX7_feels 48 = .ok (.aload_n 0, 1) := dk_42 (dk_at dksX7_feels_2 0 rfl rfl)
theorem dX7_feels_49 : decode cX7_feels 49 = .ok (.getfield 90, 3) := dk_180 0 90 (dk_at dksX7_feels_2 1 rfl rfl)
theorem dX7_feels_52 : decode cX7_feels 52 = .ok (.iconst 1, 1) := dk_4 (dk_at dksX7_feels_2 4 rfl rfl)
theorem dX7_feels_53 : decode cX7_feels 53 = .ok (.iaload, 1) := dk_46 (dk_at dksX7_feels_2 5 rfl rfl)
theorem dX7_feels_54 : decode cX7_feels 54 = .ok (.invokevirtual 319, 3) := dk_182 1 63 (dk_at dksX7_feels_2 6 rfl rfl)
theorem dX7_feels_57 : decode cX7_feels 57 = .ok (.iastore, 1) := dk_79 (dk_at dksX7_feels_2 9 rfl rfl)
theorem dX7_feels_58 : decode cX7_feels 58 = .ok (.aload_n 0, 1) := dk_42 (dk_at dksX7_feels_2 10 rfl rfl)
theorem dX7_feels_59 : decode cX7_feels 59 = .ok (.getfield 90, 3) := dk_180 0 90 (dk_at dksX7_feels_2 11 rfl rfl)
theorem dX7_feels_62 : decode cX7_feels 62 = .ok (.iconst 5, 1) := dk_8 (dk_at dksX7_feels_2 14 rfl rfl)
theorem dX7_feels_63 : decode cX7_feels 63 = .ok (.iconst 0, 1) := dk_3 (dk_at dksX7_feels_2 15 rfl rfl)
theorem dX7_feels_64 : decode cX7_feels 64 = .ok (.iastore, 1) := dk_79 (dk_at dksX7_feels_2 16 rfl rfl)
theorem dX7_feels_65 : decode cX7_feels 65 = .ok (.aload_n 0, 1) := dk_42 (dk_at dksX7_feels_2 17 rfl rfl)
theorem dX7_feels_66 : decode cX7_feels 66 = .ok (.getfield 90, 3) := dk_180 0 90 (dk_at dksX7_feels_2 18 rfl rfl)
theorem dX7_feels_69 : decode cX7_feels 69 = .ok (.bipush 6, 2) := dk_16 6 (dk_at dksX7_feels_2 21 rfl rfl)
theorem dX7_feels_71 : decode cX7_feels 71 = .ok (.iconst 0, 1) := dk_3 (dk_at dksX7_feels_2 23 rfl rfl)
theorem dX7_feels_72 : decode cX7_feels 72 = .ok (.iastore, 1) := dk_79 (dk_at dksX7_feels_3 0 rfl rfl)
theorem dX7_feels_73 : decode cX7_feels 73 = .ok (.aload_n 0, 1) := dk_42 (dk_at dksX7_feels_3 1 rfl rfl)
theorem dX7_feels_74 : decode cX7_feels 74 = .ok (.getfield 90, 3) := dk_180 0 90 (dk_at dksX7_feels_3 2 rfl rfl)
theorem dX7_feels_77 : decode cX7_feels 77 = .ok (.bipush 7, 2) := dk_16 7 (dk_at dksX7_feels_3 5 rfl rfl)
theorem dX7_feels_79 : decode cX7_feels 79 = .ok (.aload_n 0, 1) := dk_42 (dk_at dksX7_feels_3 7 rfl rfl)
theorem dX7_feels_80 : decode cX7_feels 80 = .ok (.getfield 7, 3) := dk_180 0 7 (dk_at dksX7_feels_3 8 rfl rfl)
theorem dX7_feels_83 : decode cX7_feels 83 = .ok (.bipush 24, 2) := dk_16 24 (dk_at dksX7_feels_3 11 rfl rfl)
theorem dX7_feels_85 : decode cX7_feels 85 = .ok (.iaload, 1) := dk_46 (dk_at dksX7_feels_3 13 rfl rfl)
theorem dX7_feels_86 : decode cX7_feels 86 = .ok (.bipush 7, 2) := dk_16 7 (dk_at dksX7_feels_3 14 rfl rfl)
theorem dX7_feels_88 : decode cX7_feels 88 = .ok (.irem, 1) := dk_112 (dk_at dksX7_feels_3 16 rfl rfl)
theorem dX7_feels_89 : decode cX7_feels 89 = .ok (.iastore, 1) := dk_79 (dk_at dksX7_feels_3 17 rfl rfl)
theorem dX7_feels_90 : decode cX7_feels 90 = .ok (.aload_n 0, 1) := dk_42 (dk_at dksX7_feels_3 18 rfl rfl)
theorem dX7_feels_91 : decode cX7_feels 91 = .ok (.getfield 90, 3) := dk_180 0 90 (dk_at dksX7_feels_3 19 rfl rfl)
theorem dX7_feels_94 : decode cX7_feels 94 = .ok (.bipush 8, 2) := dk_16 8 (dk_at dksX7_feels_3 22 rfl rfl)
theorem dX7_feels_96 : decode cX7_feels 96 = .ok (.iload_n 3, 1) := dk_29 (dk_at dksX7_feels_4 0 rfl rfl)
theorem dX7_feels_97 : decode cX7_feels 97 = .ok (.iastore, 1) := dk_79 (dk_at dksX7_feels_4 1 rfl rfl)
theorem dX7_feels_98 : decode cX7_feels 98 = .ok (.return_, 1) := dk_177 (dk_at dksX7_feels_4 2 rfl rfl)
abbrev cX7_waitersAt : ByteArray := prog_21_method_55_code
def yX7_waitersAt : MethodName := ⟨RX7, "waitersAt", "(I)I"⟩
def dkwX7_waitersAt_2 : List UInt8 := [167, 255, 214, 28, 172]
abbrev dktX7_waitersAt_2 : List UInt8 := dkwX7_waitersAt_2 ++ []
def dkwX7_waitersAt_1 : List UInt8 := [46, 27, 160, 0, 17, 42, 180, 0, 114, 29, 46, 2, 160, 0, 7, 28, 4, 96, 61, 132, 3, 1]
abbrev dktX7_waitersAt_1 : List UInt8 := dkwX7_waitersAt_1 ++ dktX7_waitersAt_2
def dkwX7_waitersAt_0 : List UInt8 := [3, 61, 3, 62, 29, 16, 12, 162, 0, 42, 42, 180, 0, 43, 29, 51, 153, 0, 27, 42, 180, 0, 19, 29]
abbrev dktX7_waitersAt_0 : List UInt8 := dkwX7_waitersAt_0 ++ dktX7_waitersAt_1
theorem dksX7_waitersAt_0 : cX7_waitersAt.data.toList.drop 0 = dktX7_waitersAt_0 := by decide +kernel
theorem dksX7_waitersAt_1 : cX7_waitersAt.data.toList.drop 24 = dktX7_waitersAt_1 := dk_seg dksX7_waitersAt_0 24 rfl rfl
theorem dksX7_waitersAt_2 : cX7_waitersAt.data.toList.drop 46 = dktX7_waitersAt_2 := dk_seg dksX7_waitersAt_1 22 rfl rfl
theorem dX7_waitersAt_0 : decode cX7_waitersAt 0 = .ok (.iconst 0, 1) := dk_3 (dk_at dksX7_waitersAt_0 0 rfl rfl)
theorem dX7_waitersAt_1 : decode cX7_waitersAt 1 = .ok (.istore_n 2, 1) := dk_61 (dk_at dksX7_waitersAt_0 1 rfl rfl)
theorem dX7_waitersAt_2 : decode cX7_waitersAt 2 = .ok (.iconst 0, 1) := dk_3 (dk_at dksX7_waitersAt_0 2 rfl rfl)
theorem dX7_waitersAt_3 : decode cX7_waitersAt 3 = .ok (.istore_n 3, 1) := dk_62 (dk_at dksX7_waitersAt_0 3 rfl rfl)
theorem dX7_waitersAt_4 : decode cX7_waitersAt 4 = .ok (.iload_n 3, 1) := dk_29 (dk_at dksX7_waitersAt_0 4 rfl rfl)
theorem dX7_waitersAt_5 : decode cX7_waitersAt 5 = .ok (.bipush 12, 2) := dk_16 12 (dk_at dksX7_waitersAt_0 5 rfl rfl)
theorem dX7_waitersAt_7 : decode cX7_waitersAt 7 = .ok (.if_icmp .ge 42, 3) := dk_162 0 42 (dk_at dksX7_waitersAt_0 7 rfl rfl)
theorem dX7_waitersAt_10 : decode cX7_waitersAt 10 = .ok (.aload_n 0, 1) := dk_42 (dk_at dksX7_waitersAt_0 10 rfl rfl)
theorem dX7_waitersAt_11 : decode cX7_waitersAt 11 = .ok (.getfield 43, 3) := dk_180 0 43 (dk_at dksX7_waitersAt_0 11 rfl rfl)
theorem dX7_waitersAt_14 : decode cX7_waitersAt 14 = .ok (.iload_n 3, 1) := dk_29 (dk_at dksX7_waitersAt_0 14 rfl rfl)
theorem dX7_waitersAt_15 : decode cX7_waitersAt 15 = .ok (.baload, 1) := dk_51 (dk_at dksX7_waitersAt_0 15 rfl rfl)
theorem dX7_waitersAt_16 : decode cX7_waitersAt 16 = .ok (.ifCond .eq 27, 3) := dk_153 0 27 (dk_at dksX7_waitersAt_0 16 rfl rfl)
theorem dX7_waitersAt_19 : decode cX7_waitersAt 19 = .ok (.aload_n 0, 1) := dk_42 (dk_at dksX7_waitersAt_0 19 rfl rfl)
theorem dX7_waitersAt_20 : decode cX7_waitersAt 20 = .ok (.getfield 19, 3) := dk_180 0 19 (dk_at dksX7_waitersAt_0 20 rfl rfl)
theorem dX7_waitersAt_23 : decode cX7_waitersAt 23 = .ok (.iload_n 3, 1) := dk_29 (dk_at dksX7_waitersAt_0 23 rfl rfl)
theorem dX7_waitersAt_24 : decode cX7_waitersAt 24 = .ok (.iaload, 1) := dk_46 (dk_at dksX7_waitersAt_1 0 rfl rfl)
theorem dX7_waitersAt_25 : decode cX7_waitersAt 25 = .ok (.iload_n 1, 1) := dk_27 (dk_at dksX7_waitersAt_1 1 rfl rfl)
theorem dX7_waitersAt_26 : decode cX7_waitersAt 26 = .ok (.if_icmp .ne 17, 3) := dk_160 0 17 (dk_at dksX7_waitersAt_1 2 rfl rfl)
theorem dX7_waitersAt_29 : decode cX7_waitersAt 29 = .ok (.aload_n 0, 1) := dk_42 (dk_at dksX7_waitersAt_1 5 rfl rfl)
theorem dX7_waitersAt_30 : decode cX7_waitersAt 30 = .ok (.getfield 114, 3) := dk_180 0 114 (dk_at dksX7_waitersAt_1 6 rfl rfl)
theorem dX7_waitersAt_33 : decode cX7_waitersAt 33 = .ok (.iload_n 3, 1) := dk_29 (dk_at dksX7_waitersAt_1 9 rfl rfl)
theorem dX7_waitersAt_34 : decode cX7_waitersAt 34 = .ok (.iaload, 1) := dk_46 (dk_at dksX7_waitersAt_1 10 rfl rfl)
theorem dX7_waitersAt_35 : decode cX7_waitersAt 35 = .ok (.iconst (-1), 1) := dk_2 (dk_at dksX7_waitersAt_1 11 rfl rfl)
theorem dX7_waitersAt_36 : decode cX7_waitersAt 36 = .ok (.if_icmp .ne 7, 3) := dk_160 0 7 (dk_at dksX7_waitersAt_1 12 rfl rfl)
theorem dX7_waitersAt_39 : decode cX7_waitersAt 39 = .ok (.iload_n 2, 1) := dk_28 (dk_at dksX7_waitersAt_1 15 rfl rfl)
theorem dX7_waitersAt_40 : decode cX7_waitersAt 40 = .ok (.iconst 1, 1) := dk_4 (dk_at dksX7_waitersAt_1 16 rfl rfl)
theorem dX7_waitersAt_41 : decode cX7_waitersAt 41 = .ok (.iadd, 1) := dk_96 (dk_at dksX7_waitersAt_1 17 rfl rfl)
theorem dX7_waitersAt_42 : decode cX7_waitersAt 42 = .ok (.istore_n 2, 1) := dk_61 (dk_at dksX7_waitersAt_1 18 rfl rfl)
theorem dX7_waitersAt_43 : decode cX7_waitersAt 43 = .ok (.iinc 3 1, 3) := dk_132 3 1 (dk_at dksX7_waitersAt_1 19 rfl rfl)
theorem dX7_waitersAt_46 : decode cX7_waitersAt 46 = .ok (.goto (-42), 3) := dk_167 255 214 (dk_at dksX7_waitersAt_2 0 rfl rfl)
theorem dX7_waitersAt_49 : decode cX7_waitersAt 49 = .ok (.iload_n 2, 1) := dk_28 (dk_at dksX7_waitersAt_2 3 rfl rfl)
theorem dX7_waitersAt_50 : decode cX7_waitersAt 50 = .ok (.ireturn, 1) := dk_172 (dk_at dksX7_waitersAt_2 4 rfl rfl)
abbrev cX7_byLaw : ByteArray := prog_21_method_45_code
def yX7_byLaw : MethodName := ⟨RX7, "byLaw", "(II)I"⟩
def dkwX7_byLaw_3 : List UInt8 := [167, 0, 15, 21, 4, 28, 164, 0, 7, 28, 167, 0, 5, 21, 4, 172, 132, 3, 1, 167, 255, 172, 3, 172]
abbrev dktX7_byLaw_3 : List UInt8 := dkwX7_byLaw_3 ++ []
def dkwX7_byLaw_2 : List UInt8 := [180, 0, 78, 29, 46, 42, 180, 0, 81, 29, 46, 182, 1, 30, 54, 4, 21, 4, 156, 0, 7, 3]
abbrev dktX7_byLaw_2 : List UInt8 := dkwX7_byLaw_2 ++ dktX7_byLaw_3
def dkwX7_byLaw_1 : List UInt8 := [180, 0, 81, 29, 46, 42, 180, 0, 84, 29, 46, 182, 1, 30, 4, 159, 0, 6, 167, 0, 43, 42, 42]
abbrev dktX7_byLaw_1 : List UInt8 := dkwX7_byLaw_1 ++ dktX7_byLaw_2
def dkwX7_byLaw_0 : List UInt8 := [3, 62, 29, 42, 180, 1, 23, 162, 0, 82, 42, 180, 0, 75, 29, 46, 27, 160, 0, 66, 42, 42]
abbrev dktX7_byLaw_0 : List UInt8 := dkwX7_byLaw_0 ++ dktX7_byLaw_1
theorem dksX7_byLaw_0 : cX7_byLaw.data.toList.drop 0 = dktX7_byLaw_0 := by decide +kernel
theorem dksX7_byLaw_1 : cX7_byLaw.data.toList.drop 22 = dktX7_byLaw_1 := dk_seg dksX7_byLaw_0 22 rfl rfl
theorem dksX7_byLaw_2 : cX7_byLaw.data.toList.drop 45 = dktX7_byLaw_2 := dk_seg dksX7_byLaw_1 23 rfl rfl
theorem dksX7_byLaw_3 : cX7_byLaw.data.toList.drop 67 = dktX7_byLaw_3 := dk_seg dksX7_byLaw_2 22 rfl rfl
theorem dX7_byLaw_0 : decode cX7_byLaw 0 = .ok (.iconst 0, 1) := dk_3 (dk_at dksX7_byLaw_0 0 rfl rfl)
theorem dX7_byLaw_1 : decode cX7_byLaw 1 = .ok (.istore_n 3, 1) := dk_62 (dk_at dksX7_byLaw_0 1 rfl rfl)
theorem dX7_byLaw_2 : decode cX7_byLaw 2 = .ok (.iload_n 3, 1) := dk_29 (dk_at dksX7_byLaw_0 2 rfl rfl)
theorem dX7_byLaw_3 : decode cX7_byLaw 3 = .ok (.aload_n 0, 1) := dk_42 (dk_at dksX7_byLaw_0 3 rfl rfl)
theorem dX7_byLaw_4 : decode cX7_byLaw 4 = .ok (.getfield 279, 3) := dk_180 1 23 (dk_at dksX7_byLaw_0 4 rfl rfl)
theorem dX7_byLaw_7 : decode cX7_byLaw 7 = .ok (.if_icmp .ge 82, 3) := dk_162 0 82 (dk_at dksX7_byLaw_0 7 rfl rfl)
theorem dX7_byLaw_10 : decode cX7_byLaw 10 = .ok (.aload_n 0, 1) := dk_42 (dk_at dksX7_byLaw_0 10 rfl rfl)
theorem dX7_byLaw_11 : decode cX7_byLaw 11 = .ok (.getfield 75, 3) := dk_180 0 75 (dk_at dksX7_byLaw_0 11 rfl rfl)
theorem dX7_byLaw_14 : decode cX7_byLaw 14 = .ok (.iload_n 3, 1) := dk_29 (dk_at dksX7_byLaw_0 14 rfl rfl)
theorem dX7_byLaw_15 : decode cX7_byLaw 15 = .ok (.iaload, 1) := dk_46 (dk_at dksX7_byLaw_0 15 rfl rfl)
theorem dX7_byLaw_16 : decode cX7_byLaw 16 = .ok (.iload_n 1, 1) := dk_27 (dk_at dksX7_byLaw_0 16 rfl rfl)
theorem dX7_byLaw_17 : decode cX7_byLaw 17 = .ok (.if_icmp .ne 66, 3) := dk_160 0 66 (dk_at dksX7_byLaw_0 17 rfl rfl)
theorem dX7_byLaw_20 : decode cX7_byLaw 20 = .ok (.aload_n 0, 1) := dk_42 (dk_at dksX7_byLaw_0 20 rfl rfl)
theorem dX7_byLaw_21 : decode cX7_byLaw 21 = .ok (.aload_n 0, 1) := dk_42 (dk_at dksX7_byLaw_0 21 rfl rfl)
theorem dX7_byLaw_22 : decode cX7_byLaw 22 = .ok (.getfield 81, 3) := dk_180 0 81 (dk_at dksX7_byLaw_1 0 rfl rfl)
theorem dX7_byLaw_25 : decode cX7_byLaw 25 = .ok (.iload_n 3, 1) := dk_29 (dk_at dksX7_byLaw_1 3 rfl rfl)
theorem dX7_byLaw_26 : decode cX7_byLaw 26 = .ok (.iaload, 1) := dk_46 (dk_at dksX7_byLaw_1 4 rfl rfl)
theorem dX7_byLaw_27 : decode cX7_byLaw 27 = .ok (.aload_n 0, 1) := dk_42 (dk_at dksX7_byLaw_1 5 rfl rfl)
theorem dX7_byLaw_28 : decode cX7_byLaw 28 = .ok (.getfield 84, 3) := dk_180 0 84 (dk_at dksX7_byLaw_1 6 rfl rfl)
theorem dX7_byLaw_31 : decode cX7_byLaw 31 = .ok (.iload_n 3, 1) := dk_29 (dk_at dksX7_byLaw_1 9 rfl rfl)
theorem dX7_byLaw_32 : decode cX7_byLaw 32 = .ok (.iaload, 1) := dk_46 (dk_at dksX7_byLaw_1 10 rfl rfl)
theorem dX7_byLaw_33 : decode cX7_byLaw 33 = .ok (.invokevirtual 286, 3) := dk_182 1 30 (dk_at dksX7_byLaw_1 11 rfl rfl)
theorem dX7_byLaw_36 : decode cX7_byLaw 36 = .ok (.iconst 1, 1) := dk_4 (dk_at dksX7_byLaw_1 14 rfl rfl)
theorem dX7_byLaw_37 : decode cX7_byLaw 37 = .ok (.if_icmp .eq 6, 3) := dk_159 0 6 (dk_at dksX7_byLaw_1 15 rfl rfl)
theorem dX7_byLaw_40 : decode cX7_byLaw 40 = .ok (.goto 43, 3) := dk_167 0 43 (dk_at dksX7_byLaw_1 18 rfl rfl)
theorem dX7_byLaw_43 : decode cX7_byLaw 43 = .ok (.aload_n 0, 1) := dk_42 (dk_at dksX7_byLaw_1 21 rfl rfl)
theorem dX7_byLaw_44 : decode cX7_byLaw 44 = .ok (.aload_n 0, 1) := dk_42 (dk_at dksX7_byLaw_1 22 rfl rfl)
theorem dX7_byLaw_45 : decode cX7_byLaw 45 = .ok (.getfield 78, 3) := dk_180 0 78 (dk_at dksX7_byLaw_2 0 rfl rfl)
theorem dX7_byLaw_48 : decode cX7_byLaw 48 = .ok (.iload_n 3, 1) := dk_29 (dk_at dksX7_byLaw_2 3 rfl rfl)
theorem dX7_byLaw_49 : decode cX7_byLaw 49 = .ok (.iaload, 1) := dk_46 (dk_at dksX7_byLaw_2 4 rfl rfl)
theorem dX7_byLaw_50 : decode cX7_byLaw 50 = .ok (.aload_n 0, 1) := dk_42 (dk_at dksX7_byLaw_2 5 rfl rfl)
theorem dX7_byLaw_51 : decode cX7_byLaw 51 = .ok (.getfield 81, 3) := dk_180 0 81 (dk_at dksX7_byLaw_2 6 rfl rfl)
theorem dX7_byLaw_54 : decode cX7_byLaw 54 = .ok (.iload_n 3, 1) := dk_29 (dk_at dksX7_byLaw_2 9 rfl rfl)
theorem dX7_byLaw_55 : decode cX7_byLaw 55 = .ok (.iaload, 1) := dk_46 (dk_at dksX7_byLaw_2 10 rfl rfl)
theorem dX7_byLaw_56 : decode cX7_byLaw 56 = .ok (.invokevirtual 286, 3) := dk_182 1 30 (dk_at dksX7_byLaw_2 11 rfl rfl)
theorem dX7_byLaw_59 : decode cX7_byLaw 59 = .ok (.istore 4, 2) := dk_54 4 (dk_at dksX7_byLaw_2 14 rfl rfl)
theorem dX7_byLaw_61 : decode cX7_byLaw 61 = .ok (.iload 4, 2) := dk_21 4 (dk_at dksX7_byLaw_2 16 rfl rfl)
theorem dX7_byLaw_63 : decode cX7_byLaw 63 = .ok (.ifCond .ge 7, 3) := dk_156 0 7 (dk_at dksX7_byLaw_2 18 rfl rfl)
theorem dX7_byLaw_66 : decode cX7_byLaw 66 = .ok (.iconst 0, 1) := dk_3 (dk_at dksX7_byLaw_2 21 rfl rfl)
theorem dX7_byLaw_67 : decode cX7_byLaw 67 = .ok (.goto 15, 3) := dk_167 0 15 (dk_at dksX7_byLaw_3 0 rfl rfl)
theorem dX7_byLaw_70 : decode cX7_byLaw 70 = .ok (.iload 4, 2) := dk_21 4 (dk_at dksX7_byLaw_3 3 rfl rfl)
theorem dX7_byLaw_72 : decode cX7_byLaw 72 = .ok (.iload_n 2, 1) := dk_28 (dk_at dksX7_byLaw_3 5 rfl rfl)
theorem dX7_byLaw_73 : decode cX7_byLaw 73 = .ok (.if_icmp .le 7, 3) := dk_164 0 7 (dk_at dksX7_byLaw_3 6 rfl rfl)
theorem dX7_byLaw_76 : decode cX7_byLaw 76 = .ok (.iload_n 2, 1) := dk_28 (dk_at dksX7_byLaw_3 9 rfl rfl)
theorem dX7_byLaw_77 : decode cX7_byLaw 77 = .ok (.goto 5, 3) := dk_167 0 5 (dk_at dksX7_byLaw_3 10 rfl rfl)
theorem dX7_byLaw_80 : decode cX7_byLaw 80 = .ok (.iload 4, 2) := dk_21 4 (dk_at dksX7_byLaw_3 13 rfl rfl)
theorem dX7_byLaw_82 : decode cX7_byLaw 82 = .ok (.ireturn, 1) := dk_172 (dk_at dksX7_byLaw_3 15 rfl rfl)
theorem dX7_byLaw_83 : decode cX7_byLaw 83 = .ok (.iinc 3 1, 3) := dk_132 3 1 (dk_at dksX7_byLaw_3 16 rfl rfl)
theorem dX7_byLaw_86 : decode cX7_byLaw 86 = .ok (.goto (-84), 3) := dk_167 255 172 (dk_at dksX7_byLaw_3 19 rfl rfl)
theorem dX7_byLaw_89 : decode cX7_byLaw 89 = .ok (.iconst 0, 1) := dk_3 (dk_at dksX7_byLaw_3 22 rfl rfl)
theorem dX7_byLaw_90 : decode cX7_byLaw 90 = .ok (.ireturn, 1) := dk_172 (dk_at dksX7_byLaw_3 23 rfl rfl)
abbrev cX7_reckonsTo : ByteArray := prog_21_method_44_code
def yX7_reckonsTo : MethodName := ⟨RX7, "reckonsTo", "(II)I"⟩
def dkwX7_reckonsTo_10 : List UInt8 := [3, 46, 172]
abbrev dktX7_reckonsTo_10 : List UInt8 := dkwX7_reckonsTo_10 ++ []
def dkwX7_reckonsTo_9 : List UInt8 := [180, 0, 87, 29, 4, 100, 46, 42, 180, 0, 87, 29, 46, 184, 1, 26, 79, 167, 255, 42, 42, 180, 0, 87]
abbrev dktX7_reckonsTo_9 : List UInt8 := dkwX7_reckonsTo_9 ++ dktX7_reckonsTo_10
def dkwX7_reckonsTo_8 : List UInt8 := [160, 0, 14, 42, 180, 0, 87, 29, 46, 154, 0, 5, 3, 172, 42, 180, 0, 87, 29, 4, 100, 21, 6, 42]
abbrev dktX7_reckonsTo_8 : List UInt8 := dkwX7_reckonsTo_8 ++ dktX7_reckonsTo_9
def dkwX7_reckonsTo_7 : List UInt8 := [167, 0, 65, 29, 4, 100, 62, 167, 0, 58, 29, 4, 100, 62, 21, 6, 8, 159, 0, 10, 21, 6, 16, 6]
abbrev dktX7_reckonsTo_7 : List UInt8 := dkwX7_reckonsTo_7 ++ dktX7_reckonsTo_8
def dkwX7_reckonsTo_6 : List UInt8 := [100, 46, 21, 6, 16, 12, 160, 0, 7, 4, 167, 0, 4, 3, 160, 0, 13, 21, 4, 21, 7, 96, 54, 5]
abbrev dktX7_reckonsTo_6 : List UInt8 := dkwX7_reckonsTo_6 ++ dktX7_reckonsTo_7
def dkwX7_reckonsTo_5 : List UInt8 := [79, 167, 0, 112, 21, 6, 16, 11, 159, 0, 10, 21, 6, 16, 12, 160, 0, 43, 42, 180, 0, 87, 29, 4]
abbrev dktX7_reckonsTo_5 : List UInt8 := dkwX7_reckonsTo_5 ++ dktX7_reckonsTo_6
def dkwX7_reckonsTo_4 : List UInt8 := [21, 6, 16, 10, 160, 0, 24, 42, 180, 0, 87, 29, 4, 100, 4, 42, 180, 0, 87, 29, 4, 100, 46, 100]
abbrev dktX7_reckonsTo_4 : List UInt8 := dkwX7_reckonsTo_4 ++ dktX7_reckonsTo_5
def dkwX7_reckonsTo_3 : List UInt8 := [154, 0, 8, 21, 7, 167, 0, 10, 42, 180, 0, 90, 21, 7, 46, 79, 29, 4, 96, 62, 167, 0, 140]
abbrev dktX7_reckonsTo_3 : List UInt8 := dkwX7_reckonsTo_3 ++ dktX7_reckonsTo_4
def dkwX7_reckonsTo_2 : List UInt8 := [21, 5, 4, 96, 54, 5, 21, 6, 153, 0, 9, 21, 6, 4, 160, 0, 33, 42, 180, 0, 87, 29, 21, 6]
abbrev dktX7_reckonsTo_2 : List UInt8 := dkwX7_reckonsTo_2 ++ dktX7_reckonsTo_3
def dkwX7_reckonsTo_1 : List UInt8 := [180, 0, 72, 21, 5, 46, 18, 212, 108, 54, 6, 42, 180, 0, 72, 21, 5, 46, 18, 212, 112, 54, 7]
abbrev dktX7_reckonsTo_1 : List UInt8 := dkwX7_reckonsTo_1 ++ dktX7_reckonsTo_2
def dkwX7_reckonsTo_0 : List UInt8 := [3, 62, 17, 1, 4, 27, 17, 1, 4, 108, 104, 54, 4, 27, 54, 5, 21, 5, 28, 162, 0, 214, 42]
abbrev dktX7_reckonsTo_0 : List UInt8 := dkwX7_reckonsTo_0 ++ dktX7_reckonsTo_1
theorem dksX7_reckonsTo_0 : cX7_reckonsTo.data.toList.drop 0 = dktX7_reckonsTo_0 := by decide +kernel
theorem dksX7_reckonsTo_1 : cX7_reckonsTo.data.toList.drop 23 = dktX7_reckonsTo_1 := dk_seg dksX7_reckonsTo_0 23 rfl rfl
theorem dksX7_reckonsTo_2 : cX7_reckonsTo.data.toList.drop 46 = dktX7_reckonsTo_2 := dk_seg dksX7_reckonsTo_1 23 rfl rfl
theorem dksX7_reckonsTo_3 : cX7_reckonsTo.data.toList.drop 70 = dktX7_reckonsTo_3 := dk_seg dksX7_reckonsTo_2 24 rfl rfl
theorem dksX7_reckonsTo_4 : cX7_reckonsTo.data.toList.drop 93 = dktX7_reckonsTo_4 := dk_seg dksX7_reckonsTo_3 23 rfl rfl
theorem dksX7_reckonsTo_5 : cX7_reckonsTo.data.toList.drop 117 = dktX7_reckonsTo_5 := dk_seg dksX7_reckonsTo_4 24 rfl rfl
theorem dksX7_reckonsTo_6 : cX7_reckonsTo.data.toList.drop 141 = dktX7_reckonsTo_6 := dk_seg dksX7_reckonsTo_5 24 rfl rfl
theorem dksX7_reckonsTo_7 : cX7_reckonsTo.data.toList.drop 165 = dktX7_reckonsTo_7 := dk_seg dksX7_reckonsTo_6 24 rfl rfl
theorem dksX7_reckonsTo_8 : cX7_reckonsTo.data.toList.drop 189 = dktX7_reckonsTo_8 := dk_seg dksX7_reckonsTo_7 24 rfl rfl
theorem dksX7_reckonsTo_9 : cX7_reckonsTo.data.toList.drop 213 = dktX7_reckonsTo_9 := dk_seg dksX7_reckonsTo_8 24 rfl rfl
theorem dksX7_reckonsTo_10 : cX7_reckonsTo.data.toList.drop 237 = dktX7_reckonsTo_10 := dk_seg dksX7_reckonsTo_9 24 rfl rfl
theorem dX7_reckonsTo_0 : decode cX7_reckonsTo 0 = .ok (.iconst 0, 1) := dk_3 (dk_at dksX7_reckonsTo_0 0 rfl rfl)
theorem dX7_reckonsTo_1 : decode cX7_reckonsTo 1 = .ok (.istore_n 3, 1) := dk_62 (dk_at dksX7_reckonsTo_0 1 rfl rfl)
theorem dX7_reckonsTo_2 : decode cX7_reckonsTo 2 = .ok (.sipush 260, 3) := dk_17 1 4 (dk_at dksX7_reckonsTo_0 2 rfl rfl)
theorem dX7_reckonsTo_5 : decode cX7_reckonsTo 5 = .ok (.iload_n 1, 1) := dk_27 (dk_at dksX7_reckonsTo_0 5 rfl rfl)
theorem dX7_reckonsTo_6 : decode cX7_reckonsTo 6 = .ok (.sipush 260, 3) := dk_17 1 4 (dk_at dksX7_reckonsTo_0 6 rfl rfl)
theorem dX7_reckonsTo_9 : decode cX7_reckonsTo 9 = .ok (.idiv, 1) := dk_108 (dk_at dksX7_reckonsTo_0 9 rfl rfl)
theorem dX7_reckonsTo_10 : decode cX7_reckonsTo 10 = .ok (.imul, 1) := dk_104 (dk_at dksX7_reckonsTo_0 10 rfl rfl)
theorem dX7_reckonsTo_11 : decode cX7_reckonsTo 11 = .ok (.istore 4, 2) := dk_54 4 (dk_at dksX7_reckonsTo_0 11 rfl rfl)
theorem dX7_reckonsTo_13 : decode cX7_reckonsTo 13 = .ok (.iload_n 1, 1) := dk_27 (dk_at dksX7_reckonsTo_0 13 rfl rfl)
theorem dX7_reckonsTo_14 : decode cX7_reckonsTo 14 = .ok (.istore 5, 2) := dk_54 5 (dk_at dksX7_reckonsTo_0 14 rfl rfl)
theorem dX7_reckonsTo_16 : decode cX7_reckonsTo 16 = .ok (.iload 5, 2) := dk_21 5 (dk_at dksX7_reckonsTo_0 16 rfl rfl)
theorem dX7_reckonsTo_18 : decode cX7_reckonsTo 18 = .ok (.iload_n 2, 1) := dk_28 (dk_at dksX7_reckonsTo_0 18 rfl rfl)
theorem dX7_reckonsTo_19 : decode cX7_reckonsTo 19 = .ok (.if_icmp .ge 214, 3) := dk_162 0 214 (dk_at dksX7_reckonsTo_0 19 rfl rfl)
theorem dX7_reckonsTo_22 : decode cX7_reckonsTo 22 = .ok (.aload_n 0, 1) := dk_42 (dk_at dksX7_reckonsTo_0 22 rfl rfl)
theorem dX7_reckonsTo_23 : decode cX7_reckonsTo 23 = .ok (.getfield 72, 3) := dk_180 0 72 (dk_at dksX7_reckonsTo_1 0 rfl rfl)
theorem dX7_reckonsTo_26 : decode cX7_reckonsTo 26 = .ok (.iload 5, 2) := dk_21 5 (dk_at dksX7_reckonsTo_1 3 rfl rfl)
theorem dX7_reckonsTo_28 : decode cX7_reckonsTo 28 = .ok (.iaload, 1) := dk_46 (dk_at dksX7_reckonsTo_1 5 rfl rfl)
theorem dX7_reckonsTo_29 : decode cX7_reckonsTo 29 = .ok (.ldc 212, 2) := dk_18 212 (dk_at dksX7_reckonsTo_1 6 rfl rfl)
theorem dX7_reckonsTo_31 : decode cX7_reckonsTo 31 = .ok (.idiv, 1) := dk_108 (dk_at dksX7_reckonsTo_1 8 rfl rfl)
theorem dX7_reckonsTo_32 : decode cX7_reckonsTo 32 = .ok (.istore 6, 2) := dk_54 6 (dk_at dksX7_reckonsTo_1 9 rfl rfl)
theorem dX7_reckonsTo_34 : decode cX7_reckonsTo 34 = .ok (.aload_n 0, 1) := dk_42 (dk_at dksX7_reckonsTo_1 11 rfl rfl)
theorem dX7_reckonsTo_35 : decode cX7_reckonsTo 35 = .ok (.getfield 72, 3) := dk_180 0 72 (dk_at dksX7_reckonsTo_1 12 rfl rfl)
theorem dX7_reckonsTo_38 : decode cX7_reckonsTo 38 = .ok (.iload 5, 2) := dk_21 5 (dk_at dksX7_reckonsTo_1 15 rfl rfl)
theorem dX7_reckonsTo_40 : decode cX7_reckonsTo 40 = .ok (.iaload, 1) := dk_46 (dk_at dksX7_reckonsTo_1 17 rfl rfl)
theorem dX7_reckonsTo_41 : decode cX7_reckonsTo 41 = .ok (.ldc 212, 2) := dk_18 212 (dk_at dksX7_reckonsTo_1 18 rfl rfl)
theorem dX7_reckonsTo_43 : decode cX7_reckonsTo 43 = .ok (.irem, 1) := dk_112 (dk_at dksX7_reckonsTo_1 20 rfl rfl)
theorem dX7_reckonsTo_44 : decode cX7_reckonsTo 44 = .ok (.istore 7, 2) := dk_54 7 (dk_at dksX7_reckonsTo_1 21 rfl rfl)
theorem dX7_reckonsTo_46 : decode cX7_reckonsTo 46 = .ok (.iload 5, 2) := dk_21 5 (dk_at dksX7_reckonsTo_2 0 rfl rfl)
theorem dX7_reckonsTo_48 : decode cX7_reckonsTo 48 = .ok (.iconst 1, 1) := dk_4 (dk_at dksX7_reckonsTo_2 2 rfl rfl)
theorem dX7_reckonsTo_49 : decode cX7_reckonsTo 49 = .ok (.iadd, 1) := dk_96 (dk_at dksX7_reckonsTo_2 3 rfl rfl)
theorem dX7_reckonsTo_50 : decode cX7_reckonsTo 50 = .ok (.istore 5, 2) := dk_54 5 (dk_at dksX7_reckonsTo_2 4 rfl rfl)
theorem dX7_reckonsTo_52 : decode cX7_reckonsTo 52 = .ok (.iload 6, 2) := dk_21 6 (dk_at dksX7_reckonsTo_2 6 rfl rfl)
theorem dX7_reckonsTo_54 : decode cX7_reckonsTo 54 = .ok (.ifCond .eq 9, 3) := dk_153 0 9 (dk_at dksX7_reckonsTo_2 8 rfl rfl)
theorem dX7_reckonsTo_57 : decode cX7_reckonsTo 57 = .ok (.iload 6, 2) := dk_21 6 (dk_at dksX7_reckonsTo_2 11 rfl rfl)
theorem dX7_reckonsTo_59 : decode cX7_reckonsTo 59 = .ok (.iconst 1, 1) := dk_4 (dk_at dksX7_reckonsTo_2 13 rfl rfl)
theorem dX7_reckonsTo_60 : decode cX7_reckonsTo 60 = .ok (.if_icmp .ne 33, 3) := dk_160 0 33 (dk_at dksX7_reckonsTo_2 14 rfl rfl)
theorem dX7_reckonsTo_63 : decode cX7_reckonsTo 63 = .ok (.aload_n 0, 1) := dk_42 (dk_at dksX7_reckonsTo_2 17 rfl rfl)
theorem dX7_reckonsTo_64 : decode cX7_reckonsTo 64 = .ok (.getfield 87, 3) := dk_180 0 87 (dk_at dksX7_reckonsTo_2 18 rfl rfl)
theorem dX7_reckonsTo_67 : decode cX7_reckonsTo 67 = .ok (.iload_n 3, 1) := dk_29 (dk_at dksX7_reckonsTo_2 21 rfl rfl)
theorem dX7_reckonsTo_68 : decode cX7_reckonsTo 68 = .ok (.iload 6, 2) := dk_21 6 (dk_at dksX7_reckonsTo_2 22 rfl rfl)
theorem dX7_reckonsTo_70 : decode cX7_reckonsTo 70 = .ok (.ifCond .ne 8, 3) := dk_154 0 8 (dk_at dksX7_reckonsTo_3 0 rfl rfl)
theorem dX7_reckonsTo_73 : decode cX7_reckonsTo 73 = .ok (.iload 7, 2) := dk_21 7 (dk_at dksX7_reckonsTo_3 3 rfl rfl)
theorem dX7_reckonsTo_75 : decode cX7_reckonsTo 75 = .ok (.goto 10, 3) := dk_167 0 10 (dk_at dksX7_reckonsTo_3 5 rfl rfl)
theorem dX7_reckonsTo_78 : decode cX7_reckonsTo 78 = .ok (.aload_n 0, 1) := dk_42 (dk_at dksX7_reckonsTo_3 8 rfl rfl)
theorem dX7_reckonsTo_79 : decode cX7_reckonsTo 79 = .ok (.getfield 90, 3) := dk_180 0 90 (dk_at dksX7_reckonsTo_3 9 rfl rfl)
theorem dX7_reckonsTo_82 : decode cX7_reckonsTo 82 = .ok (.iload 7, 2) := dk_21 7 (dk_at dksX7_reckonsTo_3 12 rfl rfl)
theorem dX7_reckonsTo_84 : decode cX7_reckonsTo 84 = .ok (.iaload, 1) := dk_46 (dk_at dksX7_reckonsTo_3 14 rfl rfl)
theorem dX7_reckonsTo_85 : decode cX7_reckonsTo 85 = .ok (.iastore, 1) := dk_79 (dk_at dksX7_reckonsTo_3 15 rfl rfl)
theorem dX7_reckonsTo_86 : decode cX7_reckonsTo 86 = .ok (.iload_n 3, 1) := dk_29 (dk_at dksX7_reckonsTo_3 16 rfl rfl)
theorem dX7_reckonsTo_87 : decode cX7_reckonsTo 87 = .ok (.iconst 1, 1) := dk_4 (dk_at dksX7_reckonsTo_3 17 rfl rfl)
theorem dX7_reckonsTo_88 : decode cX7_reckonsTo 88 = .ok (.iadd, 1) := dk_96 (dk_at dksX7_reckonsTo_3 18 rfl rfl)
theorem dX7_reckonsTo_89 : decode cX7_reckonsTo 89 = .ok (.istore_n 3, 1) := dk_62 (dk_at dksX7_reckonsTo_3 19 rfl rfl)
theorem dX7_reckonsTo_90 : decode cX7_reckonsTo 90 = .ok (.goto 140, 3) := dk_167 0 140 (dk_at dksX7_reckonsTo_3 20 rfl rfl)
theorem dX7_reckonsTo_93 : decode cX7_reckonsTo 93 = .ok (.iload 6, 2) := dk_21 6 (dk_at dksX7_reckonsTo_4 0 rfl rfl)
theorem dX7_reckonsTo_95 : decode cX7_reckonsTo 95 = .ok (.bipush 10, 2) := dk_16 10 (dk_at dksX7_reckonsTo_4 2 rfl rfl)
theorem dX7_reckonsTo_97 : decode cX7_reckonsTo 97 = .ok (.if_icmp .ne 24, 3) := dk_160 0 24 (dk_at dksX7_reckonsTo_4 4 rfl rfl)
theorem dX7_reckonsTo_100 : decode cX7_reckonsTo 100 = .ok (.aload_n 0, 1) := dk_42 (dk_at dksX7_reckonsTo_4 7 rfl rfl)
theorem dX7_reckonsTo_101 : decode cX7_reckonsTo 101 = .ok (.getfield 87, 3) := dk_180 0 87 (dk_at dksX7_reckonsTo_4 8 rfl rfl)
theorem dX7_reckonsTo_104 : decode cX7_reckonsTo 104 = .ok (.iload_n 3, 1) := dk_29 (dk_at dksX7_reckonsTo_4 11 rfl rfl)
theorem dX7_reckonsTo_105 : decode cX7_reckonsTo 105 = .ok (.iconst 1, 1) := dk_4 (dk_at dksX7_reckonsTo_4 12 rfl rfl)
theorem dX7_reckonsTo_106 : decode cX7_reckonsTo 106 = .ok (.isub, 1) := dk_100 (dk_at dksX7_reckonsTo_4 13 rfl rfl)
theorem dX7_reckonsTo_107 : decode cX7_reckonsTo 107 = .ok (.iconst 1, 1) := dk_4 (dk_at dksX7_reckonsTo_4 14 rfl rfl)
theorem dX7_reckonsTo_108 : decode cX7_reckonsTo 108 = .ok (.aload_n 0, 1) := dk_42 (dk_at dksX7_reckonsTo_4 15 rfl rfl)
theorem dX7_reckonsTo_109 : decode cX7_reckonsTo 109 = .ok (.getfield 87, 3) := dk_180 0 87 (dk_at dksX7_reckonsTo_4 16 rfl rfl)
theorem dX7_reckonsTo_112 : decode cX7_reckonsTo 112 = .ok (.iload_n 3, 1) := dk_29 (dk_at dksX7_reckonsTo_4 19 rfl rfl)
theorem dX7_reckonsTo_113 : decode cX7_reckonsTo 113 = .ok (.iconst 1, 1) := dk_4 (dk_at dksX7_reckonsTo_4 20 rfl rfl)
theorem dX7_reckonsTo_114 : decode cX7_reckonsTo 114 = .ok (.isub, 1) := dk_100 (dk_at dksX7_reckonsTo_4 21 rfl rfl)
theorem dX7_reckonsTo_115 : decode cX7_reckonsTo 115 = .ok (.iaload, 1) := dk_46 (dk_at dksX7_reckonsTo_4 22 rfl rfl)
theorem dX7_reckonsTo_116 : decode cX7_reckonsTo 116 = .ok (.isub, 1) := dk_100 (dk_at dksX7_reckonsTo_4 23 rfl rfl)
theorem dX7_reckonsTo_117 : decode cX7_reckonsTo 117 = .ok (.iastore, 1) := dk_79 (dk_at dksX7_reckonsTo_5 0 rfl rfl)
theorem dX7_reckonsTo_118 : decode cX7_reckonsTo 118 = .ok (.goto 112, 3) := dk_167 0 112 (dk_at dksX7_reckonsTo_5 1 rfl rfl)
theorem dX7_reckonsTo_121 : decode cX7_reckonsTo 121 = .ok (.iload 6, 2) := dk_21 6 (dk_at dksX7_reckonsTo_5 4 rfl rfl)
theorem dX7_reckonsTo_123 : decode cX7_reckonsTo 123 = .ok (.bipush 11, 2) := dk_16 11 (dk_at dksX7_reckonsTo_5 6 rfl rfl)
theorem dX7_reckonsTo_125 : decode cX7_reckonsTo 125 = .ok (.if_icmp .eq 10, 3) := dk_159 0 10 (dk_at dksX7_reckonsTo_5 8 rfl rfl)
theorem dX7_reckonsTo_128 : decode cX7_reckonsTo 128 = .ok (.iload 6, 2) := dk_21 6 (dk_at dksX7_reckonsTo_5 11 rfl rfl)
theorem dX7_reckonsTo_130 : decode cX7_reckonsTo 130 = .ok (.bipush 12, 2) := dk_16 12 (dk_at dksX7_reckonsTo_5 13 rfl rfl)
theorem dX7_reckonsTo_132 : decode cX7_reckonsTo 132 = .ok (.if_icmp .ne 43, 3) := dk_160 0 43 (dk_at dksX7_reckonsTo_5 15 rfl rfl)
theorem dX7_reckonsTo_135 : decode cX7_reckonsTo 135 = .ok (.aload_n 0, 1) := dk_42 (dk_at dksX7_reckonsTo_5 18 rfl rfl)
theorem dX7_reckonsTo_136 : decode cX7_reckonsTo 136 = .ok (.getfield 87, 3) := dk_180 0 87 (dk_at dksX7_reckonsTo_5 19 rfl rfl)
theorem dX7_reckonsTo_139 : decode cX7_reckonsTo 139 = .ok (.iload_n 3, 1) := dk_29 (dk_at dksX7_reckonsTo_5 22 rfl rfl)
theorem dX7_reckonsTo_140 : decode cX7_reckonsTo 140 = .ok (.iconst 1, 1) := dk_4 (dk_at dksX7_reckonsTo_5 23 rfl rfl)
theorem dX7_reckonsTo_141 : decode cX7_reckonsTo 141 = .ok (.isub, 1) := dk_100 (dk_at dksX7_reckonsTo_6 0 rfl rfl)
theorem dX7_reckonsTo_142 : decode cX7_reckonsTo 142 = .ok (.iaload, 1) := dk_46 (dk_at dksX7_reckonsTo_6 1 rfl rfl)
theorem dX7_reckonsTo_143 : decode cX7_reckonsTo 143 = .ok (.iload 6, 2) := dk_21 6 (dk_at dksX7_reckonsTo_6 2 rfl rfl)
theorem dX7_reckonsTo_145 : decode cX7_reckonsTo 145 = .ok (.bipush 12, 2) := dk_16 12 (dk_at dksX7_reckonsTo_6 4 rfl rfl)
theorem dX7_reckonsTo_147 : decode cX7_reckonsTo 147 = .ok (.if_icmp .ne 7, 3) := dk_160 0 7 (dk_at dksX7_reckonsTo_6 6 rfl rfl)
theorem dX7_reckonsTo_150 : decode cX7_reckonsTo 150 = .ok (.iconst 1, 1) := dk_4 (dk_at dksX7_reckonsTo_6 9 rfl rfl)
theorem dX7_reckonsTo_151 : decode cX7_reckonsTo 151 = .ok (.goto 4, 3) := dk_167 0 4 (dk_at dksX7_reckonsTo_6 10 rfl rfl)
theorem dX7_reckonsTo_154 : decode cX7_reckonsTo 154 = .ok (.iconst 0, 1) := dk_3 (dk_at dksX7_reckonsTo_6 13 rfl rfl)
theorem dX7_reckonsTo_155 : decode cX7_reckonsTo 155 = .ok (.if_icmp .ne 13, 3) := dk_160 0 13 (dk_at dksX7_reckonsTo_6 14 rfl rfl)
theorem dX7_reckonsTo_158 : decode cX7_reckonsTo 158 = .ok (.iload 4, 2) := dk_21 4 (dk_at dksX7_reckonsTo_6 17 rfl rfl)
theorem dX7_reckonsTo_160 : decode cX7_reckonsTo 160 = .ok (.iload 7, 2) := dk_21 7 (dk_at dksX7_reckonsTo_6 19 rfl rfl)
theorem dX7_reckonsTo_162 : decode cX7_reckonsTo 162 = .ok (.iadd, 1) := dk_96 (dk_at dksX7_reckonsTo_6 21 rfl rfl)
theorem dX7_reckonsTo_163 : decode cX7_reckonsTo 163 = .ok (.istore 5, 2) := dk_54 5 (dk_at dksX7_reckonsTo_6 22 rfl rfl)
theorem dX7_reckonsTo_165 : decode cX7_reckonsTo 165 = .ok (.goto 65, 3) := dk_167 0 65 (dk_at dksX7_reckonsTo_7 0 rfl rfl)
theorem dX7_reckonsTo_168 : decode cX7_reckonsTo 168 = .ok (.iload_n 3, 1) := dk_29 (dk_at dksX7_reckonsTo_7 3 rfl rfl)
theorem dX7_reckonsTo_169 : decode cX7_reckonsTo 169 = .ok (.iconst 1, 1) := dk_4 (dk_at dksX7_reckonsTo_7 4 rfl rfl)
theorem dX7_reckonsTo_170 : decode cX7_reckonsTo 170 = .ok (.isub, 1) := dk_100 (dk_at dksX7_reckonsTo_7 5 rfl rfl)
theorem dX7_reckonsTo_171 : decode cX7_reckonsTo 171 = .ok (.istore_n 3, 1) := dk_62 (dk_at dksX7_reckonsTo_7 6 rfl rfl)
theorem dX7_reckonsTo_172 : decode cX7_reckonsTo 172 = .ok (.goto 58, 3) := dk_167 0 58 (dk_at dksX7_reckonsTo_7 7 rfl rfl)
theorem dX7_reckonsTo_175 : decode cX7_reckonsTo 175 = .ok (.iload_n 3, 1) := dk_29 (dk_at dksX7_reckonsTo_7 10 rfl rfl)
theorem dX7_reckonsTo_176 : decode cX7_reckonsTo 176 = .ok (.iconst 1, 1) := dk_4 (dk_at dksX7_reckonsTo_7 11 rfl rfl)
theorem dX7_reckonsTo_177 : decode cX7_reckonsTo 177 = .ok (.isub, 1) := dk_100 (dk_at dksX7_reckonsTo_7 12 rfl rfl)
theorem dX7_reckonsTo_178 : decode cX7_reckonsTo 178 = .ok (.istore_n 3, 1) := dk_62 (dk_at dksX7_reckonsTo_7 13 rfl rfl)
theorem dX7_reckonsTo_179 : decode cX7_reckonsTo 179 = .ok (.iload 6, 2) := dk_21 6 (dk_at dksX7_reckonsTo_7 14 rfl rfl)
theorem dX7_reckonsTo_181 : decode cX7_reckonsTo 181 = .ok (.iconst 5, 1) := dk_8 (dk_at dksX7_reckonsTo_7 16 rfl rfl)
theorem dX7_reckonsTo_182 : decode cX7_reckonsTo 182 = .ok (.if_icmp .eq 10, 3) := dk_159 0 10 (dk_at dksX7_reckonsTo_7 17 rfl rfl)
theorem dX7_reckonsTo_185 : decode cX7_reckonsTo 185 = .ok (.iload 6, 2) := dk_21 6 (dk_at dksX7_reckonsTo_7 20 rfl rfl)
theorem dX7_reckonsTo_187 : decode cX7_reckonsTo 187 = .ok (.bipush 6, 2) := dk_16 6 (dk_at dksX7_reckonsTo_7 22 rfl rfl)
theorem dX7_reckonsTo_189 : decode cX7_reckonsTo 189 = .ok (.if_icmp .ne 14, 3) := dk_160 0 14 (dk_at dksX7_reckonsTo_8 0 rfl rfl)
theorem dX7_reckonsTo_192 : decode cX7_reckonsTo 192 = .ok (.aload_n 0, 1) := dk_42 (dk_at dksX7_reckonsTo_8 3 rfl rfl)
theorem dX7_reckonsTo_193 : decode cX7_reckonsTo 193 = .ok (.getfield 87, 3) := dk_180 0 87 (dk_at dksX7_reckonsTo_8 4 rfl rfl)
theorem dX7_reckonsTo_196 : decode cX7_reckonsTo 196 = .ok (.iload_n 3, 1) := dk_29 (dk_at dksX7_reckonsTo_8 7 rfl rfl)
theorem dX7_reckonsTo_197 : decode cX7_reckonsTo 197 = .ok (.iaload, 1) := dk_46 (dk_at dksX7_reckonsTo_8 8 rfl rfl)
theorem dX7_reckonsTo_198 : decode cX7_reckonsTo 198 = .ok (.ifCond .ne 5, 3) := dk_154 0 5 (dk_at dksX7_reckonsTo_8 9 rfl rfl)
theorem dX7_reckonsTo_201 : decode cX7_reckonsTo 201 = .ok (.iconst 0, 1) := dk_3 (dk_at dksX7_reckonsTo_8 12 rfl rfl)
theorem dX7_reckonsTo_202 : decode cX7_reckonsTo 202 = .ok (.ireturn, 1) := dk_172 (dk_at dksX7_reckonsTo_8 13 rfl rfl)
theorem dX7_reckonsTo_203 : decode cX7_reckonsTo 203 = .ok (.aload_n 0, 1) := dk_42 (dk_at dksX7_reckonsTo_8 14 rfl rfl)
theorem dX7_reckonsTo_204 : decode cX7_reckonsTo 204 = .ok (.getfield 87, 3) := dk_180 0 87 (dk_at dksX7_reckonsTo_8 15 rfl rfl)
theorem dX7_reckonsTo_207 : decode cX7_reckonsTo 207 = .ok (.iload_n 3, 1) := dk_29 (dk_at dksX7_reckonsTo_8 18 rfl rfl)
theorem dX7_reckonsTo_208 : decode cX7_reckonsTo 208 = .ok (.iconst 1, 1) := dk_4 (dk_at dksX7_reckonsTo_8 19 rfl rfl)
theorem dX7_reckonsTo_209 : decode cX7_reckonsTo 209 = .ok (.isub, 1) := dk_100 (dk_at dksX7_reckonsTo_8 20 rfl rfl)
theorem dX7_reckonsTo_210 : decode cX7_reckonsTo 210 = .ok (.iload 6, 2) := dk_21 6 (dk_at dksX7_reckonsTo_8 21 rfl rfl)
theorem dX7_reckonsTo_212 : decode cX7_reckonsTo 212 = .ok (.aload_n 0, 1) := dk_42 (dk_at dksX7_reckonsTo_8 23 rfl rfl)
theorem dX7_reckonsTo_213 : decode cX7_reckonsTo 213 = .ok (.getfield 87, 3) := dk_180 0 87 (dk_at dksX7_reckonsTo_9 0 rfl rfl)
theorem dX7_reckonsTo_216 : decode cX7_reckonsTo 216 = .ok (.iload_n 3, 1) := dk_29 (dk_at dksX7_reckonsTo_9 3 rfl rfl)
theorem dX7_reckonsTo_217 : decode cX7_reckonsTo 217 = .ok (.iconst 1, 1) := dk_4 (dk_at dksX7_reckonsTo_9 4 rfl rfl)
theorem dX7_reckonsTo_218 : decode cX7_reckonsTo 218 = .ok (.isub, 1) := dk_100 (dk_at dksX7_reckonsTo_9 5 rfl rfl)
theorem dX7_reckonsTo_219 : decode cX7_reckonsTo 219 = .ok (.iaload, 1) := dk_46 (dk_at dksX7_reckonsTo_9 6 rfl rfl)
theorem dX7_reckonsTo_220 : decode cX7_reckonsTo 220 = .ok (.aload_n 0, 1) := dk_42 (dk_at dksX7_reckonsTo_9 7 rfl rfl)
theorem dX7_reckonsTo_221 : decode cX7_reckonsTo 221 = .ok (.getfield 87, 3) := dk_180 0 87 (dk_at dksX7_reckonsTo_9 8 rfl rfl)
theorem dX7_reckonsTo_224 : decode cX7_reckonsTo 224 = .ok (.iload_n 3, 1) := dk_29 (dk_at dksX7_reckonsTo_9 11 rfl rfl)
theorem dX7_reckonsTo_225 : decode cX7_reckonsTo 225 = .ok (.iaload, 1) := dk_46 (dk_at dksX7_reckonsTo_9 12 rfl rfl)
theorem dX7_reckonsTo_226 : decode cX7_reckonsTo 226 = .ok (.invokestatic 282, 3) := dk_184 1 26 (dk_at dksX7_reckonsTo_9 13 rfl rfl)
theorem dX7_reckonsTo_229 : decode cX7_reckonsTo 229 = .ok (.iastore, 1) := dk_79 (dk_at dksX7_reckonsTo_9 16 rfl rfl)
theorem dX7_reckonsTo_230 : decode cX7_reckonsTo 230 = .ok (.goto (-214), 3) := dk_167 255 42 (dk_at dksX7_reckonsTo_9 17 rfl rfl)
theorem dX7_reckonsTo_233 : decode cX7_reckonsTo 233 = .ok (.aload_n 0, 1) := dk_42 (dk_at dksX7_reckonsTo_9 20 rfl rfl)
theorem dX7_reckonsTo_234 : decode cX7_reckonsTo 234 = .ok (.getfield 87, 3) := dk_180 0 87 (dk_at dksX7_reckonsTo_9 21 rfl rfl)
theorem dX7_reckonsTo_237 : decode cX7_reckonsTo 237 = .ok (.iconst 0, 1) := dk_3 (dk_at dksX7_reckonsTo_10 0 rfl rfl)
theorem dX7_reckonsTo_238 : decode cX7_reckonsTo 238 = .ok (.iaload, 1) := dk_46 (dk_at dksX7_reckonsTo_10 1 rfl rfl)
theorem dX7_reckonsTo_239 : decode cX7_reckonsTo 239 = .ok (.ireturn, 1) := dk_172 (dk_at dksX7_reckonsTo_10 2 rfl rfl)
abbrev cX7_reckon : ByteArray := prog_21_method_43_code
def yX7_reckon : MethodName := ⟨RX7, "reckon", "(III)I"⟩
def dkwX7_reckon_4 : List UInt8 := [160, 0, 7, 4, 167, 0, 4, 3, 172]
abbrev dktX7_reckon_4 : List UInt8 := dkwX7_reckon_4 ++ []
def dkwX7_reckon_3 : List UInt8 := [162, 0, 7, 4, 167, 0, 4, 3, 172, 27, 28, 164, 0, 7, 4, 167, 0, 4, 3, 172, 27, 28]
abbrev dktX7_reckon_3 : List UInt8 := dkwX7_reckon_3 ++ dktX7_reckon_4
def dkwX7_reckon_2 : List UInt8 := [27, 28, 96, 172, 27, 28, 100, 172, 27, 28, 104, 172, 27, 28, 108, 172, 27, 28, 112, 172, 27, 28]
abbrev dktX7_reckon_2 : List UInt8 := dkwX7_reckon_2 ++ dktX7_reckon_3
def dkwX7_reckon_1 : List UInt8 := [170, 0, 0, 0, 0, 0, 85, 0, 0, 0, 2, 0, 0, 0, 8, 0, 0, 0, 43, 0, 0, 0, 47, 0, 0, 0, 51, 0, 0, 0, 55, 0, 0, 0, 59, 0, 0, 0, 63, 0, 0, 0, 74]
abbrev dktX7_reckon_1 : List UInt8 := dkwX7_reckon_1 ++ dktX7_reckon_2
def dkwX7_reckon_0 : List UInt8 := [26]
abbrev dktX7_reckon_0 : List UInt8 := dkwX7_reckon_0 ++ dktX7_reckon_1
theorem dksX7_reckon_0 : cX7_reckon.data.toList.drop 0 = dktX7_reckon_0 := by decide +kernel
theorem dksX7_reckon_1 : cX7_reckon.data.toList.drop 1 = dktX7_reckon_1 := dk_seg dksX7_reckon_0 1 rfl rfl
theorem dksX7_reckon_2 : cX7_reckon.data.toList.drop 44 = dktX7_reckon_2 := dk_seg dksX7_reckon_1 43 rfl rfl
theorem dksX7_reckon_3 : cX7_reckon.data.toList.drop 66 = dktX7_reckon_3 := dk_seg dksX7_reckon_2 22 rfl rfl
theorem dksX7_reckon_4 : cX7_reckon.data.toList.drop 88 = dktX7_reckon_4 := dk_seg dksX7_reckon_3 22 rfl rfl
theorem dX7_reckon_0 : decode cX7_reckon 0 = .ok (.iload_n 0, 1) := dk_26 (dk_at dksX7_reckon_0 0 rfl rfl)
theorem dX7_reckon_1 : decode cX7_reckon 1 = .ok (.tableswitch 85 2 8 #[43, 47, 51, 55, 59, 63, 74], 43) := by decide +kernel
theorem dX7_reckon_44 : decode cX7_reckon 44 = .ok (.iload_n 1, 1) := dk_27 (dk_at dksX7_reckon_2 0 rfl rfl)
theorem dX7_reckon_45 : decode cX7_reckon 45 = .ok (.iload_n 2, 1) := dk_28 (dk_at dksX7_reckon_2 1 rfl rfl)
theorem dX7_reckon_46 : decode cX7_reckon 46 = .ok (.iadd, 1) := dk_96 (dk_at dksX7_reckon_2 2 rfl rfl)
theorem dX7_reckon_47 : decode cX7_reckon 47 = .ok (.ireturn, 1) := dk_172 (dk_at dksX7_reckon_2 3 rfl rfl)
theorem dX7_reckon_48 : decode cX7_reckon 48 = .ok (.iload_n 1, 1) := dk_27 (dk_at dksX7_reckon_2 4 rfl rfl)
theorem dX7_reckon_49 : decode cX7_reckon 49 = .ok (.iload_n 2, 1) := dk_28 (dk_at dksX7_reckon_2 5 rfl rfl)
theorem dX7_reckon_50 : decode cX7_reckon 50 = .ok (.isub, 1) := dk_100 (dk_at dksX7_reckon_2 6 rfl rfl)
theorem dX7_reckon_51 : decode cX7_reckon 51 = .ok (.ireturn, 1) := dk_172 (dk_at dksX7_reckon_2 7 rfl rfl)
theorem dX7_reckon_52 : decode cX7_reckon 52 = .ok (.iload_n 1, 1) := dk_27 (dk_at dksX7_reckon_2 8 rfl rfl)
theorem dX7_reckon_53 : decode cX7_reckon 53 = .ok (.iload_n 2, 1) := dk_28 (dk_at dksX7_reckon_2 9 rfl rfl)
theorem dX7_reckon_54 : decode cX7_reckon 54 = .ok (.imul, 1) := dk_104 (dk_at dksX7_reckon_2 10 rfl rfl)
theorem dX7_reckon_55 : decode cX7_reckon 55 = .ok (.ireturn, 1) := dk_172 (dk_at dksX7_reckon_2 11 rfl rfl)
theorem dX7_reckon_56 : decode cX7_reckon 56 = .ok (.iload_n 1, 1) := dk_27 (dk_at dksX7_reckon_2 12 rfl rfl)
theorem dX7_reckon_57 : decode cX7_reckon 57 = .ok (.iload_n 2, 1) := dk_28 (dk_at dksX7_reckon_2 13 rfl rfl)
theorem dX7_reckon_58 : decode cX7_reckon 58 = .ok (.idiv, 1) := dk_108 (dk_at dksX7_reckon_2 14 rfl rfl)
theorem dX7_reckon_59 : decode cX7_reckon 59 = .ok (.ireturn, 1) := dk_172 (dk_at dksX7_reckon_2 15 rfl rfl)
theorem dX7_reckon_60 : decode cX7_reckon 60 = .ok (.iload_n 1, 1) := dk_27 (dk_at dksX7_reckon_2 16 rfl rfl)
theorem dX7_reckon_61 : decode cX7_reckon 61 = .ok (.iload_n 2, 1) := dk_28 (dk_at dksX7_reckon_2 17 rfl rfl)
theorem dX7_reckon_62 : decode cX7_reckon 62 = .ok (.irem, 1) := dk_112 (dk_at dksX7_reckon_2 18 rfl rfl)
theorem dX7_reckon_63 : decode cX7_reckon 63 = .ok (.ireturn, 1) := dk_172 (dk_at dksX7_reckon_2 19 rfl rfl)
theorem dX7_reckon_64 : decode cX7_reckon 64 = .ok (.iload_n 1, 1) := dk_27 (dk_at dksX7_reckon_2 20 rfl rfl)
theorem dX7_reckon_65 : decode cX7_reckon 65 = .ok (.iload_n 2, 1) := dk_28 (dk_at dksX7_reckon_2 21 rfl rfl)
theorem dX7_reckon_66 : decode cX7_reckon 66 = .ok (.if_icmp .ge 7, 3) := dk_162 0 7 (dk_at dksX7_reckon_3 0 rfl rfl)
theorem dX7_reckon_69 : decode cX7_reckon 69 = .ok (.iconst 1, 1) := dk_4 (dk_at dksX7_reckon_3 3 rfl rfl)
theorem dX7_reckon_70 : decode cX7_reckon 70 = .ok (.goto 4, 3) := dk_167 0 4 (dk_at dksX7_reckon_3 4 rfl rfl)
theorem dX7_reckon_73 : decode cX7_reckon 73 = .ok (.iconst 0, 1) := dk_3 (dk_at dksX7_reckon_3 7 rfl rfl)
theorem dX7_reckon_74 : decode cX7_reckon 74 = .ok (.ireturn, 1) := dk_172 (dk_at dksX7_reckon_3 8 rfl rfl)
theorem dX7_reckon_75 : decode cX7_reckon 75 = .ok (.iload_n 1, 1) := dk_27 (dk_at dksX7_reckon_3 9 rfl rfl)
theorem dX7_reckon_76 : decode cX7_reckon 76 = .ok (.iload_n 2, 1) := dk_28 (dk_at dksX7_reckon_3 10 rfl rfl)
theorem dX7_reckon_77 : decode cX7_reckon 77 = .ok (.if_icmp .le 7, 3) := dk_164 0 7 (dk_at dksX7_reckon_3 11 rfl rfl)
theorem dX7_reckon_80 : decode cX7_reckon 80 = .ok (.iconst 1, 1) := dk_4 (dk_at dksX7_reckon_3 14 rfl rfl)
theorem dX7_reckon_81 : decode cX7_reckon 81 = .ok (.goto 4, 3) := dk_167 0 4 (dk_at dksX7_reckon_3 15 rfl rfl)
theorem dX7_reckon_84 : decode cX7_reckon 84 = .ok (.iconst 0, 1) := dk_3 (dk_at dksX7_reckon_3 18 rfl rfl)
theorem dX7_reckon_85 : decode cX7_reckon 85 = .ok (.ireturn, 1) := dk_172 (dk_at dksX7_reckon_3 19 rfl rfl)
theorem dX7_reckon_86 : decode cX7_reckon 86 = .ok (.iload_n 1, 1) := dk_27 (dk_at dksX7_reckon_3 20 rfl rfl)
theorem dX7_reckon_87 : decode cX7_reckon 87 = .ok (.iload_n 2, 1) := dk_28 (dk_at dksX7_reckon_3 21 rfl rfl)
theorem dX7_reckon_88 : decode cX7_reckon 88 = .ok (.if_icmp .ne 7, 3) := dk_160 0 7 (dk_at dksX7_reckon_4 0 rfl rfl)
theorem dX7_reckon_91 : decode cX7_reckon 91 = .ok (.iconst 1, 1) := dk_4 (dk_at dksX7_reckon_4 3 rfl rfl)
theorem dX7_reckon_92 : decode cX7_reckon 92 = .ok (.goto 4, 3) := dk_167 0 4 (dk_at dksX7_reckon_4 4 rfl rfl)
theorem dX7_reckon_95 : decode cX7_reckon 95 = .ok (.iconst 0, 1) := dk_3 (dk_at dksX7_reckon_4 7 rfl rfl)
theorem dX7_reckon_96 : decode cX7_reckon 96 = .ok (.ireturn, 1) := dk_172 (dk_at dksX7_reckon_4 8 rfl rfl)
abbrev cX7_min : ByteArray := prog_21_method_3_code
def yX7_min : MethodName := ⟨RX7, "min", "(II)I"⟩
def dkwX7_min_0 : List UInt8 := [26, 27, 162, 0, 7, 26, 167, 0, 4, 27, 172]
abbrev dktX7_min_0 : List UInt8 := dkwX7_min_0 ++ []
theorem dksX7_min_0 : cX7_min.data.toList.drop 0 = dktX7_min_0 := by decide +kernel
theorem dX7_min_0 : decode cX7_min 0 = .ok (.iload_n 0, 1) := dk_26 (dk_at dksX7_min_0 0 rfl rfl)
theorem dX7_min_1 : decode cX7_min 1 = .ok (.iload_n 1, 1) := dk_27 (dk_at dksX7_min_0 1 rfl rfl)
theorem dX7_min_2 : decode cX7_min 2 = .ok (.if_icmp .ge 7, 3) := dk_162 0 7 (dk_at dksX7_min_0 2 rfl rfl)
theorem dX7_min_5 : decode cX7_min 5 = .ok (.iload_n 0, 1) := dk_26 (dk_at dksX7_min_0 5 rfl rfl)
theorem dX7_min_6 : decode cX7_min 6 = .ok (.goto 4, 3) := dk_167 0 4 (dk_at dksX7_min_0 6 rfl rfl)
theorem dX7_min_9 : decode cX7_min 9 = .ok (.iload_n 1, 1) := dk_27 (dk_at dksX7_min_0 9 rfl rfl)
theorem dX7_min_10 : decode cX7_min 10 = .ok (.ireturn, 1) := dk_172 (dk_at dksX7_min_0 10 rfl rfl)
abbrev cX7_max : ByteArray := prog_21_method_4_code
def yX7_max : MethodName := ⟨RX7, "max", "(II)I"⟩
def dkwX7_max_0 : List UInt8 := [26, 27, 164, 0, 7, 26, 167, 0, 4, 27, 172]
abbrev dktX7_max_0 : List UInt8 := dkwX7_max_0 ++ []
theorem dksX7_max_0 : cX7_max.data.toList.drop 0 = dktX7_max_0 := by decide +kernel
theorem dX7_max_0 : decode cX7_max 0 = .ok (.iload_n 0, 1) := dk_26 (dk_at dksX7_max_0 0 rfl rfl)
theorem dX7_max_1 : decode cX7_max 1 = .ok (.iload_n 1, 1) := dk_27 (dk_at dksX7_max_0 1 rfl rfl)
theorem dX7_max_2 : decode cX7_max 2 = .ok (.if_icmp .le 7, 3) := dk_164 0 7 (dk_at dksX7_max_0 2 rfl rfl)
theorem dX7_max_5 : decode cX7_max 5 = .ok (.iload_n 0, 1) := dk_26 (dk_at dksX7_max_0 5 rfl rfl)
theorem dX7_max_6 : decode cX7_max 6 = .ok (.goto 4, 3) := dk_167 0 4 (dk_at dksX7_max_0 6 rfl rfl)
theorem dX7_max_9 : decode cX7_max 9 = .ok (.iload_n 1, 1) := dk_27 (dk_at dksX7_max_0 9 rfl rfl)
theorem dX7_max_10 : decode cX7_max 10 = .ok (.ireturn, 1) := dk_172 (dk_at dksX7_max_0 10 rfl rfl)
abbrev cX7_leavesTrain : ByteArray := prog_21_method_57_code
def yX7_leavesTrain : MethodName := ⟨RX7, "leavesTrain", "(II)V"⟩
def dkwX7_leavesTrain_3 : List UInt8 := [42, 42, 180, 1, 69, 4, 96, 181, 1, 69, 132, 3, 1, 167, 255, 173, 177]
abbrev dktX7_leavesTrain_3 : List UInt8 := dkwX7_leavesTrain_3 ++ []
def dkwX7_leavesTrain_2 : List UInt8 := [42, 180, 0, 7, 3, 29, 96, 17, 39, 15, 42, 180, 0, 7, 3, 29, 96, 46, 4, 96, 184, 1, 66, 79]
abbrev dktX7_leavesTrain_2 : List UInt8 := dkwX7_leavesTrain_2 ++ dktX7_leavesTrain_3
def dkwX7_leavesTrain_1 : List UInt8 := [160, 0, 58, 42, 180, 0, 22, 29, 46, 28, 159, 0, 6, 167, 0, 45, 42, 180, 0, 114, 29, 16, 48, 79]
abbrev dktX7_leavesTrain_1 : List UInt8 := dkwX7_leavesTrain_1 ++ dktX7_leavesTrain_2
def dkwX7_leavesTrain_0 : List UInt8 := [3, 62, 29, 16, 12, 162, 0, 83, 42, 180, 0, 43, 29, 51, 153, 0, 68, 42, 180, 0, 114, 29, 46, 27]
abbrev dktX7_leavesTrain_0 : List UInt8 := dkwX7_leavesTrain_0 ++ dktX7_leavesTrain_1
theorem dksX7_leavesTrain_0 : cX7_leavesTrain.data.toList.drop 0 = dktX7_leavesTrain_0 := by decide +kernel
theorem dksX7_leavesTrain_1 : cX7_leavesTrain.data.toList.drop 24 = dktX7_leavesTrain_1 := dk_seg dksX7_leavesTrain_0 24 rfl rfl
theorem dksX7_leavesTrain_2 : cX7_leavesTrain.data.toList.drop 48 = dktX7_leavesTrain_2 := dk_seg dksX7_leavesTrain_1 24 rfl rfl
theorem dksX7_leavesTrain_3 : cX7_leavesTrain.data.toList.drop 72 = dktX7_leavesTrain_3 := dk_seg dksX7_leavesTrain_2 24 rfl rfl
theorem dX7_leavesTrain_0 : decode cX7_leavesTrain 0 = .ok (.iconst 0, 1) := dk_3 (dk_at dksX7_leavesTrain_0 0 rfl rfl)
theorem dX7_leavesTrain_1 : decode cX7_leavesTrain 1 = .ok (.istore_n 3, 1) := dk_62 (dk_at dksX7_leavesTrain_0 1 rfl rfl)
theorem dX7_leavesTrain_2 : decode cX7_leavesTrain 2 = .ok (.iload_n 3, 1) := dk_29 (dk_at dksX7_leavesTrain_0 2 rfl rfl)
theorem dX7_leavesTrain_3 : decode cX7_leavesTrain 3 = .ok (.bipush 12, 2) := dk_16 12 (dk_at dksX7_leavesTrain_0 3 rfl rfl)
theorem dX7_leavesTrain_5 : decode cX7_leavesTrain 5 = .ok (.if_icmp .ge 83, 3) := dk_162 0 83 (dk_at dksX7_leavesTrain_0 5 rfl rfl)
theorem dX7_leavesTrain_8 : decode cX7_leavesTrain 8 = .ok (.aload_n 0, 1) := dk_42 (dk_at dksX7_leavesTrain_0 8 rfl rfl)
theorem dX7_leavesTrain_9 : decode cX7_leavesTrain 9 = .ok (.getfield 43, 3) := dk_180 0 43 (dk_at dksX7_leavesTrain_0 9 rfl rfl)
theorem dX7_leavesTrain_12 : decode cX7_leavesTrain 12 = .ok (.iload_n 3, 1) := dk_29 (dk_at dksX7_leavesTrain_0 12 rfl rfl)
theorem dX7_leavesTrain_13 : decode cX7_leavesTrain 13 = .ok (.baload, 1) := dk_51 (dk_at dksX7_leavesTrain_0 13 rfl rfl)
theorem dX7_leavesTrain_14 : decode cX7_leavesTrain 14 = .ok (.ifCond .eq 68, 3) := dk_153 0 68 (dk_at dksX7_leavesTrain_0 14 rfl rfl)
theorem dX7_leavesTrain_17 : decode cX7_leavesTrain 17 = .ok (.aload_n 0, 1) := dk_42 (dk_at dksX7_leavesTrain_0 17 rfl rfl)
theorem dX7_leavesTrain_18 : decode cX7_leavesTrain 18 = .ok (.getfield 114, 3) := dk_180 0 114 (dk_at dksX7_leavesTrain_0 18 rfl rfl)
theorem dX7_leavesTrain_21 : decode cX7_leavesTrain 21 = .ok (.iload_n 3, 1) := dk_29 (dk_at dksX7_leavesTrain_0 21 rfl rfl)
theorem dX7_leavesTrain_22 : decode cX7_leavesTrain 22 = .ok (.iaload, 1) := dk_46 (dk_at dksX7_leavesTrain_0 22 rfl rfl)
theorem dX7_leavesTrain_23 : decode cX7_leavesTrain 23 = .ok (.iload_n 1, 1) := dk_27 (dk_at dksX7_leavesTrain_0 23 rfl rfl)
theorem dX7_leavesTrain_24 : decode cX7_leavesTrain 24 = .ok (.if_icmp .ne 58, 3) := dk_160 0 58 (dk_at dksX7_leavesTrain_1 0 rfl rfl)
theorem dX7_leavesTrain_27 : decode cX7_leavesTrain 27 = .ok (.aload_n 0, 1) := dk_42 (dk_at dksX7_leavesTrain_1 3 rfl rfl)
theorem dX7_leavesTrain_28 : decode cX7_leavesTrain 28 = .ok (.getfield 22, 3) := dk_180 0 22 (dk_at dksX7_leavesTrain_1 4 rfl rfl)
theorem dX7_leavesTrain_31 : decode cX7_leavesTrain 31 = .ok (.iload_n 3, 1) := dk_29 (dk_at dksX7_leavesTrain_1 7 rfl rfl)
theorem dX7_leavesTrain_32 : decode cX7_leavesTrain 32 = .ok (.iaload, 1) := dk_46 (dk_at dksX7_leavesTrain_1 8 rfl rfl)
theorem dX7_leavesTrain_33 : decode cX7_leavesTrain 33 = .ok (.iload_n 2, 1) := dk_28 (dk_at dksX7_leavesTrain_1 9 rfl rfl)
theorem dX7_leavesTrain_34 : decode cX7_leavesTrain 34 = .ok (.if_icmp .eq 6, 3) := dk_159 0 6 (dk_at dksX7_leavesTrain_1 10 rfl rfl)
theorem dX7_leavesTrain_37 : decode cX7_leavesTrain 37 = .ok (.goto 45, 3) := dk_167 0 45 (dk_at dksX7_leavesTrain_1 13 rfl rfl)
theorem dX7_leavesTrain_40 : decode cX7_leavesTrain 40 = .ok (.aload_n 0, 1) := dk_42 (dk_at dksX7_leavesTrain_1 16 rfl rfl)
theorem dX7_leavesTrain_41 : decode cX7_leavesTrain 41 = .ok (.getfield 114, 3) := dk_180 0 114 (dk_at dksX7_leavesTrain_1 17 rfl rfl)
theorem dX7_leavesTrain_44 : decode cX7_leavesTrain 44 = .ok (.iload_n 3, 1) := dk_29 (dk_at dksX7_leavesTrain_1 20 rfl rfl)
theorem dX7_leavesTrain_45 : decode cX7_leavesTrain 45 = .ok (.bipush 48, 2) := dk_16 48 (dk_at dksX7_leavesTrain_1 21 rfl rfl)
theorem dX7_leavesTrain_47 : decode cX7_leavesTrain 47 = .ok (.iastore, 1) := dk_79 (dk_at dksX7_leavesTrain_1 23 rfl rfl)
theorem dX7_leavesTrain_48 : decode cX7_leavesTrain 48 = .ok (.aload_n 0, 1) := dk_42 (dk_at dksX7_leavesTrain_2 0 rfl rfl)
theorem dX7_leavesTrain_49 : decode cX7_leavesTrain 49 = .ok (.getfield 7, 3) := dk_180 0 7 (dk_at dksX7_leavesTrain_2 1 rfl rfl)
theorem dX7_leavesTrain_52 : decode cX7_leavesTrain 52 = .ok (.iconst 0, 1) := dk_3 (dk_at dksX7_leavesTrain_2 4 rfl rfl)
theorem dX7_leavesTrain_53 : decode cX7_leavesTrain 53 = .ok (.iload_n 3, 1) := dk_29 (dk_at dksX7_leavesTrain_2 5 rfl rfl)
theorem dX7_leavesTrain_54 : decode cX7_leavesTrain 54 = .ok (.iadd, 1) := dk_96 (dk_at dksX7_leavesTrain_2 6 rfl rfl)
theorem dX7_leavesTrain_55 : decode cX7_leavesTrain 55 = .ok (.sipush 9999, 3) := dk_17 39 15 (dk_at dksX7_leavesTrain_2 7 rfl rfl)
theorem dX7_leavesTrain_58 : decode cX7_leavesTrain 58 = .ok (.aload_n 0, 1) := dk_42 (dk_at dksX7_leavesTrain_2 10 rfl rfl)
theorem dX7_leavesTrain_59 : decode cX7_leavesTrain 59 = .ok (.getfield 7, 3) := dk_180 0 7 (dk_at dksX7_leavesTrain_2 11 rfl rfl)
theorem dX7_leavesTrain_62 : decode cX7_leavesTrain 62 = .ok (.iconst 0, 1) := dk_3 (dk_at dksX7_leavesTrain_2 14 rfl rfl)
theorem dX7_leavesTrain_63 : decode cX7_leavesTrain 63 = .ok (.iload_n 3, 1) := dk_29 (dk_at dksX7_leavesTrain_2 15 rfl rfl)
theorem dX7_leavesTrain_64 : decode cX7_leavesTrain 64 = .ok (.iadd, 1) := dk_96 (dk_at dksX7_leavesTrain_2 16 rfl rfl)
theorem dX7_leavesTrain_65 : decode cX7_leavesTrain 65 = .ok (.iaload, 1) := dk_46 (dk_at dksX7_leavesTrain_2 17 rfl rfl)
theorem dX7_leavesTrain_66 : decode cX7_leavesTrain 66 = .ok (.iconst 1, 1) := dk_4 (dk_at dksX7_leavesTrain_2 18 rfl rfl)
theorem dX7_leavesTrain_67 : decode cX7_leavesTrain 67 = .ok (.iadd, 1) := dk_96 (dk_at dksX7_leavesTrain_2 19 rfl rfl)
theorem dX7_leavesTrain_68 : decode cX7_leavesTrain 68 = .ok (.invokestatic 322, 3) := dk_184 1 66 (dk_at dksX7_leavesTrain_2 20 rfl rfl)
theorem dX7_leavesTrain_71 : decode cX7_leavesTrain 71 = .ok (.iastore, 1) := dk_79 (dk_at dksX7_leavesTrain_2 23 rfl rfl)
theorem dX7_leavesTrain_72 : decode cX7_leavesTrain 72 = .ok (.aload_n 0, 1) := dk_42 (dk_at dksX7_leavesTrain_3 0 rfl rfl)
theorem dX7_leavesTrain_73 : decode cX7_leavesTrain 73 = .ok (.aload_n 0, 1) := dk_42 (dk_at dksX7_leavesTrain_3 1 rfl rfl)
theorem dX7_leavesTrain_74 : decode cX7_leavesTrain 74 = .ok (.getfield 325, 3) := dk_180 1 69 (dk_at dksX7_leavesTrain_3 2 rfl rfl)
theorem dX7_leavesTrain_77 : decode cX7_leavesTrain 77 = .ok (.iconst 1, 1) := dk_4 (dk_at dksX7_leavesTrain_3 5 rfl rfl)
theorem dX7_leavesTrain_78 : decode cX7_leavesTrain 78 = .ok (.iadd, 1) := dk_96 (dk_at dksX7_leavesTrain_3 6 rfl rfl)
theorem dX7_leavesTrain_79 : decode cX7_leavesTrain 79 = .ok (.putfield 325, 3) := dk_181 1 69 (dk_at dksX7_leavesTrain_3 7 rfl rfl)
theorem dX7_leavesTrain_82 : decode cX7_leavesTrain 82 = .ok (.iinc 3 1, 3) := dk_132 3 1 (dk_at dksX7_leavesTrain_3 10 rfl rfl)
theorem dX7_leavesTrain_85 : decode cX7_leavesTrain 85 = .ok (.goto (-83), 3) := dk_167 255 173 (dk_at dksX7_leavesTrain_3 13 rfl rfl)
theorem dX7_leavesTrain_88 : decode cX7_leavesTrain 88 = .ok (.return_, 1) := dk_177 (dk_at dksX7_leavesTrain_3 16 rfl rfl)
abbrev cX7_mayRide : ByteArray := prog_21_method_58_code
def yX7_mayRide : MethodName := ⟨RX7, "mayRide", "(IIII)V"⟩
def dkwX7_mayRide_7 : List UInt8 := [79, 42, 42, 180, 1, 79, 4, 96, 181, 1, 79, 177]
abbrev dktX7_mayRide_7 : List UInt8 := dkwX7_mayRide_7 ++ []
def dkwX7_mayRide_6 : List UInt8 := [180, 0, 7, 16, 12, 27, 96, 17, 39, 15, 42, 180, 0, 7, 16, 12, 27, 96, 46, 4, 96, 184, 1, 66]
abbrev dktX7_mayRide_6 : List UInt8 := dkwX7_mayRide_6 ++ dktX7_mayRide_7
def dkwX7_mayRide_5 : List UInt8 := [27, 96, 46, 79, 42, 16, 109, 182, 1, 76, 154, 0, 11, 42, 180, 0, 114, 27, 28, 79, 177, 42]
abbrev dktX7_mayRide_5 : List UInt8 := dkwX7_mayRide_5 ++ dktX7_mayRide_6
def dkwX7_mayRide_4 : List UInt8 := [21, 4, 182, 1, 72, 42, 180, 0, 90, 8, 27, 79, 42, 180, 0, 90, 16, 6, 42, 180, 0, 7, 16, 12]
abbrev dktX7_mayRide_4 : List UInt8 := dkwX7_mayRide_4 ++ dktX7_mayRide_5
def dkwX7_mayRide_3 : List UInt8 := [46, 96, 163, 0, 18, 42, 28, 42, 180, 0, 22, 27, 46, 182, 0, 172, 29, 163, 0, 4, 177, 42, 28, 29]
abbrev dktX7_mayRide_3 : List UInt8 := dkwX7_mayRide_3 ++ dktX7_mayRide_4
def dkwX7_mayRide_2 : List UInt8 := [153, 0, 44, 42, 180, 0, 25, 27, 46, 42, 180, 0, 34, 28, 29, 184, 0, 165, 46, 42, 180, 0, 117, 28]
abbrev dktX7_mayRide_2 : List UInt8 := dkwX7_mayRide_2 ++ dktX7_mayRide_3
def dkwX7_mayRide_1 : List UInt8 := [46, 160, 0, 17, 42, 180, 0, 114, 27, 46, 2, 160, 0, 7, 4, 167, 0, 4, 3, 54, 5, 21, 5]
abbrev dktX7_mayRide_1 : List UInt8 := dkwX7_mayRide_1 ++ dktX7_mayRide_2
def dkwX7_mayRide_0 : List UInt8 := [42, 180, 0, 43, 27, 51, 153, 0, 36, 42, 180, 0, 19, 27, 46, 42, 180, 0, 31, 28, 29, 184, 0, 165]
abbrev dktX7_mayRide_0 : List UInt8 := dkwX7_mayRide_0 ++ dktX7_mayRide_1
theorem dksX7_mayRide_0 : cX7_mayRide.data.toList.drop 0 = dktX7_mayRide_0 := by decide +kernel
theorem dksX7_mayRide_1 : cX7_mayRide.data.toList.drop 24 = dktX7_mayRide_1 := dk_seg dksX7_mayRide_0 24 rfl rfl
theorem dksX7_mayRide_2 : cX7_mayRide.data.toList.drop 47 = dktX7_mayRide_2 := dk_seg dksX7_mayRide_1 23 rfl rfl
theorem dksX7_mayRide_3 : cX7_mayRide.data.toList.drop 71 = dktX7_mayRide_3 := dk_seg dksX7_mayRide_2 24 rfl rfl
theorem dksX7_mayRide_4 : cX7_mayRide.data.toList.drop 95 = dktX7_mayRide_4 := dk_seg dksX7_mayRide_3 24 rfl rfl
theorem dksX7_mayRide_5 : cX7_mayRide.data.toList.drop 119 = dktX7_mayRide_5 := dk_seg dksX7_mayRide_4 24 rfl rfl
theorem dksX7_mayRide_6 : cX7_mayRide.data.toList.drop 141 = dktX7_mayRide_6 := dk_seg dksX7_mayRide_5 22 rfl rfl
theorem dksX7_mayRide_7 : cX7_mayRide.data.toList.drop 165 = dktX7_mayRide_7 := dk_seg dksX7_mayRide_6 24 rfl rfl
theorem dX7_mayRide_0 : decode cX7_mayRide 0 = .ok (.aload_n 0, 1) := dk_42 (dk_at dksX7_mayRide_0 0 rfl rfl)
theorem dX7_mayRide_1 : decode cX7_mayRide 1 = .ok (.getfield 43, 3) := dk_180 0 43 (dk_at dksX7_mayRide_0 1 rfl rfl)
theorem dX7_mayRide_4 : decode cX7_mayRide 4 = .ok (.iload_n 1, 1) := dk_27 (dk_at dksX7_mayRide_0 4 rfl rfl)
theorem dX7_mayRide_5 : decode cX7_mayRide 5 = .ok (.baload, 1) := dk_51 (dk_at dksX7_mayRide_0 5 rfl rfl)
theorem dX7_mayRide_6 : decode cX7_mayRide 6 = .ok (.ifCond .eq 36, 3) := dk_153 0 36 (dk_at dksX7_mayRide_0 6 rfl rfl)
theorem dX7_mayRide_9 : decode cX7_mayRide 9 = .ok (.aload_n 0, 1) := dk_42 (dk_at dksX7_mayRide_0 9 rfl rfl)
theorem dX7_mayRide_10 : decode cX7_mayRide 10 = .ok (.getfield 19, 3) := dk_180 0 19 (dk_at dksX7_mayRide_0 10 rfl rfl)
theorem dX7_mayRide_13 : decode cX7_mayRide 13 = .ok (.iload_n 1, 1) := dk_27 (dk_at dksX7_mayRide_0 13 rfl rfl)
theorem dX7_mayRide_14 : decode cX7_mayRide 14 = .ok (.iaload, 1) := dk_46 (dk_at dksX7_mayRide_0 14 rfl rfl)
theorem dX7_mayRide_15 : decode cX7_mayRide 15 = .ok (.aload_n 0, 1) := dk_42 (dk_at dksX7_mayRide_0 15 rfl rfl)
theorem dX7_mayRide_16 : decode cX7_mayRide 16 = .ok (.getfield 31, 3) := dk_180 0 31 (dk_at dksX7_mayRide_0 16 rfl rfl)
theorem dX7_mayRide_19 : decode cX7_mayRide 19 = .ok (.iload_n 2, 1) := dk_28 (dk_at dksX7_mayRide_0 19 rfl rfl)
theorem dX7_mayRide_20 : decode cX7_mayRide 20 = .ok (.iload_n 3, 1) := dk_29 (dk_at dksX7_mayRide_0 20 rfl rfl)
theorem dX7_mayRide_21 : decode cX7_mayRide 21 = .ok (.invokestatic 165, 3) := dk_184 0 165 (dk_at dksX7_mayRide_0 21 rfl rfl)
theorem dX7_mayRide_24 : decode cX7_mayRide 24 = .ok (.iaload, 1) := dk_46 (dk_at dksX7_mayRide_1 0 rfl rfl)
theorem dX7_mayRide_25 : decode cX7_mayRide 25 = .ok (.if_icmp .ne 17, 3) := dk_160 0 17 (dk_at dksX7_mayRide_1 1 rfl rfl)
theorem dX7_mayRide_28 : decode cX7_mayRide 28 = .ok (.aload_n 0, 1) := dk_42 (dk_at dksX7_mayRide_1 4 rfl rfl)
theorem dX7_mayRide_29 : decode cX7_mayRide 29 = .ok (.getfield 114, 3) := dk_180 0 114 (dk_at dksX7_mayRide_1 5 rfl rfl)
theorem dX7_mayRide_32 : decode cX7_mayRide 32 = .ok (.iload_n 1, 1) := dk_27 (dk_at dksX7_mayRide_1 8 rfl rfl)
theorem dX7_mayRide_33 : decode cX7_mayRide 33 = .ok (.iaload, 1) := dk_46 (dk_at dksX7_mayRide_1 9 rfl rfl)
theorem dX7_mayRide_34 : decode cX7_mayRide 34 = .ok (.iconst (-1), 1) := dk_2 (dk_at dksX7_mayRide_1 10 rfl rfl)
theorem dX7_mayRide_35 : decode cX7_mayRide 35 = .ok (.if_icmp .ne 7, 3) := dk_160 0 7 (dk_at dksX7_mayRide_1 11 rfl rfl)
theorem dX7_mayRide_38 : decode cX7_mayRide 38 = .ok (.iconst 1, 1) := dk_4 (dk_at dksX7_mayRide_1 14 rfl rfl)
theorem dX7_mayRide_39 : decode cX7_mayRide 39 = .ok (.goto 4, 3) := dk_167 0 4 (dk_at dksX7_mayRide_1 15 rfl rfl)
theorem dX7_mayRide_42 : decode cX7_mayRide 42 = .ok (.iconst 0, 1) := dk_3 (dk_at dksX7_mayRide_1 18 rfl rfl)
theorem dX7_mayRide_43 : decode cX7_mayRide 43 = .ok (.istore 5, 2) := dk_54 5 (dk_at dksX7_mayRide_1 19 rfl rfl)
theorem dX7_mayRide_45 : decode cX7_mayRide 45 = .ok (.iload 5, 2) := dk_21 5 (dk_at dksX7_mayRide_1 21 rfl rfl)
theorem dX7_mayRide_47 : decode cX7_mayRide 47 = .ok (.ifCond .eq 44, 3) := dk_153 0 44 (dk_at dksX7_mayRide_2 0 rfl rfl)
theorem dX7_mayRide_50 : decode cX7_mayRide 50 = .ok (.aload_n 0, 1) := dk_42 (dk_at dksX7_mayRide_2 3 rfl rfl)
theorem dX7_mayRide_51 : decode cX7_mayRide 51 = .ok (.getfield 25, 3) := dk_180 0 25 (dk_at dksX7_mayRide_2 4 rfl rfl)
theorem dX7_mayRide_54 : decode cX7_mayRide 54 = .ok (.iload_n 1, 1) := dk_27 (dk_at dksX7_mayRide_2 7 rfl rfl)
theorem dX7_mayRide_55 : decode cX7_mayRide 55 = .ok (.iaload, 1) := dk_46 (dk_at dksX7_mayRide_2 8 rfl rfl)
theorem dX7_mayRide_56 : decode cX7_mayRide 56 = .ok (.aload_n 0, 1) := dk_42 (dk_at dksX7_mayRide_2 9 rfl rfl)
theorem dX7_mayRide_57 : decode cX7_mayRide 57 = .ok (.getfield 34, 3) := dk_180 0 34 (dk_at dksX7_mayRide_2 10 rfl rfl)
theorem dX7_mayRide_60 : decode cX7_mayRide 60 = .ok (.iload_n 2, 1) := dk_28 (dk_at dksX7_mayRide_2 13 rfl rfl)
theorem dX7_mayRide_61 : decode cX7_mayRide 61 = .ok (.iload_n 3, 1) := dk_29 (dk_at dksX7_mayRide_2 14 rfl rfl)
theorem dX7_mayRide_62 : decode cX7_mayRide 62 = .ok (.invokestatic 165, 3) := dk_184 0 165 (dk_at dksX7_mayRide_2 15 rfl rfl)
theorem dX7_mayRide_65 : decode cX7_mayRide 65 = .ok (.iaload, 1) := dk_46 (dk_at dksX7_mayRide_2 18 rfl rfl)
theorem dX7_mayRide_66 : decode cX7_mayRide 66 = .ok (.aload_n 0, 1) := dk_42 (dk_at dksX7_mayRide_2 19 rfl rfl)
theorem dX7_mayRide_67 : decode cX7_mayRide 67 = .ok (.getfield 117, 3) := dk_180 0 117 (dk_at dksX7_mayRide_2 20 rfl rfl)
theorem dX7_mayRide_70 : decode cX7_mayRide 70 = .ok (.iload_n 2, 1) := dk_28 (dk_at dksX7_mayRide_2 23 rfl rfl)
theorem dX7_mayRide_71 : decode cX7_mayRide 71 = .ok (.iaload, 1) := dk_46 (dk_at dksX7_mayRide_3 0 rfl rfl)
theorem dX7_mayRide_72 : decode cX7_mayRide 72 = .ok (.iadd, 1) := dk_96 (dk_at dksX7_mayRide_3 1 rfl rfl)
theorem dX7_mayRide_73 : decode cX7_mayRide 73 = .ok (.if_icmp .gt 18, 3) := dk_163 0 18 (dk_at dksX7_mayRide_3 2 rfl rfl)
theorem dX7_mayRide_76 : decode cX7_mayRide 76 = .ok (.aload_n 0, 1) := dk_42 (dk_at dksX7_mayRide_3 5 rfl rfl)
theorem dX7_mayRide_77 : decode cX7_mayRide 77 = .ok (.iload_n 2, 1) := dk_28 (dk_at dksX7_mayRide_3 6 rfl rfl)
theorem dX7_mayRide_78 : decode cX7_mayRide 78 = .ok (.aload_n 0, 1) := dk_42 (dk_at dksX7_mayRide_3 7 rfl rfl)
theorem dX7_mayRide_79 : decode cX7_mayRide 79 = .ok (.getfield 22, 3) := dk_180 0 22 (dk_at dksX7_mayRide_3 8 rfl rfl)
theorem dX7_mayRide_82 : decode cX7_mayRide 82 = .ok (.iload_n 1, 1) := dk_27 (dk_at dksX7_mayRide_3 11 rfl rfl)
theorem dX7_mayRide_83 : decode cX7_mayRide 83 = .ok (.iaload, 1) := dk_46 (dk_at dksX7_mayRide_3 12 rfl rfl)
theorem dX7_mayRide_84 : decode cX7_mayRide 84 = .ok (.invokevirtual 172, 3) := dk_182 0 172 (dk_at dksX7_mayRide_3 13 rfl rfl)
theorem dX7_mayRide_87 : decode cX7_mayRide 87 = .ok (.iload_n 3, 1) := dk_29 (dk_at dksX7_mayRide_3 16 rfl rfl)
theorem dX7_mayRide_88 : decode cX7_mayRide 88 = .ok (.if_icmp .gt 4, 3) := dk_163 0 4 (dk_at dksX7_mayRide_3 17 rfl rfl)
theorem dX7_mayRide_91 : decode cX7_mayRide 91 = .ok (.return_, 1) := dk_177 (dk_at dksX7_mayRide_3 20 rfl rfl)
theorem dX7_mayRide_92 : decode cX7_mayRide 92 = .ok (.aload_n 0, 1) := dk_42 (dk_at dksX7_mayRide_3 21 rfl rfl)
theorem dX7_mayRide_93 : decode cX7_mayRide 93 = .ok (.iload_n 2, 1) := dk_28 (dk_at dksX7_mayRide_3 22 rfl rfl)
theorem dX7_mayRide_94 : decode cX7_mayRide 94 = .ok (.iload_n 3, 1) := dk_29 (dk_at dksX7_mayRide_3 23 rfl rfl)
theorem dX7_mayRide_95 : decode cX7_mayRide 95 = .ok (.iload 4, 2) := dk_21 4 (dk_at dksX7_mayRide_4 0 rfl rfl)
theorem dX7_mayRide_97 : decode cX7_mayRide 97 = .ok (.invokevirtual 328, 3) := dk_182 1 72 (dk_at dksX7_mayRide_4 2 rfl rfl)
theorem dX7_mayRide_100 : decode cX7_mayRide 100 = .ok (.aload_n 0, 1) := dk_42 (dk_at dksX7_mayRide_4 5 rfl rfl)
theorem dX7_mayRide_101 : decode cX7_mayRide 101 = .ok (.getfield 90, 3) := dk_180 0 90 (dk_at dksX7_mayRide_4 6 rfl rfl)
theorem dX7_mayRide_104 : decode cX7_mayRide 104 = .ok (.iconst 5, 1) := dk_8 (dk_at dksX7_mayRide_4 9 rfl rfl)
theorem dX7_mayRide_105 : decode cX7_mayRide 105 = .ok (.iload_n 1, 1) := dk_27 (dk_at dksX7_mayRide_4 10 rfl rfl)
theorem dX7_mayRide_106 : decode cX7_mayRide 106 = .ok (.iastore, 1) := dk_79 (dk_at dksX7_mayRide_4 11 rfl rfl)
theorem dX7_mayRide_107 : decode cX7_mayRide 107 = .ok (.aload_n 0, 1) := dk_42 (dk_at dksX7_mayRide_4 12 rfl rfl)
theorem dX7_mayRide_108 : decode cX7_mayRide 108 = .ok (.getfield 90, 3) := dk_180 0 90 (dk_at dksX7_mayRide_4 13 rfl rfl)
theorem dX7_mayRide_111 : decode cX7_mayRide 111 = .ok (.bipush 6, 2) := dk_16 6 (dk_at dksX7_mayRide_4 16 rfl rfl)
theorem dX7_mayRide_113 : decode cX7_mayRide 113 = .ok (.aload_n 0, 1) := dk_42 (dk_at dksX7_mayRide_4 18 rfl rfl)
theorem dX7_mayRide_114 : decode cX7_mayRide 114 = .ok (.getfield 7, 3) := dk_180 0 7 (dk_at dksX7_mayRide_4 19 rfl rfl)
theorem dX7_mayRide_117 : decode cX7_mayRide 117 = .ok (.bipush 12, 2) := dk_16 12 (dk_at dksX7_mayRide_4 22 rfl rfl)
theorem dX7_mayRide_119 : decode cX7_mayRide 119 = .ok (.iload_n 1, 1) := dk_27 (dk_at dksX7_mayRide_5 0 rfl rfl)
theorem dX7_mayRide_120 : decode cX7_mayRide 120 = .ok (.iadd, 1) := dk_96 (dk_at dksX7_mayRide_5 1 rfl rfl)
theorem dX7_mayRide_121 : decode cX7_mayRide 121 = .ok (.iaload, 1) := dk_46 (dk_at dksX7_mayRide_5 2 rfl rfl)
theorem dX7_mayRide_122 : decode cX7_mayRide 122 = .ok (.iastore, 1) := dk_79 (dk_at dksX7_mayRide_5 3 rfl rfl)
theorem dX7_mayRide_123 : decode cX7_mayRide 123 = .ok (.aload_n 0, 1) := dk_42 (dk_at dksX7_mayRide_5 4 rfl rfl)
theorem dX7_mayRide_124 : decode cX7_mayRide 124 = .ok (.bipush 109, 2) := dk_16 109 (dk_at dksX7_mayRide_5 5 rfl rfl)
theorem dX7_mayRide_126 : decode cX7_mayRide 126 = .ok (.invokevirtual 332, 3) := dk_182 1 76 (dk_at dksX7_mayRide_5 7 rfl rfl)
theorem dX7_mayRide_129 : decode cX7_mayRide 129 = .ok (.ifCond .ne 11, 3) := dk_154 0 11 (dk_at dksX7_mayRide_5 10 rfl rfl)
theorem dX7_mayRide_132 : decode cX7_mayRide 132 = .ok (.aload_n 0, 1) := dk_42 (dk_at dksX7_mayRide_5 13 rfl rfl)
theorem dX7_mayRide_133 : decode cX7_mayRide 133 = .ok (.getfield 114, 3) := dk_180 0 114 (dk_at dksX7_mayRide_5 14 rfl rfl)
theorem dX7_mayRide_136 : decode cX7_mayRide 136 = .ok (.iload_n 1, 1) := dk_27 (dk_at dksX7_mayRide_5 17 rfl rfl)
theorem dX7_mayRide_137 : decode cX7_mayRide 137 = .ok (.iload_n 2, 1) := dk_28 (dk_at dksX7_mayRide_5 18 rfl rfl)
theorem dX7_mayRide_138 : decode cX7_mayRide 138 = .ok (.iastore, 1) := dk_79 (dk_at dksX7_mayRide_5 19 rfl rfl)
theorem dX7_mayRide_139 : decode cX7_mayRide 139 = .ok (.return_, 1) := dk_177 (dk_at dksX7_mayRide_5 20 rfl rfl)
theorem dX7_mayRide_140 : decode cX7_mayRide 140 = .ok (.aload_n 0, 1) := dk_42 (dk_at dksX7_mayRide_5 21 rfl rfl)
theorem dX7_mayRide_141 : decode cX7_mayRide 141 = .ok (.getfield 7, 3) := dk_180 0 7 (dk_at dksX7_mayRide_6 0 rfl rfl)
theorem dX7_mayRide_144 : decode cX7_mayRide 144 = .ok (.bipush 12, 2) := dk_16 12 (dk_at dksX7_mayRide_6 3 rfl rfl)
theorem dX7_mayRide_146 : decode cX7_mayRide 146 = .ok (.iload_n 1, 1) := dk_27 (dk_at dksX7_mayRide_6 5 rfl rfl)
theorem dX7_mayRide_147 : decode cX7_mayRide 147 = .ok (.iadd, 1) := dk_96 (dk_at dksX7_mayRide_6 6 rfl rfl)
theorem dX7_mayRide_148 : decode cX7_mayRide 148 = .ok (.sipush 9999, 3) := dk_17 39 15 (dk_at dksX7_mayRide_6 7 rfl rfl)
theorem dX7_mayRide_151 : decode cX7_mayRide 151 = .ok (.aload_n 0, 1) := dk_42 (dk_at dksX7_mayRide_6 10 rfl rfl)
theorem dX7_mayRide_152 : decode cX7_mayRide 152 = .ok (.getfield 7, 3) := dk_180 0 7 (dk_at dksX7_mayRide_6 11 rfl rfl)
theorem dX7_mayRide_155 : decode cX7_mayRide 155 = .ok (.bipush 12, 2) := dk_16 12 (dk_at dksX7_mayRide_6 14 rfl rfl)
theorem dX7_mayRide_157 : decode cX7_mayRide 157 = .ok (.iload_n 1, 1) := dk_27 (dk_at dksX7_mayRide_6 16 rfl rfl)
theorem dX7_mayRide_158 : decode cX7_mayRide 158 = .ok (.iadd, 1) := dk_96 (dk_at dksX7_mayRide_6 17 rfl rfl)
theorem dX7_mayRide_159 : decode cX7_mayRide 159 = .ok (.iaload, 1) := dk_46 (dk_at dksX7_mayRide_6 18 rfl rfl)
theorem dX7_mayRide_160 : decode cX7_mayRide 160 = .ok (.iconst 1, 1) := dk_4 (dk_at dksX7_mayRide_6 19 rfl rfl)
theorem dX7_mayRide_161 : decode cX7_mayRide 161 = .ok (.iadd, 1) := dk_96 (dk_at dksX7_mayRide_6 20 rfl rfl)
theorem dX7_mayRide_162 : decode cX7_mayRide 162 = .ok (.invokestatic 322, 3) := dk_184 1 66 (dk_at dksX7_mayRide_6 21 rfl rfl)
theorem dX7_mayRide_165 : decode cX7_mayRide 165 = .ok (.iastore, 1) := dk_79 (dk_at dksX7_mayRide_7 0 rfl rfl)
theorem dX7_mayRide_166 : decode cX7_mayRide 166 = .ok (.aload_n 0, 1) := dk_42 (dk_at dksX7_mayRide_7 1 rfl rfl)
theorem dX7_mayRide_167 : decode cX7_mayRide 167 = .ok (.aload_n 0, 1) := dk_42 (dk_at dksX7_mayRide_7 2 rfl rfl)
theorem dX7_mayRide_168 : decode cX7_mayRide 168 = .ok (.getfield 335, 3) := dk_180 1 79 (dk_at dksX7_mayRide_7 3 rfl rfl)
theorem dX7_mayRide_171 : decode cX7_mayRide 171 = .ok (.iconst 1, 1) := dk_4 (dk_at dksX7_mayRide_7 6 rfl rfl)
theorem dX7_mayRide_172 : decode cX7_mayRide 172 = .ok (.iadd, 1) := dk_96 (dk_at dksX7_mayRide_7 7 rfl rfl)
theorem dX7_mayRide_173 : decode cX7_mayRide 173 = .ok (.putfield 335, 3) := dk_181 1 79 (dk_at dksX7_mayRide_7 8 rfl rfl)
theorem dX7_mayRide_176 : decode cX7_mayRide 176 = .ok (.return_, 1) := dk_177 (dk_at dksX7_mayRide_7 11 rfl rfl)
abbrev cX7_stopAt : ByteArray := prog_21_method_12_code
def yX7_stopAt : MethodName := ⟨RX7, "stopAt", "(II)I"⟩
def dkwX7_stopAt_1 : List UInt8 := [160, 0, 5, 29, 172, 132, 3, 1, 167, 255, 227, 2, 172]
abbrev dktX7_stopAt_1 : List UInt8 := dkwX7_stopAt_1 ++ []
def dkwX7_stopAt_0 : List UInt8 := [3, 62, 29, 42, 180, 0, 28, 27, 46, 162, 0, 25, 42, 180, 0, 31, 27, 29, 184, 0, 165, 46, 28]
abbrev dktX7_stopAt_0 : List UInt8 := dkwX7_stopAt_0 ++ dktX7_stopAt_1
theorem dksX7_stopAt_0 : cX7_stopAt.data.toList.drop 0 = dktX7_stopAt_0 := by decide +kernel
theorem dksX7_stopAt_1 : cX7_stopAt.data.toList.drop 23 = dktX7_stopAt_1 := dk_seg dksX7_stopAt_0 23 rfl rfl
theorem dX7_stopAt_0 : decode cX7_stopAt 0 = .ok (.iconst 0, 1) := dk_3 (dk_at dksX7_stopAt_0 0 rfl rfl)
theorem dX7_stopAt_1 : decode cX7_stopAt 1 = .ok (.istore_n 3, 1) := dk_62 (dk_at dksX7_stopAt_0 1 rfl rfl)
theorem dX7_stopAt_2 : decode cX7_stopAt 2 = .ok (.iload_n 3, 1) := dk_29 (dk_at dksX7_stopAt_0 2 rfl rfl)
theorem dX7_stopAt_3 : decode cX7_stopAt 3 = .ok (.aload_n 0, 1) := dk_42 (dk_at dksX7_stopAt_0 3 rfl rfl)
theorem dX7_stopAt_4 : decode cX7_stopAt 4 = .ok (.getfield 28, 3) := dk_180 0 28 (dk_at dksX7_stopAt_0 4 rfl rfl)
theorem dX7_stopAt_7 : decode cX7_stopAt 7 = .ok (.iload_n 1, 1) := dk_27 (dk_at dksX7_stopAt_0 7 rfl rfl)
theorem dX7_stopAt_8 : decode cX7_stopAt 8 = .ok (.iaload, 1) := dk_46 (dk_at dksX7_stopAt_0 8 rfl rfl)
theorem dX7_stopAt_9 : decode cX7_stopAt 9 = .ok (.if_icmp .ge 25, 3) := dk_162 0 25 (dk_at dksX7_stopAt_0 9 rfl rfl)
theorem dX7_stopAt_12 : decode cX7_stopAt 12 = .ok (.aload_n 0, 1) := dk_42 (dk_at dksX7_stopAt_0 12 rfl rfl)
theorem dX7_stopAt_13 : decode cX7_stopAt 13 = .ok (.getfield 31, 3) := dk_180 0 31 (dk_at dksX7_stopAt_0 13 rfl rfl)
theorem dX7_stopAt_16 : decode cX7_stopAt 16 = .ok (.iload_n 1, 1) := dk_27 (dk_at dksX7_stopAt_0 16 rfl rfl)
theorem dX7_stopAt_17 : decode cX7_stopAt 17 = .ok (.iload_n 3, 1) := dk_29 (dk_at dksX7_stopAt_0 17 rfl rfl)
theorem dX7_stopAt_18 : decode cX7_stopAt 18 = .ok (.invokestatic 165, 3) := dk_184 0 165 (dk_at dksX7_stopAt_0 18 rfl rfl)
theorem dX7_stopAt_21 : decode cX7_stopAt 21 = .ok (.iaload, 1) := dk_46 (dk_at dksX7_stopAt_0 21 rfl rfl)
theorem dX7_stopAt_22 : decode cX7_stopAt 22 = .ok (.iload_n 2, 1) := dk_28 (dk_at dksX7_stopAt_0 22 rfl rfl)
theorem dX7_stopAt_23 : decode cX7_stopAt 23 = .ok (.if_icmp .ne 5, 3) := dk_160 0 5 (dk_at dksX7_stopAt_1 0 rfl rfl)
theorem dX7_stopAt_26 : decode cX7_stopAt 26 = .ok (.iload_n 3, 1) := dk_29 (dk_at dksX7_stopAt_1 3 rfl rfl)
theorem dX7_stopAt_27 : decode cX7_stopAt 27 = .ok (.ireturn, 1) := dk_172 (dk_at dksX7_stopAt_1 4 rfl rfl)
theorem dX7_stopAt_28 : decode cX7_stopAt 28 = .ok (.iinc 3 1, 3) := dk_132 3 1 (dk_at dksX7_stopAt_1 5 rfl rfl)
theorem dX7_stopAt_31 : decode cX7_stopAt 31 = .ok (.goto (-29), 3) := dk_167 255 227 (dk_at dksX7_stopAt_1 8 rfl rfl)
theorem dX7_stopAt_34 : decode cX7_stopAt 34 = .ok (.iconst (-1), 1) := dk_2 (dk_at dksX7_stopAt_1 11 rfl rfl)
theorem dX7_stopAt_35 : decode cX7_stopAt 35 = .ok (.ireturn, 1) := dk_172 (dk_at dksX7_stopAt_1 12 rfl rfl)
abbrev cX7_holdsAny : ByteArray := prog_21_method_46_code
def yX7_holdsAny : MethodName := ⟨RX7, "holdsAny", "(I)Z"⟩
def dkwX7_holdsAny_2 : List UInt8 := [167, 255, 213, 3, 172]
abbrev dktX7_holdsAny_2 : List UInt8 := dkwX7_holdsAny_2 ++ []
def dkwX7_holdsAny_1 : List UInt8 := [180, 0, 81, 28, 46, 42, 180, 0, 84, 28, 46, 182, 1, 30, 4, 160, 0, 5, 4, 172, 132, 2, 1]
abbrev dktX7_holdsAny_1 : List UInt8 := dkwX7_holdsAny_1 ++ dktX7_holdsAny_2
def dkwX7_holdsAny_0 : List UInt8 := [3, 61, 28, 42, 180, 1, 23, 162, 0, 41, 42, 180, 0, 75, 28, 46, 27, 160, 0, 25, 42, 42]
abbrev dktX7_holdsAny_0 : List UInt8 := dkwX7_holdsAny_0 ++ dktX7_holdsAny_1
theorem dksX7_holdsAny_0 : cX7_holdsAny.data.toList.drop 0 = dktX7_holdsAny_0 := by decide +kernel
theorem dksX7_holdsAny_1 : cX7_holdsAny.data.toList.drop 22 = dktX7_holdsAny_1 := dk_seg dksX7_holdsAny_0 22 rfl rfl
theorem dksX7_holdsAny_2 : cX7_holdsAny.data.toList.drop 45 = dktX7_holdsAny_2 := dk_seg dksX7_holdsAny_1 23 rfl rfl
theorem dX7_holdsAny_0 : decode cX7_holdsAny 0 = .ok (.iconst 0, 1) := dk_3 (dk_at dksX7_holdsAny_0 0 rfl rfl)
theorem dX7_holdsAny_1 : decode cX7_holdsAny 1 = .ok (.istore_n 2, 1) := dk_61 (dk_at dksX7_holdsAny_0 1 rfl rfl)
theorem dX7_holdsAny_2 : decode cX7_holdsAny 2 = .ok (.iload_n 2, 1) := dk_28 (dk_at dksX7_holdsAny_0 2 rfl rfl)
theorem dX7_holdsAny_3 : decode cX7_holdsAny 3 = .ok (.aload_n 0, 1) := dk_42 (dk_at dksX7_holdsAny_0 3 rfl rfl)
theorem dX7_holdsAny_4 : decode cX7_holdsAny 4 = .ok (.getfield 279, 3) := dk_180 1 23 (dk_at dksX7_holdsAny_0 4 rfl rfl)
theorem dX7_holdsAny_7 : decode cX7_holdsAny 7 = .ok (.if_icmp .ge 41, 3) := dk_162 0 41 (dk_at dksX7_holdsAny_0 7 rfl rfl)
theorem dX7_holdsAny_10 : decode cX7_holdsAny 10 = .ok (.aload_n 0, 1) := dk_42 (dk_at dksX7_holdsAny_0 10 rfl rfl)
theorem dX7_holdsAny_11 : decode cX7_holdsAny 11 = .ok (.getfield 75, 3) := dk_180 0 75 (dk_at dksX7_holdsAny_0 11 rfl rfl)
theorem dX7_holdsAny_14 : decode cX7_holdsAny 14 = .ok (.iload_n 2, 1) := dk_28 (dk_at dksX7_holdsAny_0 14 rfl rfl)
theorem dX7_holdsAny_15 : decode cX7_holdsAny 15 = .ok (.iaload, 1) := dk_46 (dk_at dksX7_holdsAny_0 15 rfl rfl)
theorem dX7_holdsAny_16 : decode cX7_holdsAny 16 = .ok (.iload_n 1, 1) := dk_27 (dk_at dksX7_holdsAny_0 16 rfl rfl)
theorem dX7_holdsAny_17 : decode cX7_holdsAny 17 = .ok (.if_icmp .ne 25, 3) := dk_160 0 25 (dk_at dksX7_holdsAny_0 17 rfl rfl)
theorem dX7_holdsAny_20 : decode cX7_holdsAny 20 = .ok (.aload_n 0, 1) := dk_42 (dk_at dksX7_holdsAny_0 20 rfl rfl)
theorem dX7_holdsAny_21 : decode cX7_holdsAny 21 = .ok (.aload_n 0, 1) := dk_42 (dk_at dksX7_holdsAny_0 21 rfl rfl)
theorem dX7_holdsAny_22 : decode cX7_holdsAny 22 = .ok (.getfield 81, 3) := dk_180 0 81 (dk_at dksX7_holdsAny_1 0 rfl rfl)
theorem dX7_holdsAny_25 : decode cX7_holdsAny 25 = .ok (.iload_n 2, 1) := dk_28 (dk_at dksX7_holdsAny_1 3 rfl rfl)
theorem dX7_holdsAny_26 : decode cX7_holdsAny 26 = .ok (.iaload, 1) := dk_46 (dk_at dksX7_holdsAny_1 4 rfl rfl)
theorem dX7_holdsAny_27 : decode cX7_holdsAny 27 = .ok (.aload_n 0, 1) := dk_42 (dk_at dksX7_holdsAny_1 5 rfl rfl)
theorem dX7_holdsAny_28 : decode cX7_holdsAny 28 = .ok (.getfield 84, 3) := dk_180 0 84 (dk_at dksX7_holdsAny_1 6 rfl rfl)
theorem dX7_holdsAny_31 : decode cX7_holdsAny 31 = .ok (.iload_n 2, 1) := dk_28 (dk_at dksX7_holdsAny_1 9 rfl rfl)
theorem dX7_holdsAny_32 : decode cX7_holdsAny 32 = .ok (.iaload, 1) := dk_46 (dk_at dksX7_holdsAny_1 10 rfl rfl)
theorem dX7_holdsAny_33 : decode cX7_holdsAny 33 = .ok (.invokevirtual 286, 3) := dk_182 1 30 (dk_at dksX7_holdsAny_1 11 rfl rfl)
theorem dX7_holdsAny_36 : decode cX7_holdsAny 36 = .ok (.iconst 1, 1) := dk_4 (dk_at dksX7_holdsAny_1 14 rfl rfl)
theorem dX7_holdsAny_37 : decode cX7_holdsAny 37 = .ok (.if_icmp .ne 5, 3) := dk_160 0 5 (dk_at dksX7_holdsAny_1 15 rfl rfl)
theorem dX7_holdsAny_40 : decode cX7_holdsAny 40 = .ok (.iconst 1, 1) := dk_4 (dk_at dksX7_holdsAny_1 18 rfl rfl)
theorem dX7_holdsAny_41 : decode cX7_holdsAny 41 = .ok (.ireturn, 1) := dk_172 (dk_at dksX7_holdsAny_1 19 rfl rfl)
theorem dX7_holdsAny_42 : decode cX7_holdsAny 42 = .ok (.iinc 2 1, 3) := dk_132 2 1 (dk_at dksX7_holdsAny_1 20 rfl rfl)
theorem dX7_holdsAny_45 : decode cX7_holdsAny 45 = .ok (.goto (-43), 3) := dk_167 255 213 (dk_at dksX7_holdsAny_2 0 rfl rfl)
theorem dX7_holdsAny_48 : decode cX7_holdsAny 48 = .ok (.iconst 0, 1) := dk_3 (dk_at dksX7_holdsAny_2 3 rfl rfl)
theorem dX7_holdsAny_49 : decode cX7_holdsAny 49 = .ok (.ireturn, 1) := dk_172 (dk_at dksX7_holdsAny_2 4 rfl rfl)
abbrev cX7_tried : ByteArray := prog_21_method_63_code
def yX7_tried : MethodName := ⟨RX7, "tried", "(II)I"⟩
def dkwX7_tried_7 : List UInt8 := [172]
abbrev dktX7_tried_7 : List UInt8 := dkwX7_tried_7 ++ []
def dkwX7_tried_6 : List UInt8 := [180, 0, 7, 3, 28, 96, 17, 0, 200, 100, 46, 62, 42, 180, 0, 13, 42, 180, 0, 7, 184, 1, 111, 29]
abbrev dktX7_tried_6 : List UInt8 := dkwX7_tried_6 ++ dktX7_tried_7
def dkwX7_tried_5 : List UInt8 := [28, 17, 0, 200, 162, 0, 18, 42, 180, 0, 7, 16, 12, 28, 96, 16, 100, 100, 46, 167, 0, 15, 42]
abbrev dktX7_tried_5 : List UInt8 := dkwX7_tried_5 ++ dktX7_tried_6
def dkwX7_tried_4 : List UInt8 := [42, 180, 1, 69, 62, 167, 0, 54, 42, 180, 1, 79, 62, 167, 0, 46, 42, 180, 1, 89, 62, 167, 0, 38]
abbrev dktX7_tried_4 : List UInt8 := dkwX7_tried_4 ++ dktX7_tried_5
def dkwX7_tried_3 : List UInt8 := [170, 0, 0, 0, 0, 0, 51, 0, 0, 0, 0, 0, 0, 0, 2, 0, 0, 0, 27, 0, 0, 0, 35, 0, 0, 0, 43]
abbrev dktX7_tried_3 : List UInt8 := dkwX7_tried_3 ++ dktX7_tried_4
def dkwX7_tried_2 : List UInt8 := [42, 180, 0, 13, 184, 1, 111, 42, 27, 182, 1, 105, 28]
abbrev dktX7_tried_2 : List UInt8 := dkwX7_tried_2 ++ dktX7_tried_3
def dkwX7_tried_1 : List UInt8 := [182, 1, 108, 154, 0, 17, 42, 28, 17, 0, 200, 100, 182, 1, 108, 154, 0, 5, 2, 172, 42, 180, 0, 7]
abbrev dktX7_tried_1 : List UInt8 := dkwX7_tried_1 ++ dktX7_tried_2
def dkwX7_tried_0 : List UInt8 := [27, 4, 16, 30, 184, 0, 154, 153, 0, 35, 28, 3, 5, 184, 0, 154, 154, 0, 28, 42, 28, 16, 100, 100]
abbrev dktX7_tried_0 : List UInt8 := dkwX7_tried_0 ++ dktX7_tried_1
theorem dksX7_tried_0 : cX7_tried.data.toList.drop 0 = dktX7_tried_0 := by decide +kernel
theorem dksX7_tried_1 : cX7_tried.data.toList.drop 24 = dktX7_tried_1 := dk_seg dksX7_tried_0 24 rfl rfl
theorem dksX7_tried_2 : cX7_tried.data.toList.drop 48 = dktX7_tried_2 := dk_seg dksX7_tried_1 24 rfl rfl
theorem dksX7_tried_3 : cX7_tried.data.toList.drop 61 = dktX7_tried_3 := dk_seg dksX7_tried_2 13 rfl rfl
theorem dksX7_tried_4 : cX7_tried.data.toList.drop 88 = dktX7_tried_4 := dk_seg dksX7_tried_3 27 rfl rfl
theorem dksX7_tried_5 : cX7_tried.data.toList.drop 112 = dktX7_tried_5 := dk_seg dksX7_tried_4 24 rfl rfl
theorem dksX7_tried_6 : cX7_tried.data.toList.drop 135 = dktX7_tried_6 := dk_seg dksX7_tried_5 23 rfl rfl
theorem dksX7_tried_7 : cX7_tried.data.toList.drop 159 = dktX7_tried_7 := dk_seg dksX7_tried_6 24 rfl rfl
theorem dX7_tried_0 : decode cX7_tried 0 = .ok (.iload_n 1, 1) := dk_27 (dk_at dksX7_tried_0 0 rfl rfl)
theorem dX7_tried_1 : decode cX7_tried 1 = .ok (.iconst 1, 1) := dk_4 (dk_at dksX7_tried_0 1 rfl rfl)
theorem dX7_tried_2 : decode cX7_tried 2 = .ok (.bipush 30, 2) := dk_16 30 (dk_at dksX7_tried_0 2 rfl rfl)
theorem dX7_tried_4 : decode cX7_tried 4 = .ok (.invokestatic 154, 3) := dk_184 0 154 (dk_at dksX7_tried_0 4 rfl rfl)
theorem dX7_tried_7 : decode cX7_tried 7 = .ok (.ifCond .eq 35, 3) := dk_153 0 35 (dk_at dksX7_tried_0 7 rfl rfl)
theorem dX7_tried_10 : decode cX7_tried 10 = .ok (.iload_n 2, 1) := dk_28 (dk_at dksX7_tried_0 10 rfl rfl)
theorem dX7_tried_11 : decode cX7_tried 11 = .ok (.iconst 0, 1) := dk_3 (dk_at dksX7_tried_0 11 rfl rfl)
theorem dX7_tried_12 : decode cX7_tried 12 = .ok (.iconst 2, 1) := dk_5 (dk_at dksX7_tried_0 12 rfl rfl)
theorem dX7_tried_13 : decode cX7_tried 13 = .ok (.invokestatic 154, 3) := dk_184 0 154 (dk_at dksX7_tried_0 13 rfl rfl)
theorem dX7_tried_16 : decode cX7_tried 16 = .ok (.ifCond .ne 28, 3) := dk_154 0 28 (dk_at dksX7_tried_0 16 rfl rfl)
theorem dX7_tried_19 : decode cX7_tried 19 = .ok (.aload_n 0, 1) := dk_42 (dk_at dksX7_tried_0 19 rfl rfl)
theorem dX7_tried_20 : decode cX7_tried 20 = .ok (.iload_n 2, 1) := dk_28 (dk_at dksX7_tried_0 20 rfl rfl)
theorem dX7_tried_21 : decode cX7_tried 21 = .ok (.bipush 100, 2) := dk_16 100 (dk_at dksX7_tried_0 21 rfl rfl)
theorem dX7_tried_23 : decode cX7_tried 23 = .ok (.isub, 1) := dk_100 (dk_at dksX7_tried_0 23 rfl rfl)
theorem dX7_tried_24 : decode cX7_tried 24 = .ok (.invokevirtual 364, 3) := dk_182 1 108 (dk_at dksX7_tried_1 0 rfl rfl)
theorem dX7_tried_27 : decode cX7_tried 27 = .ok (.ifCond .ne 17, 3) := dk_154 0 17 (dk_at dksX7_tried_1 3 rfl rfl)
theorem dX7_tried_30 : decode cX7_tried 30 = .ok (.aload_n 0, 1) := dk_42 (dk_at dksX7_tried_1 6 rfl rfl)
theorem dX7_tried_31 : decode cX7_tried 31 = .ok (.iload_n 2, 1) := dk_28 (dk_at dksX7_tried_1 7 rfl rfl)
theorem dX7_tried_32 : decode cX7_tried 32 = .ok (.sipush 200, 3) := dk_17 0 200 (dk_at dksX7_tried_1 8 rfl rfl)
theorem dX7_tried_35 : decode cX7_tried 35 = .ok (.isub, 1) := dk_100 (dk_at dksX7_tried_1 11 rfl rfl)
theorem dX7_tried_36 : decode cX7_tried 36 = .ok (.invokevirtual 364, 3) := dk_182 1 108 (dk_at dksX7_tried_1 12 rfl rfl)
theorem dX7_tried_39 : decode cX7_tried 39 = .ok (.ifCond .ne 5, 3) := dk_154 0 5 (dk_at dksX7_tried_1 15 rfl rfl)
theorem dX7_tried_42 : decode cX7_tried 42 = .ok (.iconst (-1), 1) := dk_2 (dk_at dksX7_tried_1 18 rfl rfl)
theorem dX7_tried_43 : decode cX7_tried 43 = .ok (.ireturn, 1) := dk_172 (dk_at dksX7_tried_1 19 rfl rfl)
theorem dX7_tried_44 : decode cX7_tried 44 = .ok (.aload_n 0, 1) := dk_42 (dk_at dksX7_tried_1 20 rfl rfl)
theorem dX7_tried_45 : decode cX7_tried 45 = .ok (.getfield 7, 3) := dk_180 0 7 (dk_at dksX7_tried_1 21 rfl rfl)
theorem dX7_tried_48 : decode cX7_tried 48 = .ok (.aload_n 0, 1) := dk_42 (dk_at dksX7_tried_2 0 rfl rfl)
theorem dX7_tried_49 : decode cX7_tried 49 = .ok (.getfield 13, 3) := dk_180 0 13 (dk_at dksX7_tried_2 1 rfl rfl)
theorem dX7_tried_52 : decode cX7_tried 52 = .ok (.invokestatic 367, 3) := dk_184 1 111 (dk_at dksX7_tried_2 4 rfl rfl)
theorem dX7_tried_55 : decode cX7_tried 55 = .ok (.aload_n 0, 1) := dk_42 (dk_at dksX7_tried_2 7 rfl rfl)
theorem dX7_tried_56 : decode cX7_tried 56 = .ok (.iload_n 1, 1) := dk_27 (dk_at dksX7_tried_2 8 rfl rfl)
theorem dX7_tried_57 : decode cX7_tried 57 = .ok (.invokevirtual 361, 3) := dk_182 1 105 (dk_at dksX7_tried_2 9 rfl rfl)
theorem dX7_tried_60 : decode cX7_tried 60 = .ok (.iload_n 2, 1) := dk_28 (dk_at dksX7_tried_2 12 rfl rfl)
theorem dX7_tried_61 : decode cX7_tried 61 = .ok (.tableswitch 51 0 2 #[27, 35, 43], 27) := by decide +kernel
theorem dX7_tried_88 : decode cX7_tried 88 = .ok (.aload_n 0, 1) := dk_42 (dk_at dksX7_tried_4 0 rfl rfl)
theorem dX7_tried_89 : decode cX7_tried 89 = .ok (.getfield 325, 3) := dk_180 1 69 (dk_at dksX7_tried_4 1 rfl rfl)
theorem dX7_tried_92 : decode cX7_tried 92 = .ok (.istore_n 3, 1) := dk_62 (dk_at dksX7_tried_4 4 rfl rfl)
theorem dX7_tried_93 : decode cX7_tried 93 = .ok (.goto 54, 3) := dk_167 0 54 (dk_at dksX7_tried_4 5 rfl rfl)
theorem dX7_tried_96 : decode cX7_tried 96 = .ok (.aload_n 0, 1) := dk_42 (dk_at dksX7_tried_4 8 rfl rfl)
theorem dX7_tried_97 : decode cX7_tried 97 = .ok (.getfield 335, 3) := dk_180 1 79 (dk_at dksX7_tried_4 9 rfl rfl)
theorem dX7_tried_100 : decode cX7_tried 100 = .ok (.istore_n 3, 1) := dk_62 (dk_at dksX7_tried_4 12 rfl rfl)
theorem dX7_tried_101 : decode cX7_tried 101 = .ok (.goto 46, 3) := dk_167 0 46 (dk_at dksX7_tried_4 13 rfl rfl)
theorem dX7_tried_104 : decode cX7_tried 104 = .ok (.aload_n 0, 1) := dk_42 (dk_at dksX7_tried_4 16 rfl rfl)
theorem dX7_tried_105 : decode cX7_tried 105 = .ok (.getfield 345, 3) := dk_180 1 89 (dk_at dksX7_tried_4 17 rfl rfl)
theorem dX7_tried_108 : decode cX7_tried 108 = .ok (.istore_n 3, 1) := dk_62 (dk_at dksX7_tried_4 20 rfl rfl)
theorem dX7_tried_109 : decode cX7_tried 109 = .ok (.goto 38, 3) := dk_167 0 38 (dk_at dksX7_tried_4 21 rfl rfl)
theorem dX7_tried_112 : decode cX7_tried 112 = .ok (.iload_n 2, 1) := dk_28 (dk_at dksX7_tried_5 0 rfl rfl)
theorem dX7_tried_113 : decode cX7_tried 113 = .ok (.sipush 200, 3) := dk_17 0 200 (dk_at dksX7_tried_5 1 rfl rfl)
theorem dX7_tried_116 : decode cX7_tried 116 = .ok (.if_icmp .ge 18, 3) := dk_162 0 18 (dk_at dksX7_tried_5 4 rfl rfl)
theorem dX7_tried_119 : decode cX7_tried 119 = .ok (.aload_n 0, 1) := dk_42 (dk_at dksX7_tried_5 7 rfl rfl)
theorem dX7_tried_120 : decode cX7_tried 120 = .ok (.getfield 7, 3) := dk_180 0 7 (dk_at dksX7_tried_5 8 rfl rfl)
theorem dX7_tried_123 : decode cX7_tried 123 = .ok (.bipush 12, 2) := dk_16 12 (dk_at dksX7_tried_5 11 rfl rfl)
theorem dX7_tried_125 : decode cX7_tried 125 = .ok (.iload_n 2, 1) := dk_28 (dk_at dksX7_tried_5 13 rfl rfl)
theorem dX7_tried_126 : decode cX7_tried 126 = .ok (.iadd, 1) := dk_96 (dk_at dksX7_tried_5 14 rfl rfl)
theorem dX7_tried_127 : decode cX7_tried 127 = .ok (.bipush 100, 2) := dk_16 100 (dk_at dksX7_tried_5 15 rfl rfl)
theorem dX7_tried_129 : decode cX7_tried 129 = .ok (.isub, 1) := dk_100 (dk_at dksX7_tried_5 17 rfl rfl)
theorem dX7_tried_130 : decode cX7_tried 130 = .ok (.iaload, 1) := dk_46 (dk_at dksX7_tried_5 18 rfl rfl)
theorem dX7_tried_131 : decode cX7_tried 131 = .ok (.goto 15, 3) := dk_167 0 15 (dk_at dksX7_tried_5 19 rfl rfl)
theorem dX7_tried_134 : decode cX7_tried 134 = .ok (.aload_n 0, 1) := dk_42 (dk_at dksX7_tried_5 22 rfl rfl)
theorem dX7_tried_135 : decode cX7_tried 135 = .ok (.getfield 7, 3) := dk_180 0 7 (dk_at dksX7_tried_6 0 rfl rfl)
theorem dX7_tried_138 : decode cX7_tried 138 = .ok (.iconst 0, 1) := dk_3 (dk_at dksX7_tried_6 3 rfl rfl)
theorem dX7_tried_139 : decode cX7_tried 139 = .ok (.iload_n 2, 1) := dk_28 (dk_at dksX7_tried_6 4 rfl rfl)
theorem dX7_tried_140 : decode cX7_tried 140 = .ok (.iadd, 1) := dk_96 (dk_at dksX7_tried_6 5 rfl rfl)
theorem dX7_tried_141 : decode cX7_tried 141 = .ok (.sipush 200, 3) := dk_17 0 200 (dk_at dksX7_tried_6 6 rfl rfl)
theorem dX7_tried_144 : decode cX7_tried 144 = .ok (.isub, 1) := dk_100 (dk_at dksX7_tried_6 9 rfl rfl)
theorem dX7_tried_145 : decode cX7_tried 145 = .ok (.iaload, 1) := dk_46 (dk_at dksX7_tried_6 10 rfl rfl)
theorem dX7_tried_146 : decode cX7_tried 146 = .ok (.istore_n 3, 1) := dk_62 (dk_at dksX7_tried_6 11 rfl rfl)
theorem dX7_tried_147 : decode cX7_tried 147 = .ok (.aload_n 0, 1) := dk_42 (dk_at dksX7_tried_6 12 rfl rfl)
theorem dX7_tried_148 : decode cX7_tried 148 = .ok (.getfield 13, 3) := dk_180 0 13 (dk_at dksX7_tried_6 13 rfl rfl)
theorem dX7_tried_151 : decode cX7_tried 151 = .ok (.aload_n 0, 1) := dk_42 (dk_at dksX7_tried_6 16 rfl rfl)
theorem dX7_tried_152 : decode cX7_tried 152 = .ok (.getfield 7, 3) := dk_180 0 7 (dk_at dksX7_tried_6 17 rfl rfl)
theorem dX7_tried_155 : decode cX7_tried 155 = .ok (.invokestatic 367, 3) := dk_184 1 111 (dk_at dksX7_tried_6 20 rfl rfl)
theorem dX7_tried_158 : decode cX7_tried 158 = .ok (.iload_n 3, 1) := dk_29 (dk_at dksX7_tried_6 23 rfl rfl)
theorem dX7_tried_159 : decode cX7_tried 159 = .ok (.ireturn, 1) := dk_172 (dk_at dksX7_tried_7 0 rfl rfl)
abbrev cX7_isPerson : ByteArray := prog_21_method_7_code
def yX7_isPerson : MethodName := ⟨RX7, "isPerson", "(I)Z"⟩
def dkwX7_isPerson_1 : List UInt8 := [172]
abbrev dktX7_isPerson_1 : List UInt8 := dkwX7_isPerson_1 ++ []
def dkwX7_isPerson_0 : List UInt8 := [27, 3, 16, 11, 184, 0, 154, 153, 0, 16, 42, 180, 0, 43, 27, 51, 153, 0, 7, 4, 167, 0, 4, 3]
abbrev dktX7_isPerson_0 : List UInt8 := dkwX7_isPerson_0 ++ dktX7_isPerson_1
theorem dksX7_isPerson_0 : cX7_isPerson.data.toList.drop 0 = dktX7_isPerson_0 := by decide +kernel
theorem dksX7_isPerson_1 : cX7_isPerson.data.toList.drop 24 = dktX7_isPerson_1 := dk_seg dksX7_isPerson_0 24 rfl rfl
theorem dX7_isPerson_0 : decode cX7_isPerson 0 = .ok (.iload_n 1, 1) := dk_27 (dk_at dksX7_isPerson_0 0 rfl rfl)
theorem dX7_isPerson_1 : decode cX7_isPerson 1 = .ok (.iconst 0, 1) := dk_3 (dk_at dksX7_isPerson_0 1 rfl rfl)
theorem dX7_isPerson_2 : decode cX7_isPerson 2 = .ok (.bipush 11, 2) := dk_16 11 (dk_at dksX7_isPerson_0 2 rfl rfl)
theorem dX7_isPerson_4 : decode cX7_isPerson 4 = .ok (.invokestatic 154, 3) := dk_184 0 154 (dk_at dksX7_isPerson_0 4 rfl rfl)
theorem dX7_isPerson_7 : decode cX7_isPerson 7 = .ok (.ifCond .eq 16, 3) := dk_153 0 16 (dk_at dksX7_isPerson_0 7 rfl rfl)
theorem dX7_isPerson_10 : decode cX7_isPerson 10 = .ok (.aload_n 0, 1) := dk_42 (dk_at dksX7_isPerson_0 10 rfl rfl)
theorem dX7_isPerson_11 : decode cX7_isPerson 11 = .ok (.getfield 43, 3) := dk_180 0 43 (dk_at dksX7_isPerson_0 11 rfl rfl)
theorem dX7_isPerson_14 : decode cX7_isPerson 14 = .ok (.iload_n 1, 1) := dk_27 (dk_at dksX7_isPerson_0 14 rfl rfl)
theorem dX7_isPerson_15 : decode cX7_isPerson 15 = .ok (.baload, 1) := dk_51 (dk_at dksX7_isPerson_0 15 rfl rfl)
theorem dX7_isPerson_16 : decode cX7_isPerson 16 = .ok (.ifCond .eq 7, 3) := dk_153 0 7 (dk_at dksX7_isPerson_0 16 rfl rfl)
theorem dX7_isPerson_19 : decode cX7_isPerson 19 = .ok (.iconst 1, 1) := dk_4 (dk_at dksX7_isPerson_0 19 rfl rfl)
theorem dX7_isPerson_20 : decode cX7_isPerson 20 = .ok (.goto 4, 3) := dk_167 0 4 (dk_at dksX7_isPerson_0 20 rfl rfl)
theorem dX7_isPerson_23 : decode cX7_isPerson 23 = .ok (.iconst 0, 1) := dk_3 (dk_at dksX7_isPerson_0 23 rfl rfl)
theorem dX7_isPerson_24 : decode cX7_isPerson 24 = .ok (.ireturn, 1) := dk_172 (dk_at dksX7_isPerson_1 0 rfl rfl)
abbrev cX7_copies : ByteArray := prog_21_method_6_code
def yX7_copies : MethodName := ⟨RX7, "copies", "([I[I)V"⟩
def dkwX7_copies_0 : List UInt8 := [3, 61, 28, 16, 26, 162, 0, 15, 43, 28, 42, 28, 46, 79, 132, 2, 1, 167, 255, 241, 177]
abbrev dktX7_copies_0 : List UInt8 := dkwX7_copies_0 ++ []
theorem dksX7_copies_0 : cX7_copies.data.toList.drop 0 = dktX7_copies_0 := by decide +kernel
theorem dX7_copies_0 : decode cX7_copies 0 = .ok (.iconst 0, 1) := dk_3 (dk_at dksX7_copies_0 0 rfl rfl)
theorem dX7_copies_1 : decode cX7_copies 1 = .ok (.istore_n 2, 1) := dk_61 (dk_at dksX7_copies_0 1 rfl rfl)
theorem dX7_copies_2 : decode cX7_copies 2 = .ok (.iload_n 2, 1) := dk_28 (dk_at dksX7_copies_0 2 rfl rfl)
theorem dX7_copies_3 : decode cX7_copies 3 = .ok (.bipush 26, 2) := dk_16 26 (dk_at dksX7_copies_0 3 rfl rfl)
theorem dX7_copies_5 : decode cX7_copies 5 = .ok (.if_icmp .ge 15, 3) := dk_162 0 15 (dk_at dksX7_copies_0 5 rfl rfl)
theorem dX7_copies_8 : decode cX7_copies 8 = .ok (.aload_n 1, 1) := dk_43 (dk_at dksX7_copies_0 8 rfl rfl)
theorem dX7_copies_9 : decode cX7_copies 9 = .ok (.iload_n 2, 1) := dk_28 (dk_at dksX7_copies_0 9 rfl rfl)
theorem dX7_copies_10 : decode cX7_copies 10 = .ok (.aload_n 0, 1) := dk_42 (dk_at dksX7_copies_0 10 rfl rfl)
theorem dX7_copies_11 : decode cX7_copies 11 = .ok (.iload_n 2, 1) := dk_28 (dk_at dksX7_copies_0 11 rfl rfl)
theorem dX7_copies_12 : decode cX7_copies 12 = .ok (.iaload, 1) := dk_46 (dk_at dksX7_copies_0 12 rfl rfl)
theorem dX7_copies_13 : decode cX7_copies 13 = .ok (.iastore, 1) := dk_79 (dk_at dksX7_copies_0 13 rfl rfl)
theorem dX7_copies_14 : decode cX7_copies 14 = .ok (.iinc 2 1, 3) := dk_132 2 1 (dk_at dksX7_copies_0 14 rfl rfl)
theorem dX7_copies_17 : decode cX7_copies 17 = .ok (.goto (-15), 3) := dk_167 255 241 (dk_at dksX7_copies_0 17 rfl rfl)
theorem dX7_copies_20 : decode cX7_copies 20 = .ok (.return_, 1) := dk_177 (dk_at dksX7_copies_0 20 rfl rfl)
abbrev cX7_personIs : ByteArray := prog_21_method_64_code
def yX7_personIs : MethodName := ⟨RX7, "personIs", "(II)I"⟩
def dkwX7_personIs_3 : List UInt8 := [180, 0, 7, 3, 27, 96, 46, 172, 42, 180, 0, 7, 16, 12, 27, 96, 46, 172, 2, 172]
abbrev dktX7_personIs_3 : List UInt8 := dkwX7_personIs_3 ++ []
def dkwX7_personIs_2 : List UInt8 := [42, 180, 0, 19, 27, 46, 172, 42, 180, 0, 22, 27, 46, 172, 42, 180, 0, 25, 27, 46, 172, 42]
abbrev dktX7_personIs_2 : List UInt8 := dkwX7_personIs_2 ++ dktX7_personIs_3
def dkwX7_personIs_1 : List UInt8 := [170, 0, 0, 0, 73, 0, 0, 0, 0, 0, 0, 0, 4, 0, 0, 0, 33, 0, 0, 0, 40, 0, 0, 0, 47, 0, 0, 0, 54, 0, 0, 0, 63]
abbrev dktX7_personIs_1 : List UInt8 := dkwX7_personIs_1 ++ dktX7_personIs_2
def dkwX7_personIs_0 : List UInt8 := [42, 27, 182, 1, 108, 154, 0, 5, 2, 172, 28]
abbrev dktX7_personIs_0 : List UInt8 := dkwX7_personIs_0 ++ dktX7_personIs_1
theorem dksX7_personIs_0 : cX7_personIs.data.toList.drop 0 = dktX7_personIs_0 := by decide +kernel
theorem dksX7_personIs_1 : cX7_personIs.data.toList.drop 11 = dktX7_personIs_1 := dk_seg dksX7_personIs_0 11 rfl rfl
theorem dksX7_personIs_2 : cX7_personIs.data.toList.drop 44 = dktX7_personIs_2 := dk_seg dksX7_personIs_1 33 rfl rfl
theorem dksX7_personIs_3 : cX7_personIs.data.toList.drop 66 = dktX7_personIs_3 := dk_seg dksX7_personIs_2 22 rfl rfl
theorem dX7_personIs_0 : decode cX7_personIs 0 = .ok (.aload_n 0, 1) := dk_42 (dk_at dksX7_personIs_0 0 rfl rfl)
theorem dX7_personIs_1 : decode cX7_personIs 1 = .ok (.iload_n 1, 1) := dk_27 (dk_at dksX7_personIs_0 1 rfl rfl)
theorem dX7_personIs_2 : decode cX7_personIs 2 = .ok (.invokevirtual 364, 3) := dk_182 1 108 (dk_at dksX7_personIs_0 2 rfl rfl)
theorem dX7_personIs_5 : decode cX7_personIs 5 = .ok (.ifCond .ne 5, 3) := dk_154 0 5 (dk_at dksX7_personIs_0 5 rfl rfl)
theorem dX7_personIs_8 : decode cX7_personIs 8 = .ok (.iconst (-1), 1) := dk_2 (dk_at dksX7_personIs_0 8 rfl rfl)
theorem dX7_personIs_9 : decode cX7_personIs 9 = .ok (.ireturn, 1) := dk_172 (dk_at dksX7_personIs_0 9 rfl rfl)
theorem dX7_personIs_10 : decode cX7_personIs 10 = .ok (.iload_n 2, 1) := dk_28 (dk_at dksX7_personIs_0 10 rfl rfl)
theorem dX7_personIs_11 : decode cX7_personIs 11 = .ok (.tableswitch 73 0 4 #[33, 40, 47, 54, 63], 33) := by decide +kernel
theorem dX7_personIs_44 : decode cX7_personIs 44 = .ok (.aload_n 0, 1) := dk_42 (dk_at dksX7_personIs_2 0 rfl rfl)
theorem dX7_personIs_45 : decode cX7_personIs 45 = .ok (.getfield 19, 3) := dk_180 0 19 (dk_at dksX7_personIs_2 1 rfl rfl)
theorem dX7_personIs_48 : decode cX7_personIs 48 = .ok (.iload_n 1, 1) := dk_27 (dk_at dksX7_personIs_2 4 rfl rfl)
theorem dX7_personIs_49 : decode cX7_personIs 49 = .ok (.iaload, 1) := dk_46 (dk_at dksX7_personIs_2 5 rfl rfl)
theorem dX7_personIs_50 : decode cX7_personIs 50 = .ok (.ireturn, 1) := dk_172 (dk_at dksX7_personIs_2 6 rfl rfl)
theorem dX7_personIs_51 : decode cX7_personIs 51 = .ok (.aload_n 0, 1) := dk_42 (dk_at dksX7_personIs_2 7 rfl rfl)
theorem dX7_personIs_52 : decode cX7_personIs 52 = .ok (.getfield 22, 3) := dk_180 0 22 (dk_at dksX7_personIs_2 8 rfl rfl)
theorem dX7_personIs_55 : decode cX7_personIs 55 = .ok (.iload_n 1, 1) := dk_27 (dk_at dksX7_personIs_2 11 rfl rfl)
theorem dX7_personIs_56 : decode cX7_personIs 56 = .ok (.iaload, 1) := dk_46 (dk_at dksX7_personIs_2 12 rfl rfl)
theorem dX7_personIs_57 : decode cX7_personIs 57 = .ok (.ireturn, 1) := dk_172 (dk_at dksX7_personIs_2 13 rfl rfl)
theorem dX7_personIs_58 : decode cX7_personIs 58 = .ok (.aload_n 0, 1) := dk_42 (dk_at dksX7_personIs_2 14 rfl rfl)
theorem dX7_personIs_59 : decode cX7_personIs 59 = .ok (.getfield 25, 3) := dk_180 0 25 (dk_at dksX7_personIs_2 15 rfl rfl)
theorem dX7_personIs_62 : decode cX7_personIs 62 = .ok (.iload_n 1, 1) := dk_27 (dk_at dksX7_personIs_2 18 rfl rfl)
theorem dX7_personIs_63 : decode cX7_personIs 63 = .ok (.iaload, 1) := dk_46 (dk_at dksX7_personIs_2 19 rfl rfl)
theorem dX7_personIs_64 : decode cX7_personIs 64 = .ok (.ireturn, 1) := dk_172 (dk_at dksX7_personIs_2 20 rfl rfl)
theorem dX7_personIs_65 : decode cX7_personIs 65 = .ok (.aload_n 0, 1) := dk_42 (dk_at dksX7_personIs_2 21 rfl rfl)
theorem dX7_personIs_66 : decode cX7_personIs 66 = .ok (.getfield 7, 3) := dk_180 0 7 (dk_at dksX7_personIs_3 0 rfl rfl)
theorem dX7_personIs_69 : decode cX7_personIs 69 = .ok (.iconst 0, 1) := dk_3 (dk_at dksX7_personIs_3 3 rfl rfl)
theorem dX7_personIs_70 : decode cX7_personIs 70 = .ok (.iload_n 1, 1) := dk_27 (dk_at dksX7_personIs_3 4 rfl rfl)
theorem dX7_personIs_71 : decode cX7_personIs 71 = .ok (.iadd, 1) := dk_96 (dk_at dksX7_personIs_3 5 rfl rfl)
theorem dX7_personIs_72 : decode cX7_personIs 72 = .ok (.iaload, 1) := dk_46 (dk_at dksX7_personIs_3 6 rfl rfl)
theorem dX7_personIs_73 : decode cX7_personIs 73 = .ok (.ireturn, 1) := dk_172 (dk_at dksX7_personIs_3 7 rfl rfl)
theorem dX7_personIs_74 : decode cX7_personIs 74 = .ok (.aload_n 0, 1) := dk_42 (dk_at dksX7_personIs_3 8 rfl rfl)
theorem dX7_personIs_75 : decode cX7_personIs 75 = .ok (.getfield 7, 3) := dk_180 0 7 (dk_at dksX7_personIs_3 9 rfl rfl)
theorem dX7_personIs_78 : decode cX7_personIs 78 = .ok (.bipush 12, 2) := dk_16 12 (dk_at dksX7_personIs_3 12 rfl rfl)
theorem dX7_personIs_80 : decode cX7_personIs 80 = .ok (.iload_n 1, 1) := dk_27 (dk_at dksX7_personIs_3 14 rfl rfl)
theorem dX7_personIs_81 : decode cX7_personIs 81 = .ok (.iadd, 1) := dk_96 (dk_at dksX7_personIs_3 15 rfl rfl)
theorem dX7_personIs_82 : decode cX7_personIs 82 = .ok (.iaload, 1) := dk_46 (dk_at dksX7_personIs_3 16 rfl rfl)
theorem dX7_personIs_83 : decode cX7_personIs 83 = .ok (.ireturn, 1) := dk_172 (dk_at dksX7_personIs_3 17 rfl rfl)
theorem dX7_personIs_84 : decode cX7_personIs 84 = .ok (.iconst (-1), 1) := dk_2 (dk_at dksX7_personIs_3 18 rfl rfl)
theorem dX7_personIs_85 : decode cX7_personIs 85 = .ok (.ireturn, 1) := dk_172 (dk_at dksX7_personIs_3 19 rfl rfl)
abbrev cX7_trainIs : ByteArray := prog_21_method_65_code
def yX7_trainIs : MethodName := ⟨RX7, "trainIs", "(II)I"⟩
def dkwX7_trainIs_6 : List UInt8 := [184, 0, 165, 46, 172, 2, 172]
abbrev dktX7_trainIs_6 : List UInt8 := dkwX7_trainIs_6 ++ []
def dkwX7_trainIs_5 : List UInt8 := [184, 0, 165, 46, 172, 42, 180, 0, 34, 27, 3, 184, 0, 165, 46, 172, 42, 180, 0, 34, 27, 29]
abbrev dktX7_trainIs_5 : List UInt8 := dkwX7_trainIs_5 ++ dktX7_trainIs_6
def dkwX7_trainIs_4 : List UInt8 := [180, 0, 37, 27, 46, 172, 42, 180, 0, 31, 27, 3, 184, 0, 165, 46, 172, 42, 180, 0, 31, 27, 29]
abbrev dktX7_trainIs_4 : List UInt8 := dkwX7_trainIs_4 ++ dktX7_trainIs_5
def dkwX7_trainIs_3 : List UInt8 := [42, 180, 0, 28, 27, 46, 172, 42, 180, 0, 47, 27, 51, 153, 0, 7, 3, 167, 0, 4, 4, 172, 42]
abbrev dktX7_trainIs_3 : List UInt8 := dkwX7_trainIs_3 ++ dktX7_trainIs_4
def dkwX7_trainIs_2 : List UInt8 := [170, 0, 0, 0, 0, 115, 0, 0, 0, 0, 0, 0, 0, 6, 0, 0, 0, 42, 0, 0, 0, 49, 0, 0, 0, 64, 0, 0, 0, 71, 0, 0, 0, 82, 0, 0, 0, 93, 0, 0, 0, 104]
abbrev dktX7_trainIs_2 : List UInt8 := dkwX7_trainIs_2 ++ dktX7_trainIs_3
def dkwX7_trainIs_1 : List UInt8 := [62, 28]
abbrev dktX7_trainIs_1 : List UInt8 := dkwX7_trainIs_1 ++ dktX7_trainIs_2
def dkwX7_trainIs_0 : List UInt8 := [27, 3, 42, 180, 0, 162, 4, 100, 184, 0, 154, 154, 0, 5, 2, 172, 42, 180, 0, 28, 27, 46, 4, 100]
abbrev dktX7_trainIs_0 : List UInt8 := dkwX7_trainIs_0 ++ dktX7_trainIs_1
theorem dksX7_trainIs_0 : cX7_trainIs.data.toList.drop 0 = dktX7_trainIs_0 := by decide +kernel
theorem dksX7_trainIs_1 : cX7_trainIs.data.toList.drop 24 = dktX7_trainIs_1 := dk_seg dksX7_trainIs_0 24 rfl rfl
theorem dksX7_trainIs_2 : cX7_trainIs.data.toList.drop 26 = dktX7_trainIs_2 := dk_seg dksX7_trainIs_1 2 rfl rfl
theorem dksX7_trainIs_3 : cX7_trainIs.data.toList.drop 68 = dktX7_trainIs_3 := dk_seg dksX7_trainIs_2 42 rfl rfl
theorem dksX7_trainIs_4 : cX7_trainIs.data.toList.drop 91 = dktX7_trainIs_4 := dk_seg dksX7_trainIs_3 23 rfl rfl
theorem dksX7_trainIs_5 : cX7_trainIs.data.toList.drop 114 = dktX7_trainIs_5 := dk_seg dksX7_trainIs_4 23 rfl rfl
theorem dksX7_trainIs_6 : cX7_trainIs.data.toList.drop 136 = dktX7_trainIs_6 := dk_seg dksX7_trainIs_5 22 rfl rfl
theorem dX7_trainIs_0 : decode cX7_trainIs 0 = .ok (.iload_n 1, 1) := dk_27 (dk_at dksX7_trainIs_0 0 rfl rfl)
theorem dX7_trainIs_1 : decode cX7_trainIs 1 = .ok (.iconst 0, 1) := dk_3 (dk_at dksX7_trainIs_0 1 rfl rfl)
theorem dX7_trainIs_2 : decode cX7_trainIs 2 = .ok (.aload_n 0, 1) := dk_42 (dk_at dksX7_trainIs_0 2 rfl rfl)
theorem dX7_trainIs_3 : decode cX7_trainIs 3 = .ok (.getfield 162, 3) := dk_180 0 162 (dk_at dksX7_trainIs_0 3 rfl rfl)
theorem dX7_trainIs_6 : decode cX7_trainIs 6 = .ok (.iconst 1, 1) := dk_4 (dk_at dksX7_trainIs_0 6 rfl rfl)
theorem dX7_trainIs_7 : decode cX7_trainIs 7 = .ok (.isub, 1) := dk_100 (dk_at dksX7_trainIs_0 7 rfl rfl)
theorem dX7_trainIs_8 : decode cX7_trainIs 8 = .ok (.invokestatic 154, 3) := dk_184 0 154 (dk_at dksX7_trainIs_0 8 rfl rfl)
theorem dX7_trainIs_11 : decode cX7_trainIs 11 = .ok (.ifCond .ne 5, 3) := dk_154 0 5 (dk_at dksX7_trainIs_0 11 rfl rfl)
theorem dX7_trainIs_14 : decode cX7_trainIs 14 = .ok (.iconst (-1), 1) := dk_2 (dk_at dksX7_trainIs_0 14 rfl rfl)
theorem dX7_trainIs_15 : decode cX7_trainIs 15 = .ok (.ireturn, 1) := dk_172 (dk_at dksX7_trainIs_0 15 rfl rfl)
theorem dX7_trainIs_16 : decode cX7_trainIs 16 = .ok (.aload_n 0, 1) := dk_42 (dk_at dksX7_trainIs_0 16 rfl rfl)
theorem dX7_trainIs_17 : decode cX7_trainIs 17 = .ok (.getfield 28, 3) := dk_180 0 28 (dk_at dksX7_trainIs_0 17 rfl rfl)
theorem dX7_trainIs_20 : decode cX7_trainIs 20 = .ok (.iload_n 1, 1) := dk_27 (dk_at dksX7_trainIs_0 20 rfl rfl)
theorem dX7_trainIs_21 : decode cX7_trainIs 21 = .ok (.iaload, 1) := dk_46 (dk_at dksX7_trainIs_0 21 rfl rfl)
theorem dX7_trainIs_22 : decode cX7_trainIs 22 = .ok (.iconst 1, 1) := dk_4 (dk_at dksX7_trainIs_0 22 rfl rfl)
theorem dX7_trainIs_23 : decode cX7_trainIs 23 = .ok (.isub, 1) := dk_100 (dk_at dksX7_trainIs_0 23 rfl rfl)
theorem dX7_trainIs_24 : decode cX7_trainIs 24 = .ok (.istore_n 3, 1) := dk_62 (dk_at dksX7_trainIs_1 0 rfl rfl)
theorem dX7_trainIs_25 : decode cX7_trainIs 25 = .ok (.iload_n 2, 1) := dk_28 (dk_at dksX7_trainIs_1 1 rfl rfl)
theorem dX7_trainIs_26 : decode cX7_trainIs 26 = .ok (.tableswitch 115 0 6 #[42, 49, 64, 71, 82, 93, 104], 42) := by decide +kernel
theorem dX7_trainIs_68 : decode cX7_trainIs 68 = .ok (.aload_n 0, 1) := dk_42 (dk_at dksX7_trainIs_3 0 rfl rfl)
theorem dX7_trainIs_69 : decode cX7_trainIs 69 = .ok (.getfield 28, 3) := dk_180 0 28 (dk_at dksX7_trainIs_3 1 rfl rfl)
theorem dX7_trainIs_72 : decode cX7_trainIs 72 = .ok (.iload_n 1, 1) := dk_27 (dk_at dksX7_trainIs_3 4 rfl rfl)
theorem dX7_trainIs_73 : decode cX7_trainIs 73 = .ok (.iaload, 1) := dk_46 (dk_at dksX7_trainIs_3 5 rfl rfl)
theorem dX7_trainIs_74 : decode cX7_trainIs 74 = .ok (.ireturn, 1) := dk_172 (dk_at dksX7_trainIs_3 6 rfl rfl)
theorem dX7_trainIs_75 : decode cX7_trainIs 75 = .ok (.aload_n 0, 1) := dk_42 (dk_at dksX7_trainIs_3 7 rfl rfl)
theorem dX7_trainIs_76 : decode cX7_trainIs 76 = .ok (.getfield 47, 3) := dk_180 0 47 (dk_at dksX7_trainIs_3 8 rfl rfl)
theorem dX7_trainIs_79 : decode cX7_trainIs 79 = .ok (.iload_n 1, 1) := dk_27 (dk_at dksX7_trainIs_3 11 rfl rfl)
theorem dX7_trainIs_80 : decode cX7_trainIs 80 = .ok (.baload, 1) := dk_51 (dk_at dksX7_trainIs_3 12 rfl rfl)
theorem dX7_trainIs_81 : decode cX7_trainIs 81 = .ok (.ifCond .eq 7, 3) := dk_153 0 7 (dk_at dksX7_trainIs_3 13 rfl rfl)
theorem dX7_trainIs_84 : decode cX7_trainIs 84 = .ok (.iconst 0, 1) := dk_3 (dk_at dksX7_trainIs_3 16 rfl rfl)
theorem dX7_trainIs_85 : decode cX7_trainIs 85 = .ok (.goto 4, 3) := dk_167 0 4 (dk_at dksX7_trainIs_3 17 rfl rfl)
theorem dX7_trainIs_88 : decode cX7_trainIs 88 = .ok (.iconst 1, 1) := dk_4 (dk_at dksX7_trainIs_3 20 rfl rfl)
theorem dX7_trainIs_89 : decode cX7_trainIs 89 = .ok (.ireturn, 1) := dk_172 (dk_at dksX7_trainIs_3 21 rfl rfl)
theorem dX7_trainIs_90 : decode cX7_trainIs 90 = .ok (.aload_n 0, 1) := dk_42 (dk_at dksX7_trainIs_3 22 rfl rfl)
theorem dX7_trainIs_91 : decode cX7_trainIs 91 = .ok (.getfield 37, 3) := dk_180 0 37 (dk_at dksX7_trainIs_4 0 rfl rfl)
theorem dX7_trainIs_94 : decode cX7_trainIs 94 = .ok (.iload_n 1, 1) := dk_27 (dk_at dksX7_trainIs_4 3 rfl rfl)
theorem dX7_trainIs_95 : decode cX7_trainIs 95 = .ok (.iaload, 1) := dk_46 (dk_at dksX7_trainIs_4 4 rfl rfl)
theorem dX7_trainIs_96 : decode cX7_trainIs 96 = .ok (.ireturn, 1) := dk_172 (dk_at dksX7_trainIs_4 5 rfl rfl)
theorem dX7_trainIs_97 : decode cX7_trainIs 97 = .ok (.aload_n 0, 1) := dk_42 (dk_at dksX7_trainIs_4 6 rfl rfl)
theorem dX7_trainIs_98 : decode cX7_trainIs 98 = .ok (.getfield 31, 3) := dk_180 0 31 (dk_at dksX7_trainIs_4 7 rfl rfl)
theorem dX7_trainIs_101 : decode cX7_trainIs 101 = .ok (.iload_n 1, 1) := dk_27 (dk_at dksX7_trainIs_4 10 rfl rfl)
theorem dX7_trainIs_102 : decode cX7_trainIs 102 = .ok (.iconst 0, 1) := dk_3 (dk_at dksX7_trainIs_4 11 rfl rfl)
theorem dX7_trainIs_103 : decode cX7_trainIs 103 = .ok (.invokestatic 165, 3) := dk_184 0 165 (dk_at dksX7_trainIs_4 12 rfl rfl)
theorem dX7_trainIs_106 : decode cX7_trainIs 106 = .ok (.iaload, 1) := dk_46 (dk_at dksX7_trainIs_4 15 rfl rfl)
theorem dX7_trainIs_107 : decode cX7_trainIs 107 = .ok (.ireturn, 1) := dk_172 (dk_at dksX7_trainIs_4 16 rfl rfl)
theorem dX7_trainIs_108 : decode cX7_trainIs 108 = .ok (.aload_n 0, 1) := dk_42 (dk_at dksX7_trainIs_4 17 rfl rfl)
theorem dX7_trainIs_109 : decode cX7_trainIs 109 = .ok (.getfield 31, 3) := dk_180 0 31 (dk_at dksX7_trainIs_4 18 rfl rfl)
theorem dX7_trainIs_112 : decode cX7_trainIs 112 = .ok (.iload_n 1, 1) := dk_27 (dk_at dksX7_trainIs_4 21 rfl rfl)
theorem dX7_trainIs_113 : decode cX7_trainIs 113 = .ok (.iload_n 3, 1) := dk_29 (dk_at dksX7_trainIs_4 22 rfl rfl)
theorem dX7_trainIs_114 : decode cX7_trainIs 114 = .ok (.invokestatic 165, 3) := dk_184 0 165 (dk_at dksX7_trainIs_5 0 rfl rfl)
theorem dX7_trainIs_117 : decode cX7_trainIs 117 = .ok (.iaload, 1) := dk_46 (dk_at dksX7_trainIs_5 3 rfl rfl)
theorem dX7_trainIs_118 : decode cX7_trainIs 118 = .ok (.ireturn, 1) := dk_172 (dk_at dksX7_trainIs_5 4 rfl rfl)
theorem dX7_trainIs_119 : decode cX7_trainIs 119 = .ok (.aload_n 0, 1) := dk_42 (dk_at dksX7_trainIs_5 5 rfl rfl)
theorem dX7_trainIs_120 : decode cX7_trainIs 120 = .ok (.getfield 34, 3) := dk_180 0 34 (dk_at dksX7_trainIs_5 6 rfl rfl)
theorem dX7_trainIs_123 : decode cX7_trainIs 123 = .ok (.iload_n 1, 1) := dk_27 (dk_at dksX7_trainIs_5 9 rfl rfl)
theorem dX7_trainIs_124 : decode cX7_trainIs 124 = .ok (.iconst 0, 1) := dk_3 (dk_at dksX7_trainIs_5 10 rfl rfl)
theorem dX7_trainIs_125 : decode cX7_trainIs 125 = .ok (.invokestatic 165, 3) := dk_184 0 165 (dk_at dksX7_trainIs_5 11 rfl rfl)
theorem dX7_trainIs_128 : decode cX7_trainIs 128 = .ok (.iaload, 1) := dk_46 (dk_at dksX7_trainIs_5 14 rfl rfl)
theorem dX7_trainIs_129 : decode cX7_trainIs 129 = .ok (.ireturn, 1) := dk_172 (dk_at dksX7_trainIs_5 15 rfl rfl)
theorem dX7_trainIs_130 : decode cX7_trainIs 130 = .ok (.aload_n 0, 1) := dk_42 (dk_at dksX7_trainIs_5 16 rfl rfl)
theorem dX7_trainIs_131 : decode cX7_trainIs 131 = .ok (.getfield 34, 3) := dk_180 0 34 (dk_at dksX7_trainIs_5 17 rfl rfl)
theorem dX7_trainIs_134 : decode cX7_trainIs 134 = .ok (.iload_n 1, 1) := dk_27 (dk_at dksX7_trainIs_5 20 rfl rfl)
theorem dX7_trainIs_135 : decode cX7_trainIs 135 = .ok (.iload_n 3, 1) := dk_29 (dk_at dksX7_trainIs_5 21 rfl rfl)
theorem dX7_trainIs_136 : decode cX7_trainIs 136 = .ok (.invokestatic 165, 3) := dk_184 0 165 (dk_at dksX7_trainIs_6 0 rfl rfl)
theorem dX7_trainIs_139 : decode cX7_trainIs 139 = .ok (.iaload, 1) := dk_46 (dk_at dksX7_trainIs_6 3 rfl rfl)
theorem dX7_trainIs_140 : decode cX7_trainIs 140 = .ok (.ireturn, 1) := dk_172 (dk_at dksX7_trainIs_6 4 rfl rfl)
theorem dX7_trainIs_141 : decode cX7_trainIs 141 = .ok (.iconst (-1), 1) := dk_2 (dk_at dksX7_trainIs_6 5 rfl rfl)
theorem dX7_trainIs_142 : decode cX7_trainIs 142 = .ok (.ireturn, 1) := dk_172 (dk_at dksX7_trainIs_6 6 rfl rfl)
abbrev cX7_stopIs : ByteArray := prog_21_method_66_code
def yX7_stopIs : MethodName := ⟨RX7, "stopIs", "(III)I"⟩
def dkwX7_stopIs_2 : List UInt8 := [180, 0, 31, 27, 28, 184, 0, 165, 46, 167, 0, 13, 42, 180, 0, 34, 27, 28, 184, 0, 165, 46, 172]
abbrev dktX7_stopIs_2 : List UInt8 := dkwX7_stopIs_2 ++ []
def dkwX7_stopIs_1 : List UInt8 := [184, 0, 154, 153, 0, 12, 29, 3, 4, 184, 0, 154, 154, 0, 5, 2, 172, 29, 154, 0, 16, 42]
abbrev dktX7_stopIs_1 : List UInt8 := dkwX7_stopIs_1 ++ dktX7_stopIs_2
def dkwX7_stopIs_0 : List UInt8 := [27, 3, 42, 180, 0, 162, 4, 100, 184, 0, 154, 153, 0, 28, 28, 3, 42, 180, 0, 28, 27, 46, 4, 100]
abbrev dktX7_stopIs_0 : List UInt8 := dkwX7_stopIs_0 ++ dktX7_stopIs_1
theorem dksX7_stopIs_0 : cX7_stopIs.data.toList.drop 0 = dktX7_stopIs_0 := by decide +kernel
theorem dksX7_stopIs_1 : cX7_stopIs.data.toList.drop 24 = dktX7_stopIs_1 := dk_seg dksX7_stopIs_0 24 rfl rfl
theorem dksX7_stopIs_2 : cX7_stopIs.data.toList.drop 46 = dktX7_stopIs_2 := dk_seg dksX7_stopIs_1 22 rfl rfl
theorem dX7_stopIs_0 : decode cX7_stopIs 0 = .ok (.iload_n 1, 1) := dk_27 (dk_at dksX7_stopIs_0 0 rfl rfl)
theorem dX7_stopIs_1 : decode cX7_stopIs 1 = .ok (.iconst 0, 1) := dk_3 (dk_at dksX7_stopIs_0 1 rfl rfl)
theorem dX7_stopIs_2 : decode cX7_stopIs 2 = .ok (.aload_n 0, 1) := dk_42 (dk_at dksX7_stopIs_0 2 rfl rfl)
theorem dX7_stopIs_3 : decode cX7_stopIs 3 = .ok (.getfield 162, 3) := dk_180 0 162 (dk_at dksX7_stopIs_0 3 rfl rfl)
theorem dX7_stopIs_6 : decode cX7_stopIs 6 = .ok (.iconst 1, 1) := dk_4 (dk_at dksX7_stopIs_0 6 rfl rfl)
theorem dX7_stopIs_7 : decode cX7_stopIs 7 = .ok (.isub, 1) := dk_100 (dk_at dksX7_stopIs_0 7 rfl rfl)
theorem dX7_stopIs_8 : decode cX7_stopIs 8 = .ok (.invokestatic 154, 3) := dk_184 0 154 (dk_at dksX7_stopIs_0 8 rfl rfl)
theorem dX7_stopIs_11 : decode cX7_stopIs 11 = .ok (.ifCond .eq 28, 3) := dk_153 0 28 (dk_at dksX7_stopIs_0 11 rfl rfl)
theorem dX7_stopIs_14 : decode cX7_stopIs 14 = .ok (.iload_n 2, 1) := dk_28 (dk_at dksX7_stopIs_0 14 rfl rfl)
theorem dX7_stopIs_15 : decode cX7_stopIs 15 = .ok (.iconst 0, 1) := dk_3 (dk_at dksX7_stopIs_0 15 rfl rfl)
theorem dX7_stopIs_16 : decode cX7_stopIs 16 = .ok (.aload_n 0, 1) := dk_42 (dk_at dksX7_stopIs_0 16 rfl rfl)
theorem dX7_stopIs_17 : decode cX7_stopIs 17 = .ok (.getfield 28, 3) := dk_180 0 28 (dk_at dksX7_stopIs_0 17 rfl rfl)
theorem dX7_stopIs_20 : decode cX7_stopIs 20 = .ok (.iload_n 1, 1) := dk_27 (dk_at dksX7_stopIs_0 20 rfl rfl)
theorem dX7_stopIs_21 : decode cX7_stopIs 21 = .ok (.iaload, 1) := dk_46 (dk_at dksX7_stopIs_0 21 rfl rfl)
theorem dX7_stopIs_22 : decode cX7_stopIs 22 = .ok (.iconst 1, 1) := dk_4 (dk_at dksX7_stopIs_0 22 rfl rfl)
theorem dX7_stopIs_23 : decode cX7_stopIs 23 = .ok (.isub, 1) := dk_100 (dk_at dksX7_stopIs_0 23 rfl rfl)
theorem dX7_stopIs_24 : decode cX7_stopIs 24 = .ok (.invokestatic 154, 3) := dk_184 0 154 (dk_at dksX7_stopIs_1 0 rfl rfl)
theorem dX7_stopIs_27 : decode cX7_stopIs 27 = .ok (.ifCond .eq 12, 3) := dk_153 0 12 (dk_at dksX7_stopIs_1 3 rfl rfl)
theorem dX7_stopIs_30 : decode cX7_stopIs 30 = .ok (.iload_n 3, 1) := dk_29 (dk_at dksX7_stopIs_1 6 rfl rfl)
theorem dX7_stopIs_31 : decode cX7_stopIs 31 = .ok (.iconst 0, 1) := dk_3 (dk_at dksX7_stopIs_1 7 rfl rfl)
theorem dX7_stopIs_32 : decode cX7_stopIs 32 = .ok (.iconst 1, 1) := dk_4 (dk_at dksX7_stopIs_1 8 rfl rfl)
theorem dX7_stopIs_33 : decode cX7_stopIs 33 = .ok (.invokestatic 154, 3) := dk_184 0 154 (dk_at dksX7_stopIs_1 9 rfl rfl)
theorem dX7_stopIs_36 : decode cX7_stopIs 36 = .ok (.ifCond .ne 5, 3) := dk_154 0 5 (dk_at dksX7_stopIs_1 12 rfl rfl)
theorem dX7_stopIs_39 : decode cX7_stopIs 39 = .ok (.iconst (-1), 1) := dk_2 (dk_at dksX7_stopIs_1 15 rfl rfl)
theorem dX7_stopIs_40 : decode cX7_stopIs 40 = .ok (.ireturn, 1) := dk_172 (dk_at dksX7_stopIs_1 16 rfl rfl)
theorem dX7_stopIs_41 : decode cX7_stopIs 41 = .ok (.iload_n 3, 1) := dk_29 (dk_at dksX7_stopIs_1 17 rfl rfl)
theorem dX7_stopIs_42 : decode cX7_stopIs 42 = .ok (.ifCond .ne 16, 3) := dk_154 0 16 (dk_at dksX7_stopIs_1 18 rfl rfl)
theorem dX7_stopIs_45 : decode cX7_stopIs 45 = .ok (.aload_n 0, 1) := dk_42 (dk_at dksX7_stopIs_1 21 rfl rfl)
theorem dX7_stopIs_46 : decode cX7_stopIs 46 = .ok (.getfield 31, 3) := dk_180 0 31 (dk_at dksX7_stopIs_2 0 rfl rfl)
theorem dX7_stopIs_49 : decode cX7_stopIs 49 = .ok (.iload_n 1, 1) := dk_27 (dk_at dksX7_stopIs_2 3 rfl rfl)
theorem dX7_stopIs_50 : decode cX7_stopIs 50 = .ok (.iload_n 2, 1) := dk_28 (dk_at dksX7_stopIs_2 4 rfl rfl)
theorem dX7_stopIs_51 : decode cX7_stopIs 51 = .ok (.invokestatic 165, 3) := dk_184 0 165 (dk_at dksX7_stopIs_2 5 rfl rfl)
theorem dX7_stopIs_54 : decode cX7_stopIs 54 = .ok (.iaload, 1) := dk_46 (dk_at dksX7_stopIs_2 8 rfl rfl)
theorem dX7_stopIs_55 : decode cX7_stopIs 55 = .ok (.goto 13, 3) := dk_167 0 13 (dk_at dksX7_stopIs_2 9 rfl rfl)
theorem dX7_stopIs_58 : decode cX7_stopIs 58 = .ok (.aload_n 0, 1) := dk_42 (dk_at dksX7_stopIs_2 12 rfl rfl)
theorem dX7_stopIs_59 : decode cX7_stopIs 59 = .ok (.getfield 34, 3) := dk_180 0 34 (dk_at dksX7_stopIs_2 13 rfl rfl)
theorem dX7_stopIs_62 : decode cX7_stopIs 62 = .ok (.iload_n 1, 1) := dk_27 (dk_at dksX7_stopIs_2 16 rfl rfl)
theorem dX7_stopIs_63 : decode cX7_stopIs 63 = .ok (.iload_n 2, 1) := dk_28 (dk_at dksX7_stopIs_2 17 rfl rfl)
theorem dX7_stopIs_64 : decode cX7_stopIs 64 = .ok (.invokestatic 165, 3) := dk_184 0 165 (dk_at dksX7_stopIs_2 18 rfl rfl)
theorem dX7_stopIs_67 : decode cX7_stopIs 67 = .ok (.iaload, 1) := dk_46 (dk_at dksX7_stopIs_2 21 rfl rfl)
theorem dX7_stopIs_68 : decode cX7_stopIs 68 = .ok (.ireturn, 1) := dk_172 (dk_at dksX7_stopIs_2 22 rfl rfl)
abbrev cX7_earliest : ByteArray := prog_21_method_70_code
def yX7_earliest : MethodName := ⟨RX7, "earliest", "(IIII)I"⟩
def dkwX7_earliest_4 : List UInt8 := [167, 255, 231, 21, 6, 172]
abbrev dktX7_earliest_4 : List UInt8 := dkwX7_earliest_4 ++ []
def dkwX7_earliest_3 : List UInt8 := [180, 0, 120, 28, 46, 21, 5, 159, 0, 20, 42, 42, 180, 0, 150, 182, 1, 116, 21, 6, 4, 96, 54, 6]
abbrev dktX7_earliest_3 : List UInt8 := dkwX7_earliest_3 ++ dktX7_earliest_4
def dkwX7_earliest_2 : List UInt8 := [160, 0, 6, 16, 254, 172, 21, 4, 154, 0, 6, 21, 5, 172, 42, 27, 29, 182, 1, 119, 4, 54, 6, 42]
abbrev dktX7_earliest_2 : List UInt8 := dkwX7_earliest_2 ++ dktX7_earliest_3
def dkwX7_earliest_1 : List UInt8 := [184, 0, 154, 154, 0, 5, 2, 172, 42, 27, 28, 29, 182, 1, 122, 54, 5, 21, 5, 19, 1, 115]
abbrev dktX7_earliest_1 : List UInt8 := dkwX7_earliest_1 ++ dktX7_earliest_2
def dkwX7_earliest_0 : List UInt8 := [27, 28, 184, 0, 175, 153, 0, 24, 29, 3, 17, 5, 159, 184, 0, 154, 153, 0, 13, 21, 4, 3, 4]
abbrev dktX7_earliest_0 : List UInt8 := dkwX7_earliest_0 ++ dktX7_earliest_1
theorem dksX7_earliest_0 : cX7_earliest.data.toList.drop 0 = dktX7_earliest_0 := by decide +kernel
theorem dksX7_earliest_1 : cX7_earliest.data.toList.drop 23 = dktX7_earliest_1 := dk_seg dksX7_earliest_0 23 rfl rfl
theorem dksX7_earliest_2 : cX7_earliest.data.toList.drop 45 = dktX7_earliest_2 := dk_seg dksX7_earliest_1 22 rfl rfl
theorem dksX7_earliest_3 : cX7_earliest.data.toList.drop 69 = dktX7_earliest_3 := dk_seg dksX7_earliest_2 24 rfl rfl
theorem dksX7_earliest_4 : cX7_earliest.data.toList.drop 93 = dktX7_earliest_4 := dk_seg dksX7_earliest_3 24 rfl rfl
theorem dX7_earliest_0 : decode cX7_earliest 0 = .ok (.iload_n 1, 1) := dk_27 (dk_at dksX7_earliest_0 0 rfl rfl)
theorem dX7_earliest_1 : decode cX7_earliest 1 = .ok (.iload_n 2, 1) := dk_28 (dk_at dksX7_earliest_0 1 rfl rfl)
theorem dX7_earliest_2 : decode cX7_earliest 2 = .ok (.invokestatic 175, 3) := dk_184 0 175 (dk_at dksX7_earliest_0 2 rfl rfl)
theorem dX7_earliest_5 : decode cX7_earliest 5 = .ok (.ifCond .eq 24, 3) := dk_153 0 24 (dk_at dksX7_earliest_0 5 rfl rfl)
theorem dX7_earliest_8 : decode cX7_earliest 8 = .ok (.iload_n 3, 1) := dk_29 (dk_at dksX7_earliest_0 8 rfl rfl)
theorem dX7_earliest_9 : decode cX7_earliest 9 = .ok (.iconst 0, 1) := dk_3 (dk_at dksX7_earliest_0 9 rfl rfl)
theorem dX7_earliest_10 : decode cX7_earliest 10 = .ok (.sipush 1439, 3) := dk_17 5 159 (dk_at dksX7_earliest_0 10 rfl rfl)
theorem dX7_earliest_13 : decode cX7_earliest 13 = .ok (.invokestatic 154, 3) := dk_184 0 154 (dk_at dksX7_earliest_0 13 rfl rfl)
theorem dX7_earliest_16 : decode cX7_earliest 16 = .ok (.ifCond .eq 13, 3) := dk_153 0 13 (dk_at dksX7_earliest_0 16 rfl rfl)
theorem dX7_earliest_19 : decode cX7_earliest 19 = .ok (.iload 4, 2) := dk_21 4 (dk_at dksX7_earliest_0 19 rfl rfl)
theorem dX7_earliest_21 : decode cX7_earliest 21 = .ok (.iconst 0, 1) := dk_3 (dk_at dksX7_earliest_0 21 rfl rfl)
theorem dX7_earliest_22 : decode cX7_earliest 22 = .ok (.iconst 1, 1) := dk_4 (dk_at dksX7_earliest_0 22 rfl rfl)
theorem dX7_earliest_23 : decode cX7_earliest 23 = .ok (.invokestatic 154, 3) := dk_184 0 154 (dk_at dksX7_earliest_1 0 rfl rfl)
theorem dX7_earliest_26 : decode cX7_earliest 26 = .ok (.ifCond .ne 5, 3) := dk_154 0 5 (dk_at dksX7_earliest_1 3 rfl rfl)
theorem dX7_earliest_29 : decode cX7_earliest 29 = .ok (.iconst (-1), 1) := dk_2 (dk_at dksX7_earliest_1 6 rfl rfl)
theorem dX7_earliest_30 : decode cX7_earliest 30 = .ok (.ireturn, 1) := dk_172 (dk_at dksX7_earliest_1 7 rfl rfl)
theorem dX7_earliest_31 : decode cX7_earliest 31 = .ok (.aload_n 0, 1) := dk_42 (dk_at dksX7_earliest_1 8 rfl rfl)
theorem dX7_earliest_32 : decode cX7_earliest 32 = .ok (.iload_n 1, 1) := dk_27 (dk_at dksX7_earliest_1 9 rfl rfl)
theorem dX7_earliest_33 : decode cX7_earliest 33 = .ok (.iload_n 2, 1) := dk_28 (dk_at dksX7_earliest_1 10 rfl rfl)
theorem dX7_earliest_34 : decode cX7_earliest 34 = .ok (.iload_n 3, 1) := dk_29 (dk_at dksX7_earliest_1 11 rfl rfl)
theorem dX7_earliest_35 : decode cX7_earliest 35 = .ok (.invokevirtual 378, 3) := dk_182 1 122 (dk_at dksX7_earliest_1 12 rfl rfl)
theorem dX7_earliest_38 : decode cX7_earliest 38 = .ok (.istore 5, 2) := dk_54 5 (dk_at dksX7_earliest_1 15 rfl rfl)
theorem dX7_earliest_40 : decode cX7_earliest 40 = .ok (.iload 5, 2) := dk_21 5 (dk_at dksX7_earliest_1 17 rfl rfl)
theorem dX7_earliest_42 : decode cX7_earliest 42 = .ok (.ldc_w 371, 3) := dk_19 1 115 (dk_at dksX7_earliest_1 19 rfl rfl)
theorem dX7_earliest_45 : decode cX7_earliest 45 = .ok (.if_icmp .ne 6, 3) := dk_160 0 6 (dk_at dksX7_earliest_2 0 rfl rfl)
theorem dX7_earliest_48 : decode cX7_earliest 48 = .ok (.bipush (-2), 2) := dk_16 254 (dk_at dksX7_earliest_2 3 rfl rfl)
theorem dX7_earliest_50 : decode cX7_earliest 50 = .ok (.ireturn, 1) := dk_172 (dk_at dksX7_earliest_2 5 rfl rfl)
theorem dX7_earliest_51 : decode cX7_earliest 51 = .ok (.iload 4, 2) := dk_21 4 (dk_at dksX7_earliest_2 6 rfl rfl)
theorem dX7_earliest_53 : decode cX7_earliest 53 = .ok (.ifCond .ne 6, 3) := dk_154 0 6 (dk_at dksX7_earliest_2 8 rfl rfl)
theorem dX7_earliest_56 : decode cX7_earliest 56 = .ok (.iload 5, 2) := dk_21 5 (dk_at dksX7_earliest_2 11 rfl rfl)
theorem dX7_earliest_58 : decode cX7_earliest 58 = .ok (.ireturn, 1) := dk_172 (dk_at dksX7_earliest_2 13 rfl rfl)
theorem dX7_earliest_59 : decode cX7_earliest 59 = .ok (.aload_n 0, 1) := dk_42 (dk_at dksX7_earliest_2 14 rfl rfl)
theorem dX7_earliest_60 : decode cX7_earliest 60 = .ok (.iload_n 1, 1) := dk_27 (dk_at dksX7_earliest_2 15 rfl rfl)
theorem dX7_earliest_61 : decode cX7_earliest 61 = .ok (.iload_n 3, 1) := dk_29 (dk_at dksX7_earliest_2 16 rfl rfl)
theorem dX7_earliest_62 : decode cX7_earliest 62 = .ok (.invokevirtual 375, 3) := dk_182 1 119 (dk_at dksX7_earliest_2 17 rfl rfl)
theorem dX7_earliest_65 : decode cX7_earliest 65 = .ok (.iconst 1, 1) := dk_4 (dk_at dksX7_earliest_2 20 rfl rfl)
theorem dX7_earliest_66 : decode cX7_earliest 66 = .ok (.istore 6, 2) := dk_54 6 (dk_at dksX7_earliest_2 21 rfl rfl)
theorem dX7_earliest_68 : decode cX7_earliest 68 = .ok (.aload_n 0, 1) := dk_42 (dk_at dksX7_earliest_2 23 rfl rfl)
theorem dX7_earliest_69 : decode cX7_earliest 69 = .ok (.getfield 120, 3) := dk_180 0 120 (dk_at dksX7_earliest_3 0 rfl rfl)
theorem dX7_earliest_72 : decode cX7_earliest 72 = .ok (.iload_n 2, 1) := dk_28 (dk_at dksX7_earliest_3 3 rfl rfl)
theorem dX7_earliest_73 : decode cX7_earliest 73 = .ok (.iaload, 1) := dk_46 (dk_at dksX7_earliest_3 4 rfl rfl)
theorem dX7_earliest_74 : decode cX7_earliest 74 = .ok (.iload 5, 2) := dk_21 5 (dk_at dksX7_earliest_3 5 rfl rfl)
theorem dX7_earliest_76 : decode cX7_earliest 76 = .ok (.if_icmp .eq 20, 3) := dk_159 0 20 (dk_at dksX7_earliest_3 7 rfl rfl)
theorem dX7_earliest_79 : decode cX7_earliest 79 = .ok (.aload_n 0, 1) := dk_42 (dk_at dksX7_earliest_3 10 rfl rfl)
theorem dX7_earliest_80 : decode cX7_earliest 80 = .ok (.aload_n 0, 1) := dk_42 (dk_at dksX7_earliest_3 11 rfl rfl)
theorem dX7_earliest_81 : decode cX7_earliest 81 = .ok (.getfield 150, 3) := dk_180 0 150 (dk_at dksX7_earliest_3 12 rfl rfl)
theorem dX7_earliest_84 : decode cX7_earliest 84 = .ok (.invokevirtual 372, 3) := dk_182 1 116 (dk_at dksX7_earliest_3 15 rfl rfl)
theorem dX7_earliest_87 : decode cX7_earliest 87 = .ok (.iload 6, 2) := dk_21 6 (dk_at dksX7_earliest_3 18 rfl rfl)
theorem dX7_earliest_89 : decode cX7_earliest 89 = .ok (.iconst 1, 1) := dk_4 (dk_at dksX7_earliest_3 20 rfl rfl)
theorem dX7_earliest_90 : decode cX7_earliest 90 = .ok (.iadd, 1) := dk_96 (dk_at dksX7_earliest_3 21 rfl rfl)
theorem dX7_earliest_91 : decode cX7_earliest 91 = .ok (.istore 6, 2) := dk_54 6 (dk_at dksX7_earliest_3 22 rfl rfl)
theorem dX7_earliest_93 : decode cX7_earliest 93 = .ok (.goto (-25), 3) := dk_167 255 231 (dk_at dksX7_earliest_4 0 rfl rfl)
theorem dX7_earliest_96 : decode cX7_earliest 96 = .ok (.iload 6, 2) := dk_21 6 (dk_at dksX7_earliest_4 3 rfl rfl)
theorem dX7_earliest_98 : decode cX7_earliest 98 = .ok (.ireturn, 1) := dk_172 (dk_at dksX7_earliest_4 5 rfl rfl)
abbrev cX7_soonest : ByteArray := prog_21_method_69_code
def yX7_soonest : MethodName := ⟨RX7, "soonest", "(III)I"⟩
def dkwX7_soonest_1 : List UInt8 := [132, 4, 1, 167, 255, 238, 42, 180, 0, 120, 28, 46, 172]
abbrev dktX7_soonest_1 : List UInt8 := dkwX7_soonest_1 ++ []
def dkwX7_soonest_0 : List UInt8 := [42, 27, 29, 182, 1, 119, 4, 54, 4, 21, 4, 16, 10, 162, 0, 17, 42, 42, 180, 0, 150, 182, 1, 116]
abbrev dktX7_soonest_0 : List UInt8 := dkwX7_soonest_0 ++ dktX7_soonest_1
theorem dksX7_soonest_0 : cX7_soonest.data.toList.drop 0 = dktX7_soonest_0 := by decide +kernel
theorem dksX7_soonest_1 : cX7_soonest.data.toList.drop 24 = dktX7_soonest_1 := dk_seg dksX7_soonest_0 24 rfl rfl
theorem dX7_soonest_0 : decode cX7_soonest 0 = .ok (.aload_n 0, 1) := dk_42 (dk_at dksX7_soonest_0 0 rfl rfl)
theorem dX7_soonest_1 : decode cX7_soonest 1 = .ok (.iload_n 1, 1) := dk_27 (dk_at dksX7_soonest_0 1 rfl rfl)
theorem dX7_soonest_2 : decode cX7_soonest 2 = .ok (.iload_n 3, 1) := dk_29 (dk_at dksX7_soonest_0 2 rfl rfl)
theorem dX7_soonest_3 : decode cX7_soonest 3 = .ok (.invokevirtual 375, 3) := dk_182 1 119 (dk_at dksX7_soonest_0 3 rfl rfl)
theorem dX7_soonest_6 : decode cX7_soonest 6 = .ok (.iconst 1, 1) := dk_4 (dk_at dksX7_soonest_0 6 rfl rfl)
theorem dX7_soonest_7 : decode cX7_soonest 7 = .ok (.istore 4, 2) := dk_54 4 (dk_at dksX7_soonest_0 7 rfl rfl)
theorem dX7_soonest_9 : decode cX7_soonest 9 = .ok (.iload 4, 2) := dk_21 4 (dk_at dksX7_soonest_0 9 rfl rfl)
theorem dX7_soonest_11 : decode cX7_soonest 11 = .ok (.bipush 10, 2) := dk_16 10 (dk_at dksX7_soonest_0 11 rfl rfl)
theorem dX7_soonest_13 : decode cX7_soonest 13 = .ok (.if_icmp .ge 17, 3) := dk_162 0 17 (dk_at dksX7_soonest_0 13 rfl rfl)
theorem dX7_soonest_16 : decode cX7_soonest 16 = .ok (.aload_n 0, 1) := dk_42 (dk_at dksX7_soonest_0 16 rfl rfl)
theorem dX7_soonest_17 : decode cX7_soonest 17 = .ok (.aload_n 0, 1) := dk_42 (dk_at dksX7_soonest_0 17 rfl rfl)
theorem dX7_soonest_18 : decode cX7_soonest 18 = .ok (.getfield 150, 3) := dk_180 0 150 (dk_at dksX7_soonest_0 18 rfl rfl)
theorem dX7_soonest_21 : decode cX7_soonest 21 = .ok (.invokevirtual 372, 3) := dk_182 1 116 (dk_at dksX7_soonest_0 21 rfl rfl)
theorem dX7_soonest_24 : decode cX7_soonest 24 = .ok (.iinc 4 1, 3) := dk_132 4 1 (dk_at dksX7_soonest_1 0 rfl rfl)
theorem dX7_soonest_27 : decode cX7_soonest 27 = .ok (.goto (-18), 3) := dk_167 255 238 (dk_at dksX7_soonest_1 3 rfl rfl)
theorem dX7_soonest_30 : decode cX7_soonest 30 = .ok (.aload_n 0, 1) := dk_42 (dk_at dksX7_soonest_1 6 rfl rfl)
theorem dX7_soonest_31 : decode cX7_soonest 31 = .ok (.getfield 120, 3) := dk_180 0 120 (dk_at dksX7_soonest_1 7 rfl rfl)
theorem dX7_soonest_34 : decode cX7_soonest 34 = .ok (.iload_n 2, 1) := dk_28 (dk_at dksX7_soonest_1 10 rfl rfl)
theorem dX7_soonest_35 : decode cX7_soonest 35 = .ok (.iaload, 1) := dk_46 (dk_at dksX7_soonest_1 11 rfl rfl)
theorem dX7_soonest_36 : decode cX7_soonest 36 = .ok (.ireturn, 1) := dk_172 (dk_at dksX7_soonest_1 12 rfl rfl)
abbrev cX7_beginsAt : ByteArray := prog_21_method_68_code
def yX7_beginsAt : MethodName := ⟨RX7, "beginsAt", "(II)V"⟩
def dkwX7_beginsAt_1 : List UInt8 := [180, 0, 120, 27, 28, 79, 42, 3, 182, 1, 116, 42, 180, 0, 120, 27, 28, 42, 180, 0, 150, 100, 79, 177]
abbrev dktX7_beginsAt_1 : List UInt8 := dkwX7_beginsAt_1 ++ []
def dkwX7_beginsAt_0 : List UInt8 := [3, 62, 29, 16, 10, 162, 0, 18, 42, 180, 0, 120, 29, 19, 1, 115, 79, 132, 3, 1, 167, 255, 238, 42]
abbrev dktX7_beginsAt_0 : List UInt8 := dkwX7_beginsAt_0 ++ dktX7_beginsAt_1
theorem dksX7_beginsAt_0 : cX7_beginsAt.data.toList.drop 0 = dktX7_beginsAt_0 := by decide +kernel
theorem dksX7_beginsAt_1 : cX7_beginsAt.data.toList.drop 24 = dktX7_beginsAt_1 := dk_seg dksX7_beginsAt_0 24 rfl rfl
theorem dX7_beginsAt_0 : decode cX7_beginsAt 0 = .ok (.iconst 0, 1) := dk_3 (dk_at dksX7_beginsAt_0 0 rfl rfl)
theorem dX7_beginsAt_1 : decode cX7_beginsAt 1 = .ok (.istore_n 3, 1) := dk_62 (dk_at dksX7_beginsAt_0 1 rfl rfl)
theorem dX7_beginsAt_2 : decode cX7_beginsAt 2 = .ok (.iload_n 3, 1) := dk_29 (dk_at dksX7_beginsAt_0 2 rfl rfl)
theorem dX7_beginsAt_3 : decode cX7_beginsAt 3 = .ok (.bipush 10, 2) := dk_16 10 (dk_at dksX7_beginsAt_0 3 rfl rfl)
theorem dX7_beginsAt_5 : decode cX7_beginsAt 5 = .ok (.if_icmp .ge 18, 3) := dk_162 0 18 (dk_at dksX7_beginsAt_0 5 rfl rfl)
theorem dX7_beginsAt_8 : decode cX7_beginsAt 8 = .ok (.aload_n 0, 1) := dk_42 (dk_at dksX7_beginsAt_0 8 rfl rfl)
theorem dX7_beginsAt_9 : decode cX7_beginsAt 9 = .ok (.getfield 120, 3) := dk_180 0 120 (dk_at dksX7_beginsAt_0 9 rfl rfl)
theorem dX7_beginsAt_12 : decode cX7_beginsAt 12 = .ok (.iload_n 3, 1) := dk_29 (dk_at dksX7_beginsAt_0 12 rfl rfl)
theorem dX7_beginsAt_13 : decode cX7_beginsAt 13 = .ok (.ldc_w 371, 3) := dk_19 1 115 (dk_at dksX7_beginsAt_0 13 rfl rfl)
theorem dX7_beginsAt_16 : decode cX7_beginsAt 16 = .ok (.iastore, 1) := dk_79 (dk_at dksX7_beginsAt_0 16 rfl rfl)
theorem dX7_beginsAt_17 : decode cX7_beginsAt 17 = .ok (.iinc 3 1, 3) := dk_132 3 1 (dk_at dksX7_beginsAt_0 17 rfl rfl)
theorem dX7_beginsAt_20 : decode cX7_beginsAt 20 = .ok (.goto (-18), 3) := dk_167 255 238 (dk_at dksX7_beginsAt_0 20 rfl rfl)
theorem dX7_beginsAt_23 : decode cX7_beginsAt 23 = .ok (.aload_n 0, 1) := dk_42 (dk_at dksX7_beginsAt_0 23 rfl rfl)
theorem dX7_beginsAt_24 : decode cX7_beginsAt 24 = .ok (.getfield 120, 3) := dk_180 0 120 (dk_at dksX7_beginsAt_1 0 rfl rfl)
theorem dX7_beginsAt_27 : decode cX7_beginsAt 27 = .ok (.iload_n 1, 1) := dk_27 (dk_at dksX7_beginsAt_1 3 rfl rfl)
theorem dX7_beginsAt_28 : decode cX7_beginsAt 28 = .ok (.iload_n 2, 1) := dk_28 (dk_at dksX7_beginsAt_1 4 rfl rfl)
theorem dX7_beginsAt_29 : decode cX7_beginsAt 29 = .ok (.iastore, 1) := dk_79 (dk_at dksX7_beginsAt_1 5 rfl rfl)
theorem dX7_beginsAt_30 : decode cX7_beginsAt 30 = .ok (.aload_n 0, 1) := dk_42 (dk_at dksX7_beginsAt_1 6 rfl rfl)
theorem dX7_beginsAt_31 : decode cX7_beginsAt 31 = .ok (.iconst 0, 1) := dk_3 (dk_at dksX7_beginsAt_1 7 rfl rfl)
theorem dX7_beginsAt_32 : decode cX7_beginsAt 32 = .ok (.invokevirtual 372, 3) := dk_182 1 116 (dk_at dksX7_beginsAt_1 8 rfl rfl)
theorem dX7_beginsAt_35 : decode cX7_beginsAt 35 = .ok (.aload_n 0, 1) := dk_42 (dk_at dksX7_beginsAt_1 11 rfl rfl)
theorem dX7_beginsAt_36 : decode cX7_beginsAt 36 = .ok (.getfield 120, 3) := dk_180 0 120 (dk_at dksX7_beginsAt_1 12 rfl rfl)
theorem dX7_beginsAt_39 : decode cX7_beginsAt 39 = .ok (.iload_n 1, 1) := dk_27 (dk_at dksX7_beginsAt_1 15 rfl rfl)
theorem dX7_beginsAt_40 : decode cX7_beginsAt 40 = .ok (.iload_n 2, 1) := dk_28 (dk_at dksX7_beginsAt_1 16 rfl rfl)
theorem dX7_beginsAt_41 : decode cX7_beginsAt 41 = .ok (.aload_n 0, 1) := dk_42 (dk_at dksX7_beginsAt_1 17 rfl rfl)
theorem dX7_beginsAt_42 : decode cX7_beginsAt 42 = .ok (.getfield 150, 3) := dk_180 0 150 (dk_at dksX7_beginsAt_1 18 rfl rfl)
theorem dX7_beginsAt_45 : decode cX7_beginsAt 45 = .ok (.isub, 1) := dk_100 (dk_at dksX7_beginsAt_1 21 rfl rfl)
theorem dX7_beginsAt_46 : decode cX7_beginsAt 46 = .ok (.iastore, 1) := dk_79 (dk_at dksX7_beginsAt_1 22 rfl rfl)
theorem dX7_beginsAt_47 : decode cX7_beginsAt 47 = .ok (.return_, 1) := dk_177 (dk_at dksX7_beginsAt_1 23 rfl rfl)
abbrev cX7_oneRideMore : ByteArray := prog_21_method_67_code
def yX7_oneRideMore : MethodName := ⟨RX7, "oneRideMore", "(I)V"⟩
def dkwX7_oneRideMore_7 : List UInt8 := [167, 255, 235, 177]
abbrev dktX7_oneRideMore_7 : List UInt8 := dkwX7_oneRideMore_7 ++ []
def dkwX7_oneRideMore_6 : List UInt8 := [61, 28, 16, 10, 162, 0, 21, 42, 180, 0, 120, 28, 42, 180, 0, 123, 28, 46, 79, 132, 2, 1]
abbrev dktX7_oneRideMore_6 : List UInt8 := dkwX7_oneRideMore_6 ++ dktX7_oneRideMore_7
def dkwX7_oneRideMore_5 : List UInt8 := [21, 4, 184, 0, 165, 46, 163, 0, 5, 4, 62, 132, 4, 1, 167, 255, 164, 132, 2, 1, 167, 255, 145, 3]
abbrev dktX7_oneRideMore_5 : List UInt8 := dkwX7_oneRideMore_5 ++ dktX7_oneRideMore_6
def dkwX7_oneRideMore_4 : List UInt8 := [21, 4, 184, 0, 165, 46, 184, 1, 66, 79, 42, 180, 0, 120, 21, 5, 46, 27, 96, 42, 180, 0, 34, 28]
abbrev dktX7_oneRideMore_4 : List UInt8 := dkwX7_oneRideMore_4 ++ dktX7_oneRideMore_5
def dkwX7_oneRideMore_3 : List UInt8 := [54, 5, 29, 153, 0, 31, 42, 180, 0, 123, 21, 5, 42, 180, 0, 123, 21, 5, 46, 42, 180, 0, 34, 28]
abbrev dktX7_oneRideMore_3 : List UInt8 := dkwX7_oneRideMore_3 ++ dktX7_oneRideMore_4
def dkwX7_oneRideMore_2 : List UInt8 := [28, 46, 162, 0, 87, 42, 28, 182, 0, 169, 153, 0, 79, 42, 180, 0, 31, 28, 21, 4, 184, 0, 165, 46]
abbrev dktX7_oneRideMore_2 : List UInt8 := dkwX7_oneRideMore_2 ++ dktX7_oneRideMore_3
def dkwX7_oneRideMore_1 : List UInt8 := [167, 255, 235, 3, 61, 28, 42, 180, 0, 162, 162, 0, 109, 3, 62, 3, 54, 4, 21, 4, 42, 180, 0, 28]
abbrev dktX7_oneRideMore_1 : List UInt8 := dkwX7_oneRideMore_1 ++ dktX7_oneRideMore_2
def dkwX7_oneRideMore_0 : List UInt8 := [3, 61, 28, 16, 10, 162, 0, 21, 42, 180, 0, 123, 28, 42, 180, 0, 120, 28, 46, 79, 132, 2, 1]
abbrev dktX7_oneRideMore_0 : List UInt8 := dkwX7_oneRideMore_0 ++ dktX7_oneRideMore_1
theorem dksX7_oneRideMore_0 : cX7_oneRideMore.data.toList.drop 0 = dktX7_oneRideMore_0 := by decide +kernel
theorem dksX7_oneRideMore_1 : cX7_oneRideMore.data.toList.drop 23 = dktX7_oneRideMore_1 := dk_seg dksX7_oneRideMore_0 23 rfl rfl
theorem dksX7_oneRideMore_2 : cX7_oneRideMore.data.toList.drop 47 = dktX7_oneRideMore_2 := dk_seg dksX7_oneRideMore_1 24 rfl rfl
theorem dksX7_oneRideMore_3 : cX7_oneRideMore.data.toList.drop 71 = dktX7_oneRideMore_3 := dk_seg dksX7_oneRideMore_2 24 rfl rfl
theorem dksX7_oneRideMore_4 : cX7_oneRideMore.data.toList.drop 95 = dktX7_oneRideMore_4 := dk_seg dksX7_oneRideMore_3 24 rfl rfl
theorem dksX7_oneRideMore_5 : cX7_oneRideMore.data.toList.drop 119 = dktX7_oneRideMore_5 := dk_seg dksX7_oneRideMore_4 24 rfl rfl
theorem dksX7_oneRideMore_6 : cX7_oneRideMore.data.toList.drop 143 = dktX7_oneRideMore_6 := dk_seg dksX7_oneRideMore_5 24 rfl rfl
theorem dksX7_oneRideMore_7 : cX7_oneRideMore.data.toList.drop 165 = dktX7_oneRideMore_7 := dk_seg dksX7_oneRideMore_6 22 rfl rfl
theorem dX7_oneRideMore_0 : decode cX7_oneRideMore 0 = .ok (.iconst 0, 1) := dk_3 (dk_at dksX7_oneRideMore_0 0 rfl rfl)
theorem dX7_oneRideMore_1 : decode cX7_oneRideMore 1 = .ok (.istore_n 2, 1) := dk_61 (dk_at dksX7_oneRideMore_0 1 rfl rfl)
theorem dX7_oneRideMore_2 : decode cX7_oneRideMore 2 = .ok (.iload_n 2, 1) := dk_28 (dk_at dksX7_oneRideMore_0 2 rfl rfl)
theorem dX7_oneRideMore_3 : decode cX7_oneRideMore 3 = .ok (.bipush 10, 2) := dk_16 10 (dk_at dksX7_oneRideMore_0 3 rfl rfl)
theorem dX7_oneRideMore_5 : decode cX7_oneRideMore 5 = .ok (.if_icmp .ge 21, 3) := dk_162 0 21 (dk_at dksX7_oneRideMore_0 5 rfl rfl)
theorem dX7_oneRideMore_8 : decode cX7_oneRideMore 8 = .ok (.aload_n 0, 1) := dk_42 (dk_at dksX7_oneRideMore_0 8 rfl rfl)
theorem dX7_oneRideMore_9 : decode cX7_oneRideMore 9 = .ok (.getfield 123, 3) := dk_180 0 123 (dk_at dksX7_oneRideMore_0 9 rfl rfl)
theorem dX7_oneRideMore_12 : decode cX7_oneRideMore 12 = .ok (.iload_n 2, 1) := dk_28 (dk_at dksX7_oneRideMore_0 12 rfl rfl)
theorem dX7_oneRideMore_13 : decode cX7_oneRideMore 13 = .ok (.aload_n 0, 1) := dk_42 (dk_at dksX7_oneRideMore_0 13 rfl rfl)
theorem dX7_oneRideMore_14 : decode cX7_oneRideMore 14 = .ok (.getfield 120, 3) := dk_180 0 120 (dk_at dksX7_oneRideMore_0 14 rfl rfl)
theorem dX7_oneRideMore_17 : decode cX7_oneRideMore 17 = .ok (.iload_n 2, 1) := dk_28 (dk_at dksX7_oneRideMore_0 17 rfl rfl)
theorem dX7_oneRideMore_18 : decode cX7_oneRideMore 18 = .ok (.iaload, 1) := dk_46 (dk_at dksX7_oneRideMore_0 18 rfl rfl)
theorem dX7_oneRideMore_19 : decode cX7_oneRideMore 19 = .ok (.iastore, 1) := dk_79 (dk_at dksX7_oneRideMore_0 19 rfl rfl)
theorem dX7_oneRideMore_20 : decode cX7_oneRideMore 20 = .ok (.iinc 2 1, 3) := dk_132 2 1 (dk_at dksX7_oneRideMore_0 20 rfl rfl)
theorem dX7_oneRideMore_23 : decode cX7_oneRideMore 23 = .ok (.goto (-21), 3) := dk_167 255 235 (dk_at dksX7_oneRideMore_1 0 rfl rfl)
theorem dX7_oneRideMore_26 : decode cX7_oneRideMore 26 = .ok (.iconst 0, 1) := dk_3 (dk_at dksX7_oneRideMore_1 3 rfl rfl)
theorem dX7_oneRideMore_27 : decode cX7_oneRideMore 27 = .ok (.istore_n 2, 1) := dk_61 (dk_at dksX7_oneRideMore_1 4 rfl rfl)
theorem dX7_oneRideMore_28 : decode cX7_oneRideMore 28 = .ok (.iload_n 2, 1) := dk_28 (dk_at dksX7_oneRideMore_1 5 rfl rfl)
theorem dX7_oneRideMore_29 : decode cX7_oneRideMore 29 = .ok (.aload_n 0, 1) := dk_42 (dk_at dksX7_oneRideMore_1 6 rfl rfl)
theorem dX7_oneRideMore_30 : decode cX7_oneRideMore 30 = .ok (.getfield 162, 3) := dk_180 0 162 (dk_at dksX7_oneRideMore_1 7 rfl rfl)
theorem dX7_oneRideMore_33 : decode cX7_oneRideMore 33 = .ok (.if_icmp .ge 109, 3) := dk_162 0 109 (dk_at dksX7_oneRideMore_1 10 rfl rfl)
theorem dX7_oneRideMore_36 : decode cX7_oneRideMore 36 = .ok (.iconst 0, 1) := dk_3 (dk_at dksX7_oneRideMore_1 13 rfl rfl)
theorem dX7_oneRideMore_37 : decode cX7_oneRideMore 37 = .ok (.istore_n 3, 1) := dk_62 (dk_at dksX7_oneRideMore_1 14 rfl rfl)
theorem dX7_oneRideMore_38 : decode cX7_oneRideMore 38 = .ok (.iconst 0, 1) := dk_3 (dk_at dksX7_oneRideMore_1 15 rfl rfl)
theorem dX7_oneRideMore_39 : decode cX7_oneRideMore 39 = .ok (.istore 4, 2) := dk_54 4 (dk_at dksX7_oneRideMore_1 16 rfl rfl)
theorem dX7_oneRideMore_41 : decode cX7_oneRideMore 41 = .ok (.iload 4, 2) := dk_21 4 (dk_at dksX7_oneRideMore_1 18 rfl rfl)
theorem dX7_oneRideMore_43 : decode cX7_oneRideMore 43 = .ok (.aload_n 0, 1) := dk_42 (dk_at dksX7_oneRideMore_1 20 rfl rfl)
theorem dX7_oneRideMore_44 : decode cX7_oneRideMore 44 = .ok (.getfield 28, 3) := dk_180 0 28 (dk_at dksX7_oneRideMore_1 21 rfl rfl)
theorem dX7_oneRideMore_47 : decode cX7_oneRideMore 47 = .ok (.iload_n 2, 1) := dk_28 (dk_at dksX7_oneRideMore_2 0 rfl rfl)
theorem dX7_oneRideMore_48 : decode cX7_oneRideMore 48 = .ok (.iaload, 1) := dk_46 (dk_at dksX7_oneRideMore_2 1 rfl rfl)
theorem dX7_oneRideMore_49 : decode cX7_oneRideMore 49 = .ok (.if_icmp .ge 87, 3) := dk_162 0 87 (dk_at dksX7_oneRideMore_2 2 rfl rfl)
theorem dX7_oneRideMore_52 : decode cX7_oneRideMore 52 = .ok (.aload_n 0, 1) := dk_42 (dk_at dksX7_oneRideMore_2 5 rfl rfl)
theorem dX7_oneRideMore_53 : decode cX7_oneRideMore 53 = .ok (.iload_n 2, 1) := dk_28 (dk_at dksX7_oneRideMore_2 6 rfl rfl)
theorem dX7_oneRideMore_54 : decode cX7_oneRideMore 54 = .ok (.invokevirtual 169, 3) := dk_182 0 169 (dk_at dksX7_oneRideMore_2 7 rfl rfl)
theorem dX7_oneRideMore_57 : decode cX7_oneRideMore 57 = .ok (.ifCond .eq 79, 3) := dk_153 0 79 (dk_at dksX7_oneRideMore_2 10 rfl rfl)
theorem dX7_oneRideMore_60 : decode cX7_oneRideMore 60 = .ok (.aload_n 0, 1) := dk_42 (dk_at dksX7_oneRideMore_2 13 rfl rfl)
theorem dX7_oneRideMore_61 : decode cX7_oneRideMore 61 = .ok (.getfield 31, 3) := dk_180 0 31 (dk_at dksX7_oneRideMore_2 14 rfl rfl)
theorem dX7_oneRideMore_64 : decode cX7_oneRideMore 64 = .ok (.iload_n 2, 1) := dk_28 (dk_at dksX7_oneRideMore_2 17 rfl rfl)
theorem dX7_oneRideMore_65 : decode cX7_oneRideMore 65 = .ok (.iload 4, 2) := dk_21 4 (dk_at dksX7_oneRideMore_2 18 rfl rfl)
theorem dX7_oneRideMore_67 : decode cX7_oneRideMore 67 = .ok (.invokestatic 165, 3) := dk_184 0 165 (dk_at dksX7_oneRideMore_2 20 rfl rfl)
theorem dX7_oneRideMore_70 : decode cX7_oneRideMore 70 = .ok (.iaload, 1) := dk_46 (dk_at dksX7_oneRideMore_2 23 rfl rfl)
theorem dX7_oneRideMore_71 : decode cX7_oneRideMore 71 = .ok (.istore 5, 2) := dk_54 5 (dk_at dksX7_oneRideMore_3 0 rfl rfl)
theorem dX7_oneRideMore_73 : decode cX7_oneRideMore 73 = .ok (.iload_n 3, 1) := dk_29 (dk_at dksX7_oneRideMore_3 2 rfl rfl)
theorem dX7_oneRideMore_74 : decode cX7_oneRideMore 74 = .ok (.ifCond .eq 31, 3) := dk_153 0 31 (dk_at dksX7_oneRideMore_3 3 rfl rfl)
theorem dX7_oneRideMore_77 : decode cX7_oneRideMore 77 = .ok (.aload_n 0, 1) := dk_42 (dk_at dksX7_oneRideMore_3 6 rfl rfl)
theorem dX7_oneRideMore_78 : decode cX7_oneRideMore 78 = .ok (.getfield 123, 3) := dk_180 0 123 (dk_at dksX7_oneRideMore_3 7 rfl rfl)
theorem dX7_oneRideMore_81 : decode cX7_oneRideMore 81 = .ok (.iload 5, 2) := dk_21 5 (dk_at dksX7_oneRideMore_3 10 rfl rfl)
theorem dX7_oneRideMore_83 : decode cX7_oneRideMore 83 = .ok (.aload_n 0, 1) := dk_42 (dk_at dksX7_oneRideMore_3 12 rfl rfl)
theorem dX7_oneRideMore_84 : decode cX7_oneRideMore 84 = .ok (.getfield 123, 3) := dk_180 0 123 (dk_at dksX7_oneRideMore_3 13 rfl rfl)
theorem dX7_oneRideMore_87 : decode cX7_oneRideMore 87 = .ok (.iload 5, 2) := dk_21 5 (dk_at dksX7_oneRideMore_3 16 rfl rfl)
theorem dX7_oneRideMore_89 : decode cX7_oneRideMore 89 = .ok (.iaload, 1) := dk_46 (dk_at dksX7_oneRideMore_3 18 rfl rfl)
theorem dX7_oneRideMore_90 : decode cX7_oneRideMore 90 = .ok (.aload_n 0, 1) := dk_42 (dk_at dksX7_oneRideMore_3 19 rfl rfl)
theorem dX7_oneRideMore_91 : decode cX7_oneRideMore 91 = .ok (.getfield 34, 3) := dk_180 0 34 (dk_at dksX7_oneRideMore_3 20 rfl rfl)
theorem dX7_oneRideMore_94 : decode cX7_oneRideMore 94 = .ok (.iload_n 2, 1) := dk_28 (dk_at dksX7_oneRideMore_3 23 rfl rfl)
theorem dX7_oneRideMore_95 : decode cX7_oneRideMore 95 = .ok (.iload 4, 2) := dk_21 4 (dk_at dksX7_oneRideMore_4 0 rfl rfl)
theorem dX7_oneRideMore_97 : decode cX7_oneRideMore 97 = .ok (.invokestatic 165, 3) := dk_184 0 165 (dk_at dksX7_oneRideMore_4 2 rfl rfl)
theorem dX7_oneRideMore_100 : decode cX7_oneRideMore 100 = .ok (.iaload, 1) := dk_46 (dk_at dksX7_oneRideMore_4 5 rfl rfl)
theorem dX7_oneRideMore_101 : decode cX7_oneRideMore 101 = .ok (.invokestatic 322, 3) := dk_184 1 66 (dk_at dksX7_oneRideMore_4 6 rfl rfl)
theorem dX7_oneRideMore_104 : decode cX7_oneRideMore 104 = .ok (.iastore, 1) := dk_79 (dk_at dksX7_oneRideMore_4 9 rfl rfl)
theorem dX7_oneRideMore_105 : decode cX7_oneRideMore 105 = .ok (.aload_n 0, 1) := dk_42 (dk_at dksX7_oneRideMore_4 10 rfl rfl)
theorem dX7_oneRideMore_106 : decode cX7_oneRideMore 106 = .ok (.getfield 120, 3) := dk_180 0 120 (dk_at dksX7_oneRideMore_4 11 rfl rfl)
theorem dX7_oneRideMore_109 : decode cX7_oneRideMore 109 = .ok (.iload 5, 2) := dk_21 5 (dk_at dksX7_oneRideMore_4 14 rfl rfl)
theorem dX7_oneRideMore_111 : decode cX7_oneRideMore 111 = .ok (.iaload, 1) := dk_46 (dk_at dksX7_oneRideMore_4 16 rfl rfl)
theorem dX7_oneRideMore_112 : decode cX7_oneRideMore 112 = .ok (.iload_n 1, 1) := dk_27 (dk_at dksX7_oneRideMore_4 17 rfl rfl)
theorem dX7_oneRideMore_113 : decode cX7_oneRideMore 113 = .ok (.iadd, 1) := dk_96 (dk_at dksX7_oneRideMore_4 18 rfl rfl)
theorem dX7_oneRideMore_114 : decode cX7_oneRideMore 114 = .ok (.aload_n 0, 1) := dk_42 (dk_at dksX7_oneRideMore_4 19 rfl rfl)
theorem dX7_oneRideMore_115 : decode cX7_oneRideMore 115 = .ok (.getfield 34, 3) := dk_180 0 34 (dk_at dksX7_oneRideMore_4 20 rfl rfl)
theorem dX7_oneRideMore_118 : decode cX7_oneRideMore 118 = .ok (.iload_n 2, 1) := dk_28 (dk_at dksX7_oneRideMore_4 23 rfl rfl)
theorem dX7_oneRideMore_119 : decode cX7_oneRideMore 119 = .ok (.iload 4, 2) := dk_21 4 (dk_at dksX7_oneRideMore_5 0 rfl rfl)
theorem dX7_oneRideMore_121 : decode cX7_oneRideMore 121 = .ok (.invokestatic 165, 3) := dk_184 0 165 (dk_at dksX7_oneRideMore_5 2 rfl rfl)
theorem dX7_oneRideMore_124 : decode cX7_oneRideMore 124 = .ok (.iaload, 1) := dk_46 (dk_at dksX7_oneRideMore_5 5 rfl rfl)
theorem dX7_oneRideMore_125 : decode cX7_oneRideMore 125 = .ok (.if_icmp .gt 5, 3) := dk_163 0 5 (dk_at dksX7_oneRideMore_5 6 rfl rfl)
theorem dX7_oneRideMore_128 : decode cX7_oneRideMore 128 = .ok (.iconst 1, 1) := dk_4 (dk_at dksX7_oneRideMore_5 9 rfl rfl)
theorem dX7_oneRideMore_129 : decode cX7_oneRideMore 129 = .ok (.istore_n 3, 1) := dk_62 (dk_at dksX7_oneRideMore_5 10 rfl rfl)
theorem dX7_oneRideMore_130 : decode cX7_oneRideMore 130 = .ok (.iinc 4 1, 3) := dk_132 4 1 (dk_at dksX7_oneRideMore_5 11 rfl rfl)
theorem dX7_oneRideMore_133 : decode cX7_oneRideMore 133 = .ok (.goto (-92), 3) := dk_167 255 164 (dk_at dksX7_oneRideMore_5 14 rfl rfl)
theorem dX7_oneRideMore_136 : decode cX7_oneRideMore 136 = .ok (.iinc 2 1, 3) := dk_132 2 1 (dk_at dksX7_oneRideMore_5 17 rfl rfl)
theorem dX7_oneRideMore_139 : decode cX7_oneRideMore 139 = .ok (.goto (-111), 3) := dk_167 255 145 (dk_at dksX7_oneRideMore_5 20 rfl rfl)
theorem dX7_oneRideMore_142 : decode cX7_oneRideMore 142 = .ok (.iconst 0, 1) := dk_3 (dk_at dksX7_oneRideMore_5 23 rfl rfl)
theorem dX7_oneRideMore_143 : decode cX7_oneRideMore 143 = .ok (.istore_n 2, 1) := dk_61 (dk_at dksX7_oneRideMore_6 0 rfl rfl)
theorem dX7_oneRideMore_144 : decode cX7_oneRideMore 144 = .ok (.iload_n 2, 1) := dk_28 (dk_at dksX7_oneRideMore_6 1 rfl rfl)
theorem dX7_oneRideMore_145 : decode cX7_oneRideMore 145 = .ok (.bipush 10, 2) := dk_16 10 (dk_at dksX7_oneRideMore_6 2 rfl rfl)
theorem dX7_oneRideMore_147 : decode cX7_oneRideMore 147 = .ok (.if_icmp .ge 21, 3) := dk_162 0 21 (dk_at dksX7_oneRideMore_6 4 rfl rfl)
theorem dX7_oneRideMore_150 : decode cX7_oneRideMore 150 = .ok (.aload_n 0, 1) := dk_42 (dk_at dksX7_oneRideMore_6 7 rfl rfl)
theorem dX7_oneRideMore_151 : decode cX7_oneRideMore 151 = .ok (.getfield 120, 3) := dk_180 0 120 (dk_at dksX7_oneRideMore_6 8 rfl rfl)
theorem dX7_oneRideMore_154 : decode cX7_oneRideMore 154 = .ok (.iload_n 2, 1) := dk_28 (dk_at dksX7_oneRideMore_6 11 rfl rfl)
theorem dX7_oneRideMore_155 : decode cX7_oneRideMore 155 = .ok (.aload_n 0, 1) := dk_42 (dk_at dksX7_oneRideMore_6 12 rfl rfl)
theorem dX7_oneRideMore_156 : decode cX7_oneRideMore 156 = .ok (.getfield 123, 3) := dk_180 0 123 (dk_at dksX7_oneRideMore_6 13 rfl rfl)
theorem dX7_oneRideMore_159 : decode cX7_oneRideMore 159 = .ok (.iload_n 2, 1) := dk_28 (dk_at dksX7_oneRideMore_6 16 rfl rfl)
theorem dX7_oneRideMore_160 : decode cX7_oneRideMore 160 = .ok (.iaload, 1) := dk_46 (dk_at dksX7_oneRideMore_6 17 rfl rfl)
theorem dX7_oneRideMore_161 : decode cX7_oneRideMore 161 = .ok (.iastore, 1) := dk_79 (dk_at dksX7_oneRideMore_6 18 rfl rfl)
theorem dX7_oneRideMore_162 : decode cX7_oneRideMore 162 = .ok (.iinc 2 1, 3) := dk_132 2 1 (dk_at dksX7_oneRideMore_6 19 rfl rfl)
theorem dX7_oneRideMore_165 : decode cX7_oneRideMore 165 = .ok (.goto (-21), 3) := dk_167 255 235 (dk_at dksX7_oneRideMore_7 0 rfl rfl)
theorem dX7_oneRideMore_168 : decode cX7_oneRideMore 168 = .ok (.return_, 1) := dk_177 (dk_at dksX7_oneRideMore_7 3 rfl rfl)
abbrev cX7_latest : ByteArray := prog_21_method_71_code
def yX7_latest : MethodName := ⟨RX7, "latest", "(III)I"⟩
def dkwX7_latest_4 : List UInt8 := [132, 4, 255, 167, 255, 190, 16, 254, 172]
abbrev dktX7_latest_4 : List UInt8 := dkwX7_latest_4 ++ []
def dkwX7_latest_3 : List UInt8 := [27, 28, 42, 180, 0, 34, 21, 5, 46, 182, 1, 122, 29, 163, 0, 11, 42, 180, 0, 34, 21, 5, 46, 172]
abbrev dktX7_latest_3 : List UInt8 := dkwX7_latest_3 ++ dktX7_latest_4
def dkwX7_latest_2 : List UInt8 := [180, 0, 31, 21, 5, 46, 27, 160, 0, 41, 42, 21, 5, 16, 8, 108, 27, 182, 1, 125, 153, 0, 28, 42]
abbrev dktX7_latest_2 : List UInt8 := dkwX7_latest_2 ++ dktX7_latest_3
def dkwX7_latest_1 : List UInt8 := [180, 1, 48, 4, 100, 54, 4, 21, 4, 155, 0, 67, 42, 180, 0, 40, 21, 4, 46, 54, 5, 42]
abbrev dktX7_latest_1 : List UInt8 := dkwX7_latest_1 ++ dktX7_latest_2
def dkwX7_latest_0 : List UInt8 := [27, 28, 184, 0, 175, 153, 0, 14, 29, 3, 17, 5, 159, 184, 0, 154, 154, 0, 5, 2, 172, 42]
abbrev dktX7_latest_0 : List UInt8 := dkwX7_latest_0 ++ dktX7_latest_1
theorem dksX7_latest_0 : cX7_latest.data.toList.drop 0 = dktX7_latest_0 := by decide +kernel
theorem dksX7_latest_1 : cX7_latest.data.toList.drop 22 = dktX7_latest_1 := dk_seg dksX7_latest_0 22 rfl rfl
theorem dksX7_latest_2 : cX7_latest.data.toList.drop 44 = dktX7_latest_2 := dk_seg dksX7_latest_1 22 rfl rfl
theorem dksX7_latest_3 : cX7_latest.data.toList.drop 68 = dktX7_latest_3 := dk_seg dksX7_latest_2 24 rfl rfl
theorem dksX7_latest_4 : cX7_latest.data.toList.drop 92 = dktX7_latest_4 := dk_seg dksX7_latest_3 24 rfl rfl
theorem dX7_latest_0 : decode cX7_latest 0 = .ok (.iload_n 1, 1) := dk_27 (dk_at dksX7_latest_0 0 rfl rfl)
theorem dX7_latest_1 : decode cX7_latest 1 = .ok (.iload_n 2, 1) := dk_28 (dk_at dksX7_latest_0 1 rfl rfl)
theorem dX7_latest_2 : decode cX7_latest 2 = .ok (.invokestatic 175, 3) := dk_184 0 175 (dk_at dksX7_latest_0 2 rfl rfl)
theorem dX7_latest_5 : decode cX7_latest 5 = .ok (.ifCond .eq 14, 3) := dk_153 0 14 (dk_at dksX7_latest_0 5 rfl rfl)
theorem dX7_latest_8 : decode cX7_latest 8 = .ok (.iload_n 3, 1) := dk_29 (dk_at dksX7_latest_0 8 rfl rfl)
theorem dX7_latest_9 : decode cX7_latest 9 = .ok (.iconst 0, 1) := dk_3 (dk_at dksX7_latest_0 9 rfl rfl)
theorem dX7_latest_10 : decode cX7_latest 10 = .ok (.sipush 1439, 3) := dk_17 5 159 (dk_at dksX7_latest_0 10 rfl rfl)
theorem dX7_latest_13 : decode cX7_latest 13 = .ok (.invokestatic 154, 3) := dk_184 0 154 (dk_at dksX7_latest_0 13 rfl rfl)
theorem dX7_latest_16 : decode cX7_latest 16 = .ok (.ifCond .ne 5, 3) := dk_154 0 5 (dk_at dksX7_latest_0 16 rfl rfl)
theorem dX7_latest_19 : decode cX7_latest 19 = .ok (.iconst (-1), 1) := dk_2 (dk_at dksX7_latest_0 19 rfl rfl)
theorem dX7_latest_20 : decode cX7_latest 20 = .ok (.ireturn, 1) := dk_172 (dk_at dksX7_latest_0 20 rfl rfl)
theorem dX7_latest_21 : decode cX7_latest 21 = .ok (.aload_n 0, 1) := dk_42 (dk_at dksX7_latest_0 21 rfl rfl)
theorem dX7_latest_22 : decode cX7_latest 22 = .ok (.getfield 304, 3) := dk_180 1 48 (dk_at dksX7_latest_1 0 rfl rfl)
theorem dX7_latest_25 : decode cX7_latest 25 = .ok (.iconst 1, 1) := dk_4 (dk_at dksX7_latest_1 3 rfl rfl)
theorem dX7_latest_26 : decode cX7_latest 26 = .ok (.isub, 1) := dk_100 (dk_at dksX7_latest_1 4 rfl rfl)
theorem dX7_latest_27 : decode cX7_latest 27 = .ok (.istore 4, 2) := dk_54 4 (dk_at dksX7_latest_1 5 rfl rfl)
theorem dX7_latest_29 : decode cX7_latest 29 = .ok (.iload 4, 2) := dk_21 4 (dk_at dksX7_latest_1 7 rfl rfl)
theorem dX7_latest_31 : decode cX7_latest 31 = .ok (.ifCond .lt 67, 3) := dk_155 0 67 (dk_at dksX7_latest_1 9 rfl rfl)
theorem dX7_latest_34 : decode cX7_latest 34 = .ok (.aload_n 0, 1) := dk_42 (dk_at dksX7_latest_1 12 rfl rfl)
theorem dX7_latest_35 : decode cX7_latest 35 = .ok (.getfield 40, 3) := dk_180 0 40 (dk_at dksX7_latest_1 13 rfl rfl)
theorem dX7_latest_38 : decode cX7_latest 38 = .ok (.iload 4, 2) := dk_21 4 (dk_at dksX7_latest_1 16 rfl rfl)
theorem dX7_latest_40 : decode cX7_latest 40 = .ok (.iaload, 1) := dk_46 (dk_at dksX7_latest_1 18 rfl rfl)
theorem dX7_latest_41 : decode cX7_latest 41 = .ok (.istore 5, 2) := dk_54 5 (dk_at dksX7_latest_1 19 rfl rfl)
theorem dX7_latest_43 : decode cX7_latest 43 = .ok (.aload_n 0, 1) := dk_42 (dk_at dksX7_latest_1 21 rfl rfl)
theorem dX7_latest_44 : decode cX7_latest 44 = .ok (.getfield 31, 3) := dk_180 0 31 (dk_at dksX7_latest_2 0 rfl rfl)
theorem dX7_latest_47 : decode cX7_latest 47 = .ok (.iload 5, 2) := dk_21 5 (dk_at dksX7_latest_2 3 rfl rfl)
theorem dX7_latest_49 : decode cX7_latest 49 = .ok (.iaload, 1) := dk_46 (dk_at dksX7_latest_2 5 rfl rfl)
theorem dX7_latest_50 : decode cX7_latest 50 = .ok (.iload_n 1, 1) := dk_27 (dk_at dksX7_latest_2 6 rfl rfl)
theorem dX7_latest_51 : decode cX7_latest 51 = .ok (.if_icmp .ne 41, 3) := dk_160 0 41 (dk_at dksX7_latest_2 7 rfl rfl)
theorem dX7_latest_54 : decode cX7_latest 54 = .ok (.aload_n 0, 1) := dk_42 (dk_at dksX7_latest_2 10 rfl rfl)
theorem dX7_latest_55 : decode cX7_latest 55 = .ok (.iload 5, 2) := dk_21 5 (dk_at dksX7_latest_2 11 rfl rfl)
theorem dX7_latest_57 : decode cX7_latest 57 = .ok (.bipush 8, 2) := dk_16 8 (dk_at dksX7_latest_2 13 rfl rfl)
theorem dX7_latest_59 : decode cX7_latest 59 = .ok (.idiv, 1) := dk_108 (dk_at dksX7_latest_2 15 rfl rfl)
theorem dX7_latest_60 : decode cX7_latest 60 = .ok (.iload_n 1, 1) := dk_27 (dk_at dksX7_latest_2 16 rfl rfl)
theorem dX7_latest_61 : decode cX7_latest 61 = .ok (.invokevirtual 381, 3) := dk_182 1 125 (dk_at dksX7_latest_2 17 rfl rfl)
theorem dX7_latest_64 : decode cX7_latest 64 = .ok (.ifCond .eq 28, 3) := dk_153 0 28 (dk_at dksX7_latest_2 20 rfl rfl)
theorem dX7_latest_67 : decode cX7_latest 67 = .ok (.aload_n 0, 1) := dk_42 (dk_at dksX7_latest_2 23 rfl rfl)
theorem dX7_latest_68 : decode cX7_latest 68 = .ok (.iload_n 1, 1) := dk_27 (dk_at dksX7_latest_3 0 rfl rfl)
theorem dX7_latest_69 : decode cX7_latest 69 = .ok (.iload_n 2, 1) := dk_28 (dk_at dksX7_latest_3 1 rfl rfl)
theorem dX7_latest_70 : decode cX7_latest 70 = .ok (.aload_n 0, 1) := dk_42 (dk_at dksX7_latest_3 2 rfl rfl)
theorem dX7_latest_71 : decode cX7_latest 71 = .ok (.getfield 34, 3) := dk_180 0 34 (dk_at dksX7_latest_3 3 rfl rfl)
theorem dX7_latest_74 : decode cX7_latest 74 = .ok (.iload 5, 2) := dk_21 5 (dk_at dksX7_latest_3 6 rfl rfl)
theorem dX7_latest_76 : decode cX7_latest 76 = .ok (.iaload, 1) := dk_46 (dk_at dksX7_latest_3 8 rfl rfl)
theorem dX7_latest_77 : decode cX7_latest 77 = .ok (.invokevirtual 378, 3) := dk_182 1 122 (dk_at dksX7_latest_3 9 rfl rfl)
theorem dX7_latest_80 : decode cX7_latest 80 = .ok (.iload_n 3, 1) := dk_29 (dk_at dksX7_latest_3 12 rfl rfl)
theorem dX7_latest_81 : decode cX7_latest 81 = .ok (.if_icmp .gt 11, 3) := dk_163 0 11 (dk_at dksX7_latest_3 13 rfl rfl)
theorem dX7_latest_84 : decode cX7_latest 84 = .ok (.aload_n 0, 1) := dk_42 (dk_at dksX7_latest_3 16 rfl rfl)
theorem dX7_latest_85 : decode cX7_latest 85 = .ok (.getfield 34, 3) := dk_180 0 34 (dk_at dksX7_latest_3 17 rfl rfl)
theorem dX7_latest_88 : decode cX7_latest 88 = .ok (.iload 5, 2) := dk_21 5 (dk_at dksX7_latest_3 20 rfl rfl)
theorem dX7_latest_90 : decode cX7_latest 90 = .ok (.iaload, 1) := dk_46 (dk_at dksX7_latest_3 22 rfl rfl)
theorem dX7_latest_91 : decode cX7_latest 91 = .ok (.ireturn, 1) := dk_172 (dk_at dksX7_latest_3 23 rfl rfl)
theorem dX7_latest_92 : decode cX7_latest 92 = .ok (.iinc 4 (-1), 3) := dk_132 4 255 (dk_at dksX7_latest_4 0 rfl rfl)
theorem dX7_latest_95 : decode cX7_latest 95 = .ok (.goto (-66), 3) := dk_167 255 190 (dk_at dksX7_latest_4 3 rfl rfl)
theorem dX7_latest_98 : decode cX7_latest 98 = .ok (.bipush (-2), 2) := dk_16 254 (dk_at dksX7_latest_4 6 rfl rfl)
theorem dX7_latest_100 : decode cX7_latest 100 = .ok (.ireturn, 1) := dk_172 (dk_at dksX7_latest_4 8 rfl rfl)
abbrev cX7_leavesFrom : ByteArray := prog_21_method_13_code
def yX7_leavesFrom : MethodName := ⟨RX7, "leavesFrom", "(II)Z"⟩
def dkwX7_leavesFrom_1 : List UInt8 := [184, 0, 154, 153, 0, 7, 4, 167, 0, 4, 3, 172]
abbrev dktX7_leavesFrom_1 : List UInt8 := dkwX7_leavesFrom_1 ++ []
def dkwX7_leavesFrom_0 : List UInt8 := [42, 27, 182, 0, 169, 153, 0, 28, 42, 27, 28, 182, 0, 172, 3, 42, 180, 0, 28, 27, 46, 5, 100]
abbrev dktX7_leavesFrom_0 : List UInt8 := dkwX7_leavesFrom_0 ++ dktX7_leavesFrom_1
theorem dksX7_leavesFrom_0 : cX7_leavesFrom.data.toList.drop 0 = dktX7_leavesFrom_0 := by decide +kernel
theorem dksX7_leavesFrom_1 : cX7_leavesFrom.data.toList.drop 23 = dktX7_leavesFrom_1 := dk_seg dksX7_leavesFrom_0 23 rfl rfl
theorem dX7_leavesFrom_0 : decode cX7_leavesFrom 0 = .ok (.aload_n 0, 1) := dk_42 (dk_at dksX7_leavesFrom_0 0 rfl rfl)
theorem dX7_leavesFrom_1 : decode cX7_leavesFrom 1 = .ok (.iload_n 1, 1) := dk_27 (dk_at dksX7_leavesFrom_0 1 rfl rfl)
theorem dX7_leavesFrom_2 : decode cX7_leavesFrom 2 = .ok (.invokevirtual 169, 3) := dk_182 0 169 (dk_at dksX7_leavesFrom_0 2 rfl rfl)
theorem dX7_leavesFrom_5 : decode cX7_leavesFrom 5 = .ok (.ifCond .eq 28, 3) := dk_153 0 28 (dk_at dksX7_leavesFrom_0 5 rfl rfl)
theorem dX7_leavesFrom_8 : decode cX7_leavesFrom 8 = .ok (.aload_n 0, 1) := dk_42 (dk_at dksX7_leavesFrom_0 8 rfl rfl)
theorem dX7_leavesFrom_9 : decode cX7_leavesFrom 9 = .ok (.iload_n 1, 1) := dk_27 (dk_at dksX7_leavesFrom_0 9 rfl rfl)
theorem dX7_leavesFrom_10 : decode cX7_leavesFrom 10 = .ok (.iload_n 2, 1) := dk_28 (dk_at dksX7_leavesFrom_0 10 rfl rfl)
theorem dX7_leavesFrom_11 : decode cX7_leavesFrom 11 = .ok (.invokevirtual 172, 3) := dk_182 0 172 (dk_at dksX7_leavesFrom_0 11 rfl rfl)
theorem dX7_leavesFrom_14 : decode cX7_leavesFrom 14 = .ok (.iconst 0, 1) := dk_3 (dk_at dksX7_leavesFrom_0 14 rfl rfl)
theorem dX7_leavesFrom_15 : decode cX7_leavesFrom 15 = .ok (.aload_n 0, 1) := dk_42 (dk_at dksX7_leavesFrom_0 15 rfl rfl)
theorem dX7_leavesFrom_16 : decode cX7_leavesFrom 16 = .ok (.getfield 28, 3) := dk_180 0 28 (dk_at dksX7_leavesFrom_0 16 rfl rfl)
theorem dX7_leavesFrom_19 : decode cX7_leavesFrom 19 = .ok (.iload_n 1, 1) := dk_27 (dk_at dksX7_leavesFrom_0 19 rfl rfl)
theorem dX7_leavesFrom_20 : decode cX7_leavesFrom 20 = .ok (.iaload, 1) := dk_46 (dk_at dksX7_leavesFrom_0 20 rfl rfl)
theorem dX7_leavesFrom_21 : decode cX7_leavesFrom 21 = .ok (.iconst 2, 1) := dk_5 (dk_at dksX7_leavesFrom_0 21 rfl rfl)
theorem dX7_leavesFrom_22 : decode cX7_leavesFrom 22 = .ok (.isub, 1) := dk_100 (dk_at dksX7_leavesFrom_0 22 rfl rfl)
theorem dX7_leavesFrom_23 : decode cX7_leavesFrom 23 = .ok (.invokestatic 154, 3) := dk_184 0 154 (dk_at dksX7_leavesFrom_1 0 rfl rfl)
theorem dX7_leavesFrom_26 : decode cX7_leavesFrom 26 = .ok (.ifCond .eq 7, 3) := dk_153 0 7 (dk_at dksX7_leavesFrom_1 3 rfl rfl)
theorem dX7_leavesFrom_29 : decode cX7_leavesFrom 29 = .ok (.iconst 1, 1) := dk_4 (dk_at dksX7_leavesFrom_1 6 rfl rfl)
theorem dX7_leavesFrom_30 : decode cX7_leavesFrom 30 = .ok (.goto 4, 3) := dk_167 0 4 (dk_at dksX7_leavesFrom_1 7 rfl rfl)
theorem dX7_leavesFrom_33 : decode cX7_leavesFrom 33 = .ok (.iconst 0, 1) := dk_3 (dk_at dksX7_leavesFrom_1 10 rfl rfl)
theorem dX7_leavesFrom_34 : decode cX7_leavesFrom 34 = .ok (.ireturn, 1) := dk_172 (dk_at dksX7_leavesFrom_1 11 rfl rfl)
abbrev cX7_fastest : ByteArray := prog_21_method_72_code
def yX7_fastest : MethodName := ⟨RX7, "fastest", "(II)I"⟩
def dkwX7_fastest_4 : List UInt8 := [167, 0, 4, 29, 172]
abbrev dktX7_fastest_4 : List UInt8 := dkwX7_fastest_4 ++ []
def dkwX7_fastest_3 : List UInt8 := [21, 5, 100, 184, 1, 66, 62, 132, 4, 1, 167, 255, 194, 29, 19, 1, 115, 160, 0, 8, 16, 254]
abbrev dktX7_fastest_3 : List UInt8 := dkwX7_fastest_3 ++ dktX7_fastest_4
def dkwX7_fastest_2 : List UInt8 := [54, 5, 42, 27, 28, 21, 5, 182, 1, 122, 54, 6, 21, 6, 19, 1, 115, 159, 0, 13, 29, 21, 6]
abbrev dktX7_fastest_2 : List UInt8 := dkwX7_fastest_2 ++ dktX7_fastest_3
def dkwX7_fastest_1 : List UInt8 := [162, 0, 59, 42, 21, 4, 27, 182, 1, 125, 154, 0, 6, 167, 0, 40, 42, 21, 4, 27, 182, 1, 128]
abbrev dktX7_fastest_1 : List UInt8 := dkwX7_fastest_1 ++ dktX7_fastest_2
def dkwX7_fastest_0 : List UInt8 := [27, 28, 184, 0, 175, 154, 0, 5, 2, 172, 19, 1, 115, 62, 3, 54, 4, 21, 4, 42, 180, 0, 162]
abbrev dktX7_fastest_0 : List UInt8 := dkwX7_fastest_0 ++ dktX7_fastest_1
theorem dksX7_fastest_0 : cX7_fastest.data.toList.drop 0 = dktX7_fastest_0 := by decide +kernel
theorem dksX7_fastest_1 : cX7_fastest.data.toList.drop 23 = dktX7_fastest_1 := dk_seg dksX7_fastest_0 23 rfl rfl
theorem dksX7_fastest_2 : cX7_fastest.data.toList.drop 46 = dktX7_fastest_2 := dk_seg dksX7_fastest_1 23 rfl rfl
theorem dksX7_fastest_3 : cX7_fastest.data.toList.drop 69 = dktX7_fastest_3 := dk_seg dksX7_fastest_2 23 rfl rfl
theorem dksX7_fastest_4 : cX7_fastest.data.toList.drop 91 = dktX7_fastest_4 := dk_seg dksX7_fastest_3 22 rfl rfl
theorem dX7_fastest_0 : decode cX7_fastest 0 = .ok (.iload_n 1, 1) := dk_27 (dk_at dksX7_fastest_0 0 rfl rfl)
theorem dX7_fastest_1 : decode cX7_fastest 1 = .ok (.iload_n 2, 1) := dk_28 (dk_at dksX7_fastest_0 1 rfl rfl)
theorem dX7_fastest_2 : decode cX7_fastest 2 = .ok (.invokestatic 175, 3) := dk_184 0 175 (dk_at dksX7_fastest_0 2 rfl rfl)
theorem dX7_fastest_5 : decode cX7_fastest 5 = .ok (.ifCond .ne 5, 3) := dk_154 0 5 (dk_at dksX7_fastest_0 5 rfl rfl)
theorem dX7_fastest_8 : decode cX7_fastest 8 = .ok (.iconst (-1), 1) := dk_2 (dk_at dksX7_fastest_0 8 rfl rfl)
theorem dX7_fastest_9 : decode cX7_fastest 9 = .ok (.ireturn, 1) := dk_172 (dk_at dksX7_fastest_0 9 rfl rfl)
theorem dX7_fastest_10 : decode cX7_fastest 10 = .ok (.ldc_w 371, 3) := dk_19 1 115 (dk_at dksX7_fastest_0 10 rfl rfl)
theorem dX7_fastest_13 : decode cX7_fastest 13 = .ok (.istore_n 3, 1) := dk_62 (dk_at dksX7_fastest_0 13 rfl rfl)
theorem dX7_fastest_14 : decode cX7_fastest 14 = .ok (.iconst 0, 1) := dk_3 (dk_at dksX7_fastest_0 14 rfl rfl)
theorem dX7_fastest_15 : decode cX7_fastest 15 = .ok (.istore 4, 2) := dk_54 4 (dk_at dksX7_fastest_0 15 rfl rfl)
theorem dX7_fastest_17 : decode cX7_fastest 17 = .ok (.iload 4, 2) := dk_21 4 (dk_at dksX7_fastest_0 17 rfl rfl)
theorem dX7_fastest_19 : decode cX7_fastest 19 = .ok (.aload_n 0, 1) := dk_42 (dk_at dksX7_fastest_0 19 rfl rfl)
theorem dX7_fastest_20 : decode cX7_fastest 20 = .ok (.getfield 162, 3) := dk_180 0 162 (dk_at dksX7_fastest_0 20 rfl rfl)
theorem dX7_fastest_23 : decode cX7_fastest 23 = .ok (.if_icmp .ge 59, 3) := dk_162 0 59 (dk_at dksX7_fastest_1 0 rfl rfl)
theorem dX7_fastest_26 : decode cX7_fastest 26 = .ok (.aload_n 0, 1) := dk_42 (dk_at dksX7_fastest_1 3 rfl rfl)
theorem dX7_fastest_27 : decode cX7_fastest 27 = .ok (.iload 4, 2) := dk_21 4 (dk_at dksX7_fastest_1 4 rfl rfl)
theorem dX7_fastest_29 : decode cX7_fastest 29 = .ok (.iload_n 1, 1) := dk_27 (dk_at dksX7_fastest_1 6 rfl rfl)
theorem dX7_fastest_30 : decode cX7_fastest 30 = .ok (.invokevirtual 381, 3) := dk_182 1 125 (dk_at dksX7_fastest_1 7 rfl rfl)
theorem dX7_fastest_33 : decode cX7_fastest 33 = .ok (.ifCond .ne 6, 3) := dk_154 0 6 (dk_at dksX7_fastest_1 10 rfl rfl)
theorem dX7_fastest_36 : decode cX7_fastest 36 = .ok (.goto 40, 3) := dk_167 0 40 (dk_at dksX7_fastest_1 13 rfl rfl)
theorem dX7_fastest_39 : decode cX7_fastest 39 = .ok (.aload_n 0, 1) := dk_42 (dk_at dksX7_fastest_1 16 rfl rfl)
theorem dX7_fastest_40 : decode cX7_fastest 40 = .ok (.iload 4, 2) := dk_21 4 (dk_at dksX7_fastest_1 17 rfl rfl)
theorem dX7_fastest_42 : decode cX7_fastest 42 = .ok (.iload_n 1, 1) := dk_27 (dk_at dksX7_fastest_1 19 rfl rfl)
theorem dX7_fastest_43 : decode cX7_fastest 43 = .ok (.invokevirtual 384, 3) := dk_182 1 128 (dk_at dksX7_fastest_1 20 rfl rfl)
theorem dX7_fastest_46 : decode cX7_fastest 46 = .ok (.istore 5, 2) := dk_54 5 (dk_at dksX7_fastest_2 0 rfl rfl)
theorem dX7_fastest_48 : decode cX7_fastest 48 = .ok (.aload_n 0, 1) := dk_42 (dk_at dksX7_fastest_2 2 rfl rfl)
theorem dX7_fastest_49 : decode cX7_fastest 49 = .ok (.iload_n 1, 1) := dk_27 (dk_at dksX7_fastest_2 3 rfl rfl)
theorem dX7_fastest_50 : decode cX7_fastest 50 = .ok (.iload_n 2, 1) := dk_28 (dk_at dksX7_fastest_2 4 rfl rfl)
theorem dX7_fastest_51 : decode cX7_fastest 51 = .ok (.iload 5, 2) := dk_21 5 (dk_at dksX7_fastest_2 5 rfl rfl)
theorem dX7_fastest_53 : decode cX7_fastest 53 = .ok (.invokevirtual 378, 3) := dk_182 1 122 (dk_at dksX7_fastest_2 7 rfl rfl)
theorem dX7_fastest_56 : decode cX7_fastest 56 = .ok (.istore 6, 2) := dk_54 6 (dk_at dksX7_fastest_2 10 rfl rfl)
theorem dX7_fastest_58 : decode cX7_fastest 58 = .ok (.iload 6, 2) := dk_21 6 (dk_at dksX7_fastest_2 12 rfl rfl)
theorem dX7_fastest_60 : decode cX7_fastest 60 = .ok (.ldc_w 371, 3) := dk_19 1 115 (dk_at dksX7_fastest_2 14 rfl rfl)
theorem dX7_fastest_63 : decode cX7_fastest 63 = .ok (.if_icmp .eq 13, 3) := dk_159 0 13 (dk_at dksX7_fastest_2 17 rfl rfl)
theorem dX7_fastest_66 : decode cX7_fastest 66 = .ok (.iload_n 3, 1) := dk_29 (dk_at dksX7_fastest_2 20 rfl rfl)
theorem dX7_fastest_67 : decode cX7_fastest 67 = .ok (.iload 6, 2) := dk_21 6 (dk_at dksX7_fastest_2 21 rfl rfl)
theorem dX7_fastest_69 : decode cX7_fastest 69 = .ok (.iload 5, 2) := dk_21 5 (dk_at dksX7_fastest_3 0 rfl rfl)
theorem dX7_fastest_71 : decode cX7_fastest 71 = .ok (.isub, 1) := dk_100 (dk_at dksX7_fastest_3 2 rfl rfl)
theorem dX7_fastest_72 : decode cX7_fastest 72 = .ok (.invokestatic 322, 3) := dk_184 1 66 (dk_at dksX7_fastest_3 3 rfl rfl)
theorem dX7_fastest_75 : decode cX7_fastest 75 = .ok (.istore_n 3, 1) := dk_62 (dk_at dksX7_fastest_3 6 rfl rfl)
theorem dX7_fastest_76 : decode cX7_fastest 76 = .ok (.iinc 4 1, 3) := dk_132 4 1 (dk_at dksX7_fastest_3 7 rfl rfl)
theorem dX7_fastest_79 : decode cX7_fastest 79 = .ok (.goto (-62), 3) := dk_167 255 194 (dk_at dksX7_fastest_3 10 rfl rfl)
theorem dX7_fastest_82 : decode cX7_fastest 82 = .ok (.iload_n 3, 1) := dk_29 (dk_at dksX7_fastest_3 13 rfl rfl)
theorem dX7_fastest_83 : decode cX7_fastest 83 = .ok (.ldc_w 371, 3) := dk_19 1 115 (dk_at dksX7_fastest_3 14 rfl rfl)
theorem dX7_fastest_86 : decode cX7_fastest 86 = .ok (.if_icmp .ne 8, 3) := dk_160 0 8 (dk_at dksX7_fastest_3 17 rfl rfl)
theorem dX7_fastest_89 : decode cX7_fastest 89 = .ok (.bipush (-2), 2) := dk_16 254 (dk_at dksX7_fastest_3 20 rfl rfl)
theorem dX7_fastest_91 : decode cX7_fastest 91 = .ok (.goto 4, 3) := dk_167 0 4 (dk_at dksX7_fastest_4 0 rfl rfl)
theorem dX7_fastest_94 : decode cX7_fastest 94 = .ok (.iload_n 3, 1) := dk_29 (dk_at dksX7_fastest_4 3 rfl rfl)
theorem dX7_fastest_95 : decode cX7_fastest 95 = .ok (.ireturn, 1) := dk_172 (dk_at dksX7_fastest_4 4 rfl rfl)
abbrev cX7_minuteAt : ByteArray := prog_21_method_15_code
def yX7_minuteAt : MethodName := ⟨RX7, "minuteAt", "(II)I"⟩
def dkwX7_minuteAt_0 : List UInt8 := [42, 180, 0, 34, 27, 42, 27, 28, 182, 0, 172, 184, 0, 165, 46, 172]
abbrev dktX7_minuteAt_0 : List UInt8 := dkwX7_minuteAt_0 ++ []
theorem dksX7_minuteAt_0 : cX7_minuteAt.data.toList.drop 0 = dktX7_minuteAt_0 := by decide +kernel
theorem dX7_minuteAt_0 : decode cX7_minuteAt 0 = .ok (.aload_n 0, 1) := dk_42 (dk_at dksX7_minuteAt_0 0 rfl rfl)
theorem dX7_minuteAt_1 : decode cX7_minuteAt 1 = .ok (.getfield 34, 3) := dk_180 0 34 (dk_at dksX7_minuteAt_0 1 rfl rfl)
theorem dX7_minuteAt_4 : decode cX7_minuteAt 4 = .ok (.iload_n 1, 1) := dk_27 (dk_at dksX7_minuteAt_0 4 rfl rfl)
theorem dX7_minuteAt_5 : decode cX7_minuteAt 5 = .ok (.aload_n 0, 1) := dk_42 (dk_at dksX7_minuteAt_0 5 rfl rfl)
theorem dX7_minuteAt_6 : decode cX7_minuteAt 6 = .ok (.iload_n 1, 1) := dk_27 (dk_at dksX7_minuteAt_0 6 rfl rfl)
theorem dX7_minuteAt_7 : decode cX7_minuteAt 7 = .ok (.iload_n 2, 1) := dk_28 (dk_at dksX7_minuteAt_0 7 rfl rfl)
theorem dX7_minuteAt_8 : decode cX7_minuteAt 8 = .ok (.invokevirtual 172, 3) := dk_182 0 172 (dk_at dksX7_minuteAt_0 8 rfl rfl)
theorem dX7_minuteAt_11 : decode cX7_minuteAt 11 = .ok (.invokestatic 165, 3) := dk_184 0 165 (dk_at dksX7_minuteAt_0 11 rfl rfl)
theorem dX7_minuteAt_14 : decode cX7_minuteAt 14 = .ok (.iaload, 1) := dk_46 (dk_at dksX7_minuteAt_0 14 rfl rfl)
theorem dX7_minuteAt_15 : decode cX7_minuteAt 15 = .ok (.ireturn, 1) := dk_172 (dk_at dksX7_minuteAt_0 15 rfl rfl)
abbrev cX7_best : ByteArray := prog_21_method_74_code
def yX7_best : MethodName := ⟨RX7, "best", "(III)I"⟩
def dkwX7_best_4 : List UInt8 := [46, 167, 0, 15, 42, 180, 0, 129, 21, 4, 4, 100, 21, 5, 100, 46, 172]
abbrev dktX7_best_4 : List UInt8 := dkwX7_best_4 ++ []
def dkwX7_best_3 : List UInt8 := [161, 0, 6, 16, 252, 172, 29, 17, 7, 208, 162, 0, 18, 42, 180, 0, 126, 21, 4, 4, 100, 21, 5, 100]
abbrev dktX7_best_3 : List UInt8 := dkwX7_best_3 ++ dktX7_best_4
def dkwX7_best_2 : List UInt8 := [54, 4, 29, 16, 100, 160, 0, 6, 21, 4, 172, 29, 17, 3, 232, 112, 54, 5, 21, 5, 21, 4]
abbrev dktX7_best_2 : List UInt8 := dkwX7_best_2 ++ dktX7_best_3
def dkwX7_best_1 : List UInt8 := [154, 0, 18, 29, 17, 7, 208, 17, 7, 255, 184, 0, 154, 154, 0, 5, 2, 172, 42, 27, 28, 182, 1, 131]
abbrev dktX7_best_1 : List UInt8 := dkwX7_best_1 ++ dktX7_best_2
def dkwX7_best_0 : List UInt8 := [27, 28, 184, 0, 175, 153, 0, 35, 29, 16, 100, 159, 0, 31, 29, 17, 3, 232, 17, 4, 23, 184, 0, 154]
abbrev dktX7_best_0 : List UInt8 := dkwX7_best_0 ++ dktX7_best_1
theorem dksX7_best_0 : cX7_best.data.toList.drop 0 = dktX7_best_0 := by decide +kernel
theorem dksX7_best_1 : cX7_best.data.toList.drop 24 = dktX7_best_1 := dk_seg dksX7_best_0 24 rfl rfl
theorem dksX7_best_2 : cX7_best.data.toList.drop 48 = dktX7_best_2 := dk_seg dksX7_best_1 24 rfl rfl
theorem dksX7_best_3 : cX7_best.data.toList.drop 70 = dktX7_best_3 := dk_seg dksX7_best_2 22 rfl rfl
theorem dksX7_best_4 : cX7_best.data.toList.drop 94 = dktX7_best_4 := dk_seg dksX7_best_3 24 rfl rfl
theorem dX7_best_0 : decode cX7_best 0 = .ok (.iload_n 1, 1) := dk_27 (dk_at dksX7_best_0 0 rfl rfl)
theorem dX7_best_1 : decode cX7_best 1 = .ok (.iload_n 2, 1) := dk_28 (dk_at dksX7_best_0 1 rfl rfl)
theorem dX7_best_2 : decode cX7_best 2 = .ok (.invokestatic 175, 3) := dk_184 0 175 (dk_at dksX7_best_0 2 rfl rfl)
theorem dX7_best_5 : decode cX7_best 5 = .ok (.ifCond .eq 35, 3) := dk_153 0 35 (dk_at dksX7_best_0 5 rfl rfl)
theorem dX7_best_8 : decode cX7_best 8 = .ok (.iload_n 3, 1) := dk_29 (dk_at dksX7_best_0 8 rfl rfl)
theorem dX7_best_9 : decode cX7_best 9 = .ok (.bipush 100, 2) := dk_16 100 (dk_at dksX7_best_0 9 rfl rfl)
theorem dX7_best_11 : decode cX7_best 11 = .ok (.if_icmp .eq 31, 3) := dk_159 0 31 (dk_at dksX7_best_0 11 rfl rfl)
theorem dX7_best_14 : decode cX7_best 14 = .ok (.iload_n 3, 1) := dk_29 (dk_at dksX7_best_0 14 rfl rfl)
theorem dX7_best_15 : decode cX7_best 15 = .ok (.sipush 1000, 3) := dk_17 3 232 (dk_at dksX7_best_0 15 rfl rfl)
theorem dX7_best_18 : decode cX7_best 18 = .ok (.sipush 1047, 3) := dk_17 4 23 (dk_at dksX7_best_0 18 rfl rfl)
theorem dX7_best_21 : decode cX7_best 21 = .ok (.invokestatic 154, 3) := dk_184 0 154 (dk_at dksX7_best_0 21 rfl rfl)
theorem dX7_best_24 : decode cX7_best 24 = .ok (.ifCond .ne 18, 3) := dk_154 0 18 (dk_at dksX7_best_1 0 rfl rfl)
theorem dX7_best_27 : decode cX7_best 27 = .ok (.iload_n 3, 1) := dk_29 (dk_at dksX7_best_1 3 rfl rfl)
theorem dX7_best_28 : decode cX7_best 28 = .ok (.sipush 2000, 3) := dk_17 7 208 (dk_at dksX7_best_1 4 rfl rfl)
theorem dX7_best_31 : decode cX7_best 31 = .ok (.sipush 2047, 3) := dk_17 7 255 (dk_at dksX7_best_1 7 rfl rfl)
theorem dX7_best_34 : decode cX7_best 34 = .ok (.invokestatic 154, 3) := dk_184 0 154 (dk_at dksX7_best_1 10 rfl rfl)
theorem dX7_best_37 : decode cX7_best 37 = .ok (.ifCond .ne 5, 3) := dk_154 0 5 (dk_at dksX7_best_1 13 rfl rfl)
theorem dX7_best_40 : decode cX7_best 40 = .ok (.iconst (-1), 1) := dk_2 (dk_at dksX7_best_1 16 rfl rfl)
theorem dX7_best_41 : decode cX7_best 41 = .ok (.ireturn, 1) := dk_172 (dk_at dksX7_best_1 17 rfl rfl)
theorem dX7_best_42 : decode cX7_best 42 = .ok (.aload_n 0, 1) := dk_42 (dk_at dksX7_best_1 18 rfl rfl)
theorem dX7_best_43 : decode cX7_best 43 = .ok (.iload_n 1, 1) := dk_27 (dk_at dksX7_best_1 19 rfl rfl)
theorem dX7_best_44 : decode cX7_best 44 = .ok (.iload_n 2, 1) := dk_28 (dk_at dksX7_best_1 20 rfl rfl)
theorem dX7_best_45 : decode cX7_best 45 = .ok (.invokevirtual 387, 3) := dk_182 1 131 (dk_at dksX7_best_1 21 rfl rfl)
theorem dX7_best_48 : decode cX7_best 48 = .ok (.istore 4, 2) := dk_54 4 (dk_at dksX7_best_2 0 rfl rfl)
theorem dX7_best_50 : decode cX7_best 50 = .ok (.iload_n 3, 1) := dk_29 (dk_at dksX7_best_2 2 rfl rfl)
theorem dX7_best_51 : decode cX7_best 51 = .ok (.bipush 100, 2) := dk_16 100 (dk_at dksX7_best_2 3 rfl rfl)
theorem dX7_best_53 : decode cX7_best 53 = .ok (.if_icmp .ne 6, 3) := dk_160 0 6 (dk_at dksX7_best_2 5 rfl rfl)
theorem dX7_best_56 : decode cX7_best 56 = .ok (.iload 4, 2) := dk_21 4 (dk_at dksX7_best_2 8 rfl rfl)
theorem dX7_best_58 : decode cX7_best 58 = .ok (.ireturn, 1) := dk_172 (dk_at dksX7_best_2 10 rfl rfl)
theorem dX7_best_59 : decode cX7_best 59 = .ok (.iload_n 3, 1) := dk_29 (dk_at dksX7_best_2 11 rfl rfl)
theorem dX7_best_60 : decode cX7_best 60 = .ok (.sipush 1000, 3) := dk_17 3 232 (dk_at dksX7_best_2 12 rfl rfl)
theorem dX7_best_63 : decode cX7_best 63 = .ok (.irem, 1) := dk_112 (dk_at dksX7_best_2 15 rfl rfl)
theorem dX7_best_64 : decode cX7_best 64 = .ok (.istore 5, 2) := dk_54 5 (dk_at dksX7_best_2 16 rfl rfl)
theorem dX7_best_66 : decode cX7_best 66 = .ok (.iload 5, 2) := dk_21 5 (dk_at dksX7_best_2 18 rfl rfl)
theorem dX7_best_68 : decode cX7_best 68 = .ok (.iload 4, 2) := dk_21 4 (dk_at dksX7_best_2 20 rfl rfl)
theorem dX7_best_70 : decode cX7_best 70 = .ok (.if_icmp .lt 6, 3) := dk_161 0 6 (dk_at dksX7_best_3 0 rfl rfl)
theorem dX7_best_73 : decode cX7_best 73 = .ok (.bipush (-4), 2) := dk_16 252 (dk_at dksX7_best_3 3 rfl rfl)
theorem dX7_best_75 : decode cX7_best 75 = .ok (.ireturn, 1) := dk_172 (dk_at dksX7_best_3 5 rfl rfl)
theorem dX7_best_76 : decode cX7_best 76 = .ok (.iload_n 3, 1) := dk_29 (dk_at dksX7_best_3 6 rfl rfl)
theorem dX7_best_77 : decode cX7_best 77 = .ok (.sipush 2000, 3) := dk_17 7 208 (dk_at dksX7_best_3 7 rfl rfl)
theorem dX7_best_80 : decode cX7_best 80 = .ok (.if_icmp .ge 18, 3) := dk_162 0 18 (dk_at dksX7_best_3 10 rfl rfl)
theorem dX7_best_83 : decode cX7_best 83 = .ok (.aload_n 0, 1) := dk_42 (dk_at dksX7_best_3 13 rfl rfl)
theorem dX7_best_84 : decode cX7_best 84 = .ok (.getfield 126, 3) := dk_180 0 126 (dk_at dksX7_best_3 14 rfl rfl)
theorem dX7_best_87 : decode cX7_best 87 = .ok (.iload 4, 2) := dk_21 4 (dk_at dksX7_best_3 17 rfl rfl)
theorem dX7_best_89 : decode cX7_best 89 = .ok (.iconst 1, 1) := dk_4 (dk_at dksX7_best_3 19 rfl rfl)
theorem dX7_best_90 : decode cX7_best 90 = .ok (.isub, 1) := dk_100 (dk_at dksX7_best_3 20 rfl rfl)
theorem dX7_best_91 : decode cX7_best 91 = .ok (.iload 5, 2) := dk_21 5 (dk_at dksX7_best_3 21 rfl rfl)
theorem dX7_best_93 : decode cX7_best 93 = .ok (.isub, 1) := dk_100 (dk_at dksX7_best_3 23 rfl rfl)
theorem dX7_best_94 : decode cX7_best 94 = .ok (.iaload, 1) := dk_46 (dk_at dksX7_best_4 0 rfl rfl)
theorem dX7_best_95 : decode cX7_best 95 = .ok (.goto 15, 3) := dk_167 0 15 (dk_at dksX7_best_4 1 rfl rfl)
theorem dX7_best_98 : decode cX7_best 98 = .ok (.aload_n 0, 1) := dk_42 (dk_at dksX7_best_4 4 rfl rfl)
theorem dX7_best_99 : decode cX7_best 99 = .ok (.getfield 129, 3) := dk_180 0 129 (dk_at dksX7_best_4 5 rfl rfl)
theorem dX7_best_102 : decode cX7_best 102 = .ok (.iload 4, 2) := dk_21 4 (dk_at dksX7_best_4 8 rfl rfl)
theorem dX7_best_104 : decode cX7_best 104 = .ok (.iconst 1, 1) := dk_4 (dk_at dksX7_best_4 10 rfl rfl)
theorem dX7_best_105 : decode cX7_best 105 = .ok (.isub, 1) := dk_100 (dk_at dksX7_best_4 11 rfl rfl)
theorem dX7_best_106 : decode cX7_best 106 = .ok (.iload 5, 2) := dk_21 5 (dk_at dksX7_best_4 12 rfl rfl)
theorem dX7_best_108 : decode cX7_best 108 = .ok (.isub, 1) := dk_100 (dk_at dksX7_best_4 14 rfl rfl)
theorem dX7_best_109 : decode cX7_best 109 = .ok (.iaload, 1) := dk_46 (dk_at dksX7_best_4 15 rfl rfl)
theorem dX7_best_110 : decode cX7_best 110 = .ok (.ireturn, 1) := dk_172 (dk_at dksX7_best_4 16 rfl rfl)
abbrev cX7_laysBest : ByteArray := prog_21_method_73_code
def yX7_laysBest : MethodName := ⟨RX7, "laysBest", "(II)I"⟩
def dkwX7_laysBest_4 : List UInt8 := [21, 6, 46, 79, 42, 180, 0, 129, 29, 21, 7, 79, 29, 4, 96, 62, 132, 5, 255, 167, 255, 158, 29, 172]
abbrev dktX7_laysBest_4 : List UInt8 := dkwX7_laysBest_4 ++ []
def dkwX7_laysBest_3 : List UInt8 := [21, 7, 21, 4, 161, 0, 6, 167, 0, 32, 21, 7, 54, 4, 42, 180, 0, 126, 29, 42, 180, 0, 34]
abbrev dktX7_laysBest_3 : List UInt8 := dkwX7_laysBest_3 ++ dktX7_laysBest_4
def dkwX7_laysBest_2 : List UInt8 := [182, 1, 125, 154, 0, 6, 167, 0, 57, 42, 27, 28, 42, 180, 0, 34, 21, 6, 46, 182, 1, 122, 54, 7]
abbrev dktX7_laysBest_2 : List UInt8 := dkwX7_laysBest_2 ++ dktX7_laysBest_3
def dkwX7_laysBest_1 : List UInt8 := [21, 5, 46, 54, 6, 42, 180, 0, 31, 21, 6, 46, 27, 160, 0, 73, 42, 21, 6, 16, 8, 108, 27]
abbrev dktX7_laysBest_1 : List UInt8 := dkwX7_laysBest_1 ++ dktX7_laysBest_2
def dkwX7_laysBest_0 : List UInt8 := [3, 62, 19, 1, 115, 54, 4, 42, 180, 1, 48, 4, 100, 54, 5, 21, 5, 155, 0, 99, 42, 180, 0, 40]
abbrev dktX7_laysBest_0 : List UInt8 := dkwX7_laysBest_0 ++ dktX7_laysBest_1
theorem dksX7_laysBest_0 : cX7_laysBest.data.toList.drop 0 = dktX7_laysBest_0 := by decide +kernel
theorem dksX7_laysBest_1 : cX7_laysBest.data.toList.drop 24 = dktX7_laysBest_1 := dk_seg dksX7_laysBest_0 24 rfl rfl
theorem dksX7_laysBest_2 : cX7_laysBest.data.toList.drop 47 = dktX7_laysBest_2 := dk_seg dksX7_laysBest_1 23 rfl rfl
theorem dksX7_laysBest_3 : cX7_laysBest.data.toList.drop 71 = dktX7_laysBest_3 := dk_seg dksX7_laysBest_2 24 rfl rfl
theorem dksX7_laysBest_4 : cX7_laysBest.data.toList.drop 94 = dktX7_laysBest_4 := dk_seg dksX7_laysBest_3 23 rfl rfl
theorem dX7_laysBest_0 : decode cX7_laysBest 0 = .ok (.iconst 0, 1) := dk_3 (dk_at dksX7_laysBest_0 0 rfl rfl)
theorem dX7_laysBest_1 : decode cX7_laysBest 1 = .ok (.istore_n 3, 1) := dk_62 (dk_at dksX7_laysBest_0 1 rfl rfl)
theorem dX7_laysBest_2 : decode cX7_laysBest 2 = .ok (.ldc_w 371, 3) := dk_19 1 115 (dk_at dksX7_laysBest_0 2 rfl rfl)
theorem dX7_laysBest_5 : decode cX7_laysBest 5 = .ok (.istore 4, 2) := dk_54 4 (dk_at dksX7_laysBest_0 5 rfl rfl)
theorem dX7_laysBest_7 : decode cX7_laysBest 7 = .ok (.aload_n 0, 1) := dk_42 (dk_at dksX7_laysBest_0 7 rfl rfl)
theorem dX7_laysBest_8 : decode cX7_laysBest 8 = .ok (.getfield 304, 3) := dk_180 1 48 (dk_at dksX7_laysBest_0 8 rfl rfl)
theorem dX7_laysBest_11 : decode cX7_laysBest 11 = .ok (.iconst 1, 1) := dk_4 (dk_at dksX7_laysBest_0 11 rfl rfl)
theorem dX7_laysBest_12 : decode cX7_laysBest 12 = .ok (.isub, 1) := dk_100 (dk_at dksX7_laysBest_0 12 rfl rfl)
theorem dX7_laysBest_13 : decode cX7_laysBest 13 = .ok (.istore 5, 2) := dk_54 5 (dk_at dksX7_laysBest_0 13 rfl rfl)
theorem dX7_laysBest_15 : decode cX7_laysBest 15 = .ok (.iload 5, 2) := dk_21 5 (dk_at dksX7_laysBest_0 15 rfl rfl)
theorem dX7_laysBest_17 : decode cX7_laysBest 17 = .ok (.ifCond .lt 99, 3) := dk_155 0 99 (dk_at dksX7_laysBest_0 17 rfl rfl)
theorem dX7_laysBest_20 : decode cX7_laysBest 20 = .ok (.aload_n 0, 1) := dk_42 (dk_at dksX7_laysBest_0 20 rfl rfl)
theorem dX7_laysBest_21 : decode cX7_laysBest 21 = .ok (.getfield 40, 3) := dk_180 0 40 (dk_at dksX7_laysBest_0 21 rfl rfl)
theorem dX7_laysBest_24 : decode cX7_laysBest 24 = .ok (.iload 5, 2) := dk_21 5 (dk_at dksX7_laysBest_1 0 rfl rfl)
theorem dX7_laysBest_26 : decode cX7_laysBest 26 = .ok (.iaload, 1) := dk_46 (dk_at dksX7_laysBest_1 2 rfl rfl)
theorem dX7_laysBest_27 : decode cX7_laysBest 27 = .ok (.istore 6, 2) := dk_54 6 (dk_at dksX7_laysBest_1 3 rfl rfl)
theorem dX7_laysBest_29 : decode cX7_laysBest 29 = .ok (.aload_n 0, 1) := dk_42 (dk_at dksX7_laysBest_1 5 rfl rfl)
theorem dX7_laysBest_30 : decode cX7_laysBest 30 = .ok (.getfield 31, 3) := dk_180 0 31 (dk_at dksX7_laysBest_1 6 rfl rfl)
theorem dX7_laysBest_33 : decode cX7_laysBest 33 = .ok (.iload 6, 2) := dk_21 6 (dk_at dksX7_laysBest_1 9 rfl rfl)
theorem dX7_laysBest_35 : decode cX7_laysBest 35 = .ok (.iaload, 1) := dk_46 (dk_at dksX7_laysBest_1 11 rfl rfl)
theorem dX7_laysBest_36 : decode cX7_laysBest 36 = .ok (.iload_n 1, 1) := dk_27 (dk_at dksX7_laysBest_1 12 rfl rfl)
theorem dX7_laysBest_37 : decode cX7_laysBest 37 = .ok (.if_icmp .ne 73, 3) := dk_160 0 73 (dk_at dksX7_laysBest_1 13 rfl rfl)
theorem dX7_laysBest_40 : decode cX7_laysBest 40 = .ok (.aload_n 0, 1) := dk_42 (dk_at dksX7_laysBest_1 16 rfl rfl)
theorem dX7_laysBest_41 : decode cX7_laysBest 41 = .ok (.iload 6, 2) := dk_21 6 (dk_at dksX7_laysBest_1 17 rfl rfl)
theorem dX7_laysBest_43 : decode cX7_laysBest 43 = .ok (.bipush 8, 2) := dk_16 8 (dk_at dksX7_laysBest_1 19 rfl rfl)
theorem dX7_laysBest_45 : decode cX7_laysBest 45 = .ok (.idiv, 1) := dk_108 (dk_at dksX7_laysBest_1 21 rfl rfl)
theorem dX7_laysBest_46 : decode cX7_laysBest 46 = .ok (.iload_n 1, 1) := dk_27 (dk_at dksX7_laysBest_1 22 rfl rfl)
theorem dX7_laysBest_47 : decode cX7_laysBest 47 = .ok (.invokevirtual 381, 3) := dk_182 1 125 (dk_at dksX7_laysBest_2 0 rfl rfl)
theorem dX7_laysBest_50 : decode cX7_laysBest 50 = .ok (.ifCond .ne 6, 3) := dk_154 0 6 (dk_at dksX7_laysBest_2 3 rfl rfl)
theorem dX7_laysBest_53 : decode cX7_laysBest 53 = .ok (.goto 57, 3) := dk_167 0 57 (dk_at dksX7_laysBest_2 6 rfl rfl)
theorem dX7_laysBest_56 : decode cX7_laysBest 56 = .ok (.aload_n 0, 1) := dk_42 (dk_at dksX7_laysBest_2 9 rfl rfl)
theorem dX7_laysBest_57 : decode cX7_laysBest 57 = .ok (.iload_n 1, 1) := dk_27 (dk_at dksX7_laysBest_2 10 rfl rfl)
theorem dX7_laysBest_58 : decode cX7_laysBest 58 = .ok (.iload_n 2, 1) := dk_28 (dk_at dksX7_laysBest_2 11 rfl rfl)
theorem dX7_laysBest_59 : decode cX7_laysBest 59 = .ok (.aload_n 0, 1) := dk_42 (dk_at dksX7_laysBest_2 12 rfl rfl)
theorem dX7_laysBest_60 : decode cX7_laysBest 60 = .ok (.getfield 34, 3) := dk_180 0 34 (dk_at dksX7_laysBest_2 13 rfl rfl)
theorem dX7_laysBest_63 : decode cX7_laysBest 63 = .ok (.iload 6, 2) := dk_21 6 (dk_at dksX7_laysBest_2 16 rfl rfl)
theorem dX7_laysBest_65 : decode cX7_laysBest 65 = .ok (.iaload, 1) := dk_46 (dk_at dksX7_laysBest_2 18 rfl rfl)
theorem dX7_laysBest_66 : decode cX7_laysBest 66 = .ok (.invokevirtual 378, 3) := dk_182 1 122 (dk_at dksX7_laysBest_2 19 rfl rfl)
theorem dX7_laysBest_69 : decode cX7_laysBest 69 = .ok (.istore 7, 2) := dk_54 7 (dk_at dksX7_laysBest_2 22 rfl rfl)
theorem dX7_laysBest_71 : decode cX7_laysBest 71 = .ok (.iload 7, 2) := dk_21 7 (dk_at dksX7_laysBest_3 0 rfl rfl)
theorem dX7_laysBest_73 : decode cX7_laysBest 73 = .ok (.iload 4, 2) := dk_21 4 (dk_at dksX7_laysBest_3 2 rfl rfl)
theorem dX7_laysBest_75 : decode cX7_laysBest 75 = .ok (.if_icmp .lt 6, 3) := dk_161 0 6 (dk_at dksX7_laysBest_3 4 rfl rfl)
theorem dX7_laysBest_78 : decode cX7_laysBest 78 = .ok (.goto 32, 3) := dk_167 0 32 (dk_at dksX7_laysBest_3 7 rfl rfl)
theorem dX7_laysBest_81 : decode cX7_laysBest 81 = .ok (.iload 7, 2) := dk_21 7 (dk_at dksX7_laysBest_3 10 rfl rfl)
theorem dX7_laysBest_83 : decode cX7_laysBest 83 = .ok (.istore 4, 2) := dk_54 4 (dk_at dksX7_laysBest_3 12 rfl rfl)
theorem dX7_laysBest_85 : decode cX7_laysBest 85 = .ok (.aload_n 0, 1) := dk_42 (dk_at dksX7_laysBest_3 14 rfl rfl)
theorem dX7_laysBest_86 : decode cX7_laysBest 86 = .ok (.getfield 126, 3) := dk_180 0 126 (dk_at dksX7_laysBest_3 15 rfl rfl)
theorem dX7_laysBest_89 : decode cX7_laysBest 89 = .ok (.iload_n 3, 1) := dk_29 (dk_at dksX7_laysBest_3 18 rfl rfl)
theorem dX7_laysBest_90 : decode cX7_laysBest 90 = .ok (.aload_n 0, 1) := dk_42 (dk_at dksX7_laysBest_3 19 rfl rfl)
theorem dX7_laysBest_91 : decode cX7_laysBest 91 = .ok (.getfield 34, 3) := dk_180 0 34 (dk_at dksX7_laysBest_3 20 rfl rfl)
theorem dX7_laysBest_94 : decode cX7_laysBest 94 = .ok (.iload 6, 2) := dk_21 6 (dk_at dksX7_laysBest_4 0 rfl rfl)
theorem dX7_laysBest_96 : decode cX7_laysBest 96 = .ok (.iaload, 1) := dk_46 (dk_at dksX7_laysBest_4 2 rfl rfl)
theorem dX7_laysBest_97 : decode cX7_laysBest 97 = .ok (.iastore, 1) := dk_79 (dk_at dksX7_laysBest_4 3 rfl rfl)
theorem dX7_laysBest_98 : decode cX7_laysBest 98 = .ok (.aload_n 0, 1) := dk_42 (dk_at dksX7_laysBest_4 4 rfl rfl)
theorem dX7_laysBest_99 : decode cX7_laysBest 99 = .ok (.getfield 129, 3) := dk_180 0 129 (dk_at dksX7_laysBest_4 5 rfl rfl)
theorem dX7_laysBest_102 : decode cX7_laysBest 102 = .ok (.iload_n 3, 1) := dk_29 (dk_at dksX7_laysBest_4 8 rfl rfl)
theorem dX7_laysBest_103 : decode cX7_laysBest 103 = .ok (.iload 7, 2) := dk_21 7 (dk_at dksX7_laysBest_4 9 rfl rfl)
theorem dX7_laysBest_105 : decode cX7_laysBest 105 = .ok (.iastore, 1) := dk_79 (dk_at dksX7_laysBest_4 11 rfl rfl)
theorem dX7_laysBest_106 : decode cX7_laysBest 106 = .ok (.iload_n 3, 1) := dk_29 (dk_at dksX7_laysBest_4 12 rfl rfl)
theorem dX7_laysBest_107 : decode cX7_laysBest 107 = .ok (.iconst 1, 1) := dk_4 (dk_at dksX7_laysBest_4 13 rfl rfl)
theorem dX7_laysBest_108 : decode cX7_laysBest 108 = .ok (.iadd, 1) := dk_96 (dk_at dksX7_laysBest_4 14 rfl rfl)
theorem dX7_laysBest_109 : decode cX7_laysBest 109 = .ok (.istore_n 3, 1) := dk_62 (dk_at dksX7_laysBest_4 15 rfl rfl)
theorem dX7_laysBest_110 : decode cX7_laysBest 110 = .ok (.iinc 5 (-1), 3) := dk_132 5 255 (dk_at dksX7_laysBest_4 16 rfl rfl)
theorem dX7_laysBest_113 : decode cX7_laysBest 113 = .ok (.goto (-98), 3) := dk_167 255 158 (dk_at dksX7_laysBest_4 19 rfl rfl)
theorem dX7_laysBest_116 : decode cX7_laysBest 116 = .ok (.iload_n 3, 1) := dk_29 (dk_at dksX7_laysBest_4 22 rfl rfl)
theorem dX7_laysBest_117 : decode cX7_laysBest 117 = .ok (.ireturn, 1) := dk_172 (dk_at dksX7_laysBest_4 23 rfl rfl)
abbrev cX7_comeTo : ByteArray := prog_21_method_75_code
def yX7_comeTo : MethodName := ⟨RX7, "comeTo", "(II)I"⟩
def dkwX7_comeTo_2 : List UInt8 := [46, 19, 1, 115, 159, 0, 10, 29, 4, 21, 4, 120, 128, 62, 132, 4, 1, 167, 255, 226, 29, 172]
abbrev dktX7_comeTo_2 : List UInt8 := dkwX7_comeTo_2 ++ []
def dkwX7_comeTo_1 : List UInt8 := [182, 1, 122, 87, 4, 27, 120, 62, 3, 54, 4, 21, 4, 16, 10, 162, 0, 29, 42, 180, 0, 120, 21, 4]
abbrev dktX7_comeTo_1 : List UInt8 := dkwX7_comeTo_1 ++ dktX7_comeTo_2
def dkwX7_comeTo_0 : List UInt8 := [27, 184, 0, 158, 153, 0, 14, 28, 3, 17, 5, 159, 184, 0, 154, 154, 0, 5, 2, 172, 42, 27, 27, 28]
abbrev dktX7_comeTo_0 : List UInt8 := dkwX7_comeTo_0 ++ dktX7_comeTo_1
theorem dksX7_comeTo_0 : cX7_comeTo.data.toList.drop 0 = dktX7_comeTo_0 := by decide +kernel
theorem dksX7_comeTo_1 : cX7_comeTo.data.toList.drop 24 = dktX7_comeTo_1 := dk_seg dksX7_comeTo_0 24 rfl rfl
theorem dksX7_comeTo_2 : cX7_comeTo.data.toList.drop 48 = dktX7_comeTo_2 := dk_seg dksX7_comeTo_1 24 rfl rfl
theorem dX7_comeTo_0 : decode cX7_comeTo 0 = .ok (.iload_n 1, 1) := dk_27 (dk_at dksX7_comeTo_0 0 rfl rfl)
theorem dX7_comeTo_1 : decode cX7_comeTo 1 = .ok (.invokestatic 158, 3) := dk_184 0 158 (dk_at dksX7_comeTo_0 1 rfl rfl)
theorem dX7_comeTo_4 : decode cX7_comeTo 4 = .ok (.ifCond .eq 14, 3) := dk_153 0 14 (dk_at dksX7_comeTo_0 4 rfl rfl)
theorem dX7_comeTo_7 : decode cX7_comeTo 7 = .ok (.iload_n 2, 1) := dk_28 (dk_at dksX7_comeTo_0 7 rfl rfl)
theorem dX7_comeTo_8 : decode cX7_comeTo 8 = .ok (.iconst 0, 1) := dk_3 (dk_at dksX7_comeTo_0 8 rfl rfl)
theorem dX7_comeTo_9 : decode cX7_comeTo 9 = .ok (.sipush 1439, 3) := dk_17 5 159 (dk_at dksX7_comeTo_0 9 rfl rfl)
theorem dX7_comeTo_12 : decode cX7_comeTo 12 = .ok (.invokestatic 154, 3) := dk_184 0 154 (dk_at dksX7_comeTo_0 12 rfl rfl)
theorem dX7_comeTo_15 : decode cX7_comeTo 15 = .ok (.ifCond .ne 5, 3) := dk_154 0 5 (dk_at dksX7_comeTo_0 15 rfl rfl)
theorem dX7_comeTo_18 : decode cX7_comeTo 18 = .ok (.iconst (-1), 1) := dk_2 (dk_at dksX7_comeTo_0 18 rfl rfl)
theorem dX7_comeTo_19 : decode cX7_comeTo 19 = .ok (.ireturn, 1) := dk_172 (dk_at dksX7_comeTo_0 19 rfl rfl)
theorem dX7_comeTo_20 : decode cX7_comeTo 20 = .ok (.aload_n 0, 1) := dk_42 (dk_at dksX7_comeTo_0 20 rfl rfl)
theorem dX7_comeTo_21 : decode cX7_comeTo 21 = .ok (.iload_n 1, 1) := dk_27 (dk_at dksX7_comeTo_0 21 rfl rfl)
theorem dX7_comeTo_22 : decode cX7_comeTo 22 = .ok (.iload_n 1, 1) := dk_27 (dk_at dksX7_comeTo_0 22 rfl rfl)
theorem dX7_comeTo_23 : decode cX7_comeTo 23 = .ok (.iload_n 2, 1) := dk_28 (dk_at dksX7_comeTo_0 23 rfl rfl)
theorem dX7_comeTo_24 : decode cX7_comeTo 24 = .ok (.invokevirtual 378, 3) := dk_182 1 122 (dk_at dksX7_comeTo_1 0 rfl rfl)
theorem dX7_comeTo_27 : decode cX7_comeTo 27 = .ok (.pop, 1) := dk_87 (dk_at dksX7_comeTo_1 3 rfl rfl)
theorem dX7_comeTo_28 : decode cX7_comeTo 28 = .ok (.iconst 1, 1) := dk_4 (dk_at dksX7_comeTo_1 4 rfl rfl)
theorem dX7_comeTo_29 : decode cX7_comeTo 29 = .ok (.iload_n 1, 1) := dk_27 (dk_at dksX7_comeTo_1 5 rfl rfl)
theorem dX7_comeTo_30 : decode cX7_comeTo 30 = .ok (.ishl, 1) := dk_120 (dk_at dksX7_comeTo_1 6 rfl rfl)
theorem dX7_comeTo_31 : decode cX7_comeTo 31 = .ok (.istore_n 3, 1) := dk_62 (dk_at dksX7_comeTo_1 7 rfl rfl)
theorem dX7_comeTo_32 : decode cX7_comeTo 32 = .ok (.iconst 0, 1) := dk_3 (dk_at dksX7_comeTo_1 8 rfl rfl)
theorem dX7_comeTo_33 : decode cX7_comeTo 33 = .ok (.istore 4, 2) := dk_54 4 (dk_at dksX7_comeTo_1 9 rfl rfl)
theorem dX7_comeTo_35 : decode cX7_comeTo 35 = .ok (.iload 4, 2) := dk_21 4 (dk_at dksX7_comeTo_1 11 rfl rfl)
theorem dX7_comeTo_37 : decode cX7_comeTo 37 = .ok (.bipush 10, 2) := dk_16 10 (dk_at dksX7_comeTo_1 13 rfl rfl)
theorem dX7_comeTo_39 : decode cX7_comeTo 39 = .ok (.if_icmp .ge 29, 3) := dk_162 0 29 (dk_at dksX7_comeTo_1 15 rfl rfl)
theorem dX7_comeTo_42 : decode cX7_comeTo 42 = .ok (.aload_n 0, 1) := dk_42 (dk_at dksX7_comeTo_1 18 rfl rfl)
theorem dX7_comeTo_43 : decode cX7_comeTo 43 = .ok (.getfield 120, 3) := dk_180 0 120 (dk_at dksX7_comeTo_1 19 rfl rfl)
theorem dX7_comeTo_46 : decode cX7_comeTo 46 = .ok (.iload 4, 2) := dk_21 4 (dk_at dksX7_comeTo_1 22 rfl rfl)
theorem dX7_comeTo_48 : decode cX7_comeTo 48 = .ok (.iaload, 1) := dk_46 (dk_at dksX7_comeTo_2 0 rfl rfl)
theorem dX7_comeTo_49 : decode cX7_comeTo 49 = .ok (.ldc_w 371, 3) := dk_19 1 115 (dk_at dksX7_comeTo_2 1 rfl rfl)
theorem dX7_comeTo_52 : decode cX7_comeTo 52 = .ok (.if_icmp .eq 10, 3) := dk_159 0 10 (dk_at dksX7_comeTo_2 4 rfl rfl)
theorem dX7_comeTo_55 : decode cX7_comeTo 55 = .ok (.iload_n 3, 1) := dk_29 (dk_at dksX7_comeTo_2 7 rfl rfl)
theorem dX7_comeTo_56 : decode cX7_comeTo 56 = .ok (.iconst 1, 1) := dk_4 (dk_at dksX7_comeTo_2 8 rfl rfl)
theorem dX7_comeTo_57 : decode cX7_comeTo 57 = .ok (.iload 4, 2) := dk_21 4 (dk_at dksX7_comeTo_2 9 rfl rfl)
theorem dX7_comeTo_59 : decode cX7_comeTo 59 = .ok (.ishl, 1) := dk_120 (dk_at dksX7_comeTo_2 11 rfl rfl)
theorem dX7_comeTo_60 : decode cX7_comeTo 60 = .ok (.ior, 1) := dk_128 (dk_at dksX7_comeTo_2 12 rfl rfl)
theorem dX7_comeTo_61 : decode cX7_comeTo 61 = .ok (.istore_n 3, 1) := dk_62 (dk_at dksX7_comeTo_2 13 rfl rfl)
theorem dX7_comeTo_62 : decode cX7_comeTo 62 = .ok (.iinc 4 1, 3) := dk_132 4 1 (dk_at dksX7_comeTo_2 14 rfl rfl)
theorem dX7_comeTo_65 : decode cX7_comeTo 65 = .ok (.goto (-30), 3) := dk_167 255 226 (dk_at dksX7_comeTo_2 17 rfl rfl)
theorem dX7_comeTo_68 : decode cX7_comeTo 68 = .ok (.iload_n 3, 1) := dk_29 (dk_at dksX7_comeTo_2 20 rfl rfl)
theorem dX7_comeTo_69 : decode cX7_comeTo 69 = .ok (.ireturn, 1) := dk_172 (dk_at dksX7_comeTo_2 21 rfl rfl)
abbrev cX7_direct : ByteArray := prog_21_method_79_code
def yX7_direct : MethodName := ⟨RX7, "direct", "(III)I"⟩
def dkwX7_direct_3 : List UInt8 := [84, 132, 5, 1, 167, 255, 211, 29, 154, 0, 8, 21, 4, 167, 0, 7, 42, 182, 1, 140, 172]
abbrev dktX7_direct_3 : List UInt8 := dkwX7_direct_3 ++ []
def dkwX7_direct_2 : List UInt8 := [154, 0, 6, 167, 0, 22, 21, 4, 4, 96, 54, 4, 42, 180, 0, 132, 42, 21, 5, 27, 182, 1, 128, 4]
abbrev dktX7_direct_2 : List UInt8 := dkwX7_direct_2 ++ dktX7_direct_3
def dkwX7_direct_1 : List UInt8 := [54, 4, 3, 54, 5, 21, 5, 42, 180, 0, 162, 162, 0, 42, 42, 21, 5, 27, 28, 182, 1, 137]
abbrev dktX7_direct_1 : List UInt8 := dkwX7_direct_1 ++ dktX7_direct_2
def dkwX7_direct_0 : List UInt8 := [27, 28, 184, 0, 175, 153, 0, 12, 29, 3, 4, 184, 0, 154, 154, 0, 5, 2, 172, 42, 182, 1, 134, 3]
abbrev dktX7_direct_0 : List UInt8 := dkwX7_direct_0 ++ dktX7_direct_1
theorem dksX7_direct_0 : cX7_direct.data.toList.drop 0 = dktX7_direct_0 := by decide +kernel
theorem dksX7_direct_1 : cX7_direct.data.toList.drop 24 = dktX7_direct_1 := dk_seg dksX7_direct_0 24 rfl rfl
theorem dksX7_direct_2 : cX7_direct.data.toList.drop 46 = dktX7_direct_2 := dk_seg dksX7_direct_1 22 rfl rfl
theorem dksX7_direct_3 : cX7_direct.data.toList.drop 70 = dktX7_direct_3 := dk_seg dksX7_direct_2 24 rfl rfl
theorem dX7_direct_0 : decode cX7_direct 0 = .ok (.iload_n 1, 1) := dk_27 (dk_at dksX7_direct_0 0 rfl rfl)
theorem dX7_direct_1 : decode cX7_direct 1 = .ok (.iload_n 2, 1) := dk_28 (dk_at dksX7_direct_0 1 rfl rfl)
theorem dX7_direct_2 : decode cX7_direct 2 = .ok (.invokestatic 175, 3) := dk_184 0 175 (dk_at dksX7_direct_0 2 rfl rfl)
theorem dX7_direct_5 : decode cX7_direct 5 = .ok (.ifCond .eq 12, 3) := dk_153 0 12 (dk_at dksX7_direct_0 5 rfl rfl)
theorem dX7_direct_8 : decode cX7_direct 8 = .ok (.iload_n 3, 1) := dk_29 (dk_at dksX7_direct_0 8 rfl rfl)
theorem dX7_direct_9 : decode cX7_direct 9 = .ok (.iconst 0, 1) := dk_3 (dk_at dksX7_direct_0 9 rfl rfl)
theorem dX7_direct_10 : decode cX7_direct 10 = .ok (.iconst 1, 1) := dk_4 (dk_at dksX7_direct_0 10 rfl rfl)
theorem dX7_direct_11 : decode cX7_direct 11 = .ok (.invokestatic 154, 3) := dk_184 0 154 (dk_at dksX7_direct_0 11 rfl rfl)
theorem dX7_direct_14 : decode cX7_direct 14 = .ok (.ifCond .ne 5, 3) := dk_154 0 5 (dk_at dksX7_direct_0 14 rfl rfl)
theorem dX7_direct_17 : decode cX7_direct 17 = .ok (.iconst (-1), 1) := dk_2 (dk_at dksX7_direct_0 17 rfl rfl)
theorem dX7_direct_18 : decode cX7_direct 18 = .ok (.ireturn, 1) := dk_172 (dk_at dksX7_direct_0 18 rfl rfl)
theorem dX7_direct_19 : decode cX7_direct 19 = .ok (.aload_n 0, 1) := dk_42 (dk_at dksX7_direct_0 19 rfl rfl)
theorem dX7_direct_20 : decode cX7_direct 20 = .ok (.invokevirtual 390, 3) := dk_182 1 134 (dk_at dksX7_direct_0 20 rfl rfl)
theorem dX7_direct_23 : decode cX7_direct 23 = .ok (.iconst 0, 1) := dk_3 (dk_at dksX7_direct_0 23 rfl rfl)
theorem dX7_direct_24 : decode cX7_direct 24 = .ok (.istore 4, 2) := dk_54 4 (dk_at dksX7_direct_1 0 rfl rfl)
theorem dX7_direct_26 : decode cX7_direct 26 = .ok (.iconst 0, 1) := dk_3 (dk_at dksX7_direct_1 2 rfl rfl)
theorem dX7_direct_27 : decode cX7_direct 27 = .ok (.istore 5, 2) := dk_54 5 (dk_at dksX7_direct_1 3 rfl rfl)
theorem dX7_direct_29 : decode cX7_direct 29 = .ok (.iload 5, 2) := dk_21 5 (dk_at dksX7_direct_1 5 rfl rfl)
theorem dX7_direct_31 : decode cX7_direct 31 = .ok (.aload_n 0, 1) := dk_42 (dk_at dksX7_direct_1 7 rfl rfl)
theorem dX7_direct_32 : decode cX7_direct 32 = .ok (.getfield 162, 3) := dk_180 0 162 (dk_at dksX7_direct_1 8 rfl rfl)
theorem dX7_direct_35 : decode cX7_direct 35 = .ok (.if_icmp .ge 42, 3) := dk_162 0 42 (dk_at dksX7_direct_1 11 rfl rfl)
theorem dX7_direct_38 : decode cX7_direct 38 = .ok (.aload_n 0, 1) := dk_42 (dk_at dksX7_direct_1 14 rfl rfl)
theorem dX7_direct_39 : decode cX7_direct 39 = .ok (.iload 5, 2) := dk_21 5 (dk_at dksX7_direct_1 15 rfl rfl)
theorem dX7_direct_41 : decode cX7_direct 41 = .ok (.iload_n 1, 1) := dk_27 (dk_at dksX7_direct_1 17 rfl rfl)
theorem dX7_direct_42 : decode cX7_direct 42 = .ok (.iload_n 2, 1) := dk_28 (dk_at dksX7_direct_1 18 rfl rfl)
theorem dX7_direct_43 : decode cX7_direct 43 = .ok (.invokevirtual 393, 3) := dk_182 1 137 (dk_at dksX7_direct_1 19 rfl rfl)
theorem dX7_direct_46 : decode cX7_direct 46 = .ok (.ifCond .ne 6, 3) := dk_154 0 6 (dk_at dksX7_direct_2 0 rfl rfl)
theorem dX7_direct_49 : decode cX7_direct 49 = .ok (.goto 22, 3) := dk_167 0 22 (dk_at dksX7_direct_2 3 rfl rfl)
theorem dX7_direct_52 : decode cX7_direct 52 = .ok (.iload 4, 2) := dk_21 4 (dk_at dksX7_direct_2 6 rfl rfl)
theorem dX7_direct_54 : decode cX7_direct 54 = .ok (.iconst 1, 1) := dk_4 (dk_at dksX7_direct_2 8 rfl rfl)
theorem dX7_direct_55 : decode cX7_direct 55 = .ok (.iadd, 1) := dk_96 (dk_at dksX7_direct_2 9 rfl rfl)
theorem dX7_direct_56 : decode cX7_direct 56 = .ok (.istore 4, 2) := dk_54 4 (dk_at dksX7_direct_2 10 rfl rfl)
theorem dX7_direct_58 : decode cX7_direct 58 = .ok (.aload_n 0, 1) := dk_42 (dk_at dksX7_direct_2 12 rfl rfl)
theorem dX7_direct_59 : decode cX7_direct 59 = .ok (.getfield 132, 3) := dk_180 0 132 (dk_at dksX7_direct_2 13 rfl rfl)
theorem dX7_direct_62 : decode cX7_direct 62 = .ok (.aload_n 0, 1) := dk_42 (dk_at dksX7_direct_2 16 rfl rfl)
theorem dX7_direct_63 : decode cX7_direct 63 = .ok (.iload 5, 2) := dk_21 5 (dk_at dksX7_direct_2 17 rfl rfl)
theorem dX7_direct_65 : decode cX7_direct 65 = .ok (.iload_n 1, 1) := dk_27 (dk_at dksX7_direct_2 19 rfl rfl)
theorem dX7_direct_66 : decode cX7_direct 66 = .ok (.invokevirtual 384, 3) := dk_182 1 128 (dk_at dksX7_direct_2 20 rfl rfl)
theorem dX7_direct_69 : decode cX7_direct 69 = .ok (.iconst 1, 1) := dk_4 (dk_at dksX7_direct_2 23 rfl rfl)
theorem dX7_direct_70 : decode cX7_direct 70 = .ok (.bastore, 1) := dk_84 (dk_at dksX7_direct_3 0 rfl rfl)
theorem dX7_direct_71 : decode cX7_direct 71 = .ok (.iinc 5 1, 3) := dk_132 5 1 (dk_at dksX7_direct_3 1 rfl rfl)
theorem dX7_direct_74 : decode cX7_direct 74 = .ok (.goto (-45), 3) := dk_167 255 211 (dk_at dksX7_direct_3 4 rfl rfl)
theorem dX7_direct_77 : decode cX7_direct 77 = .ok (.iload_n 3, 1) := dk_29 (dk_at dksX7_direct_3 7 rfl rfl)
theorem dX7_direct_78 : decode cX7_direct 78 = .ok (.ifCond .ne 8, 3) := dk_154 0 8 (dk_at dksX7_direct_3 8 rfl rfl)
theorem dX7_direct_81 : decode cX7_direct 81 = .ok (.iload 4, 2) := dk_21 4 (dk_at dksX7_direct_3 11 rfl rfl)
theorem dX7_direct_83 : decode cX7_direct 83 = .ok (.goto 7, 3) := dk_167 0 7 (dk_at dksX7_direct_3 13 rfl rfl)
theorem dX7_direct_86 : decode cX7_direct 86 = .ok (.aload_n 0, 1) := dk_42 (dk_at dksX7_direct_3 16 rfl rfl)
theorem dX7_direct_87 : decode cX7_direct 87 = .ok (.invokevirtual 396, 3) := dk_182 1 140 (dk_at dksX7_direct_3 17 rfl rfl)
theorem dX7_direct_90 : decode cX7_direct 90 = .ok (.ireturn, 1) := dk_172 (dk_at dksX7_direct_3 20 rfl rfl)
abbrev cX7_clearsMinutes : ByteArray := prog_21_method_78_code
def yX7_clearsMinutes : MethodName := ⟨RX7, "clearsMinutes", "()V"⟩
def dkwX7_clearsMinutes_0 : List UInt8 := [3, 60, 27, 17, 5, 159, 163, 0, 16, 42, 180, 0, 132, 27, 3, 84, 132, 1, 1, 167, 255, 239, 177]
abbrev dktX7_clearsMinutes_0 : List UInt8 := dkwX7_clearsMinutes_0 ++ []
theorem dksX7_clearsMinutes_0 : cX7_clearsMinutes.data.toList.drop 0 = dktX7_clearsMinutes_0 := by decide +kernel
theorem dX7_clearsMinutes_0 : decode cX7_clearsMinutes 0 = .ok (.iconst 0, 1) := dk_3 (dk_at dksX7_clearsMinutes_0 0 rfl rfl)
theorem dX7_clearsMinutes_1 : decode cX7_clearsMinutes 1 = .ok (.istore_n 1, 1) := dk_60 (dk_at dksX7_clearsMinutes_0 1 rfl rfl)
theorem dX7_clearsMinutes_2 : decode cX7_clearsMinutes 2 = .ok (.iload_n 1, 1) := dk_27 (dk_at dksX7_clearsMinutes_0 2 rfl rfl)
theorem dX7_clearsMinutes_3 : decode cX7_clearsMinutes 3 = .ok (.sipush 1439, 3) := dk_17 5 159 (dk_at dksX7_clearsMinutes_0 3 rfl rfl)
theorem dX7_clearsMinutes_6 : decode cX7_clearsMinutes 6 = .ok (.if_icmp .gt 16, 3) := dk_163 0 16 (dk_at dksX7_clearsMinutes_0 6 rfl rfl)
theorem dX7_clearsMinutes_9 : decode cX7_clearsMinutes 9 = .ok (.aload_n 0, 1) := dk_42 (dk_at dksX7_clearsMinutes_0 9 rfl rfl)
theorem dX7_clearsMinutes_10 : decode cX7_clearsMinutes 10 = .ok (.getfield 132, 3) := dk_180 0 132 (dk_at dksX7_clearsMinutes_0 10 rfl rfl)
theorem dX7_clearsMinutes_13 : decode cX7_clearsMinutes 13 = .ok (.iload_n 1, 1) := dk_27 (dk_at dksX7_clearsMinutes_0 13 rfl rfl)
theorem dX7_clearsMinutes_14 : decode cX7_clearsMinutes 14 = .ok (.iconst 0, 1) := dk_3 (dk_at dksX7_clearsMinutes_0 14 rfl rfl)
theorem dX7_clearsMinutes_15 : decode cX7_clearsMinutes 15 = .ok (.bastore, 1) := dk_84 (dk_at dksX7_clearsMinutes_0 15 rfl rfl)
theorem dX7_clearsMinutes_16 : decode cX7_clearsMinutes 16 = .ok (.iinc 1 1, 3) := dk_132 1 1 (dk_at dksX7_clearsMinutes_0 16 rfl rfl)
theorem dX7_clearsMinutes_19 : decode cX7_clearsMinutes 19 = .ok (.goto (-17), 3) := dk_167 255 239 (dk_at dksX7_clearsMinutes_0 19 rfl rfl)
theorem dX7_clearsMinutes_22 : decode cX7_clearsMinutes 22 = .ok (.return_, 1) := dk_177 (dk_at dksX7_clearsMinutes_0 22 rfl rfl)
abbrev cX7_goesFromTo : ByteArray := prog_21_method_76_code
def yX7_goesFromTo : MethodName := ⟨RX7, "goesFromTo", "(III)Z"⟩
def dkwX7_goesFromTo_1 : List UInt8 := [42, 27, 28, 182, 0, 172, 164, 0, 7, 4, 167, 0, 4, 3, 172]
abbrev dktX7_goesFromTo_1 : List UInt8 := dkwX7_goesFromTo_1 ++ []
def dkwX7_goesFromTo_0 : List UInt8 := [42, 27, 182, 0, 169, 153, 0, 32, 42, 27, 28, 182, 0, 172, 2, 159, 0, 22, 42, 27, 29, 182, 0, 172]
abbrev dktX7_goesFromTo_0 : List UInt8 := dkwX7_goesFromTo_0 ++ dktX7_goesFromTo_1
theorem dksX7_goesFromTo_0 : cX7_goesFromTo.data.toList.drop 0 = dktX7_goesFromTo_0 := by decide +kernel
theorem dksX7_goesFromTo_1 : cX7_goesFromTo.data.toList.drop 24 = dktX7_goesFromTo_1 := dk_seg dksX7_goesFromTo_0 24 rfl rfl
theorem dX7_goesFromTo_0 : decode cX7_goesFromTo 0 = .ok (.aload_n 0, 1) := dk_42 (dk_at dksX7_goesFromTo_0 0 rfl rfl)
theorem dX7_goesFromTo_1 : decode cX7_goesFromTo 1 = .ok (.iload_n 1, 1) := dk_27 (dk_at dksX7_goesFromTo_0 1 rfl rfl)
theorem dX7_goesFromTo_2 : decode cX7_goesFromTo 2 = .ok (.invokevirtual 169, 3) := dk_182 0 169 (dk_at dksX7_goesFromTo_0 2 rfl rfl)
theorem dX7_goesFromTo_5 : decode cX7_goesFromTo 5 = .ok (.ifCond .eq 32, 3) := dk_153 0 32 (dk_at dksX7_goesFromTo_0 5 rfl rfl)
theorem dX7_goesFromTo_8 : decode cX7_goesFromTo 8 = .ok (.aload_n 0, 1) := dk_42 (dk_at dksX7_goesFromTo_0 8 rfl rfl)
theorem dX7_goesFromTo_9 : decode cX7_goesFromTo 9 = .ok (.iload_n 1, 1) := dk_27 (dk_at dksX7_goesFromTo_0 9 rfl rfl)
theorem dX7_goesFromTo_10 : decode cX7_goesFromTo 10 = .ok (.iload_n 2, 1) := dk_28 (dk_at dksX7_goesFromTo_0 10 rfl rfl)
theorem dX7_goesFromTo_11 : decode cX7_goesFromTo 11 = .ok (.invokevirtual 172, 3) := dk_182 0 172 (dk_at dksX7_goesFromTo_0 11 rfl rfl)
theorem dX7_goesFromTo_14 : decode cX7_goesFromTo 14 = .ok (.iconst (-1), 1) := dk_2 (dk_at dksX7_goesFromTo_0 14 rfl rfl)
theorem dX7_goesFromTo_15 : decode cX7_goesFromTo 15 = .ok (.if_icmp .eq 22, 3) := dk_159 0 22 (dk_at dksX7_goesFromTo_0 15 rfl rfl)
theorem dX7_goesFromTo_18 : decode cX7_goesFromTo 18 = .ok (.aload_n 0, 1) := dk_42 (dk_at dksX7_goesFromTo_0 18 rfl rfl)
theorem dX7_goesFromTo_19 : decode cX7_goesFromTo 19 = .ok (.iload_n 1, 1) := dk_27 (dk_at dksX7_goesFromTo_0 19 rfl rfl)
theorem dX7_goesFromTo_20 : decode cX7_goesFromTo 20 = .ok (.iload_n 3, 1) := dk_29 (dk_at dksX7_goesFromTo_0 20 rfl rfl)
theorem dX7_goesFromTo_21 : decode cX7_goesFromTo 21 = .ok (.invokevirtual 172, 3) := dk_182 0 172 (dk_at dksX7_goesFromTo_0 21 rfl rfl)
theorem dX7_goesFromTo_24 : decode cX7_goesFromTo 24 = .ok (.aload_n 0, 1) := dk_42 (dk_at dksX7_goesFromTo_1 0 rfl rfl)
theorem dX7_goesFromTo_25 : decode cX7_goesFromTo 25 = .ok (.iload_n 1, 1) := dk_27 (dk_at dksX7_goesFromTo_1 1 rfl rfl)
theorem dX7_goesFromTo_26 : decode cX7_goesFromTo 26 = .ok (.iload_n 2, 1) := dk_28 (dk_at dksX7_goesFromTo_1 2 rfl rfl)
theorem dX7_goesFromTo_27 : decode cX7_goesFromTo 27 = .ok (.invokevirtual 172, 3) := dk_182 0 172 (dk_at dksX7_goesFromTo_1 3 rfl rfl)
theorem dX7_goesFromTo_30 : decode cX7_goesFromTo 30 = .ok (.if_icmp .le 7, 3) := dk_164 0 7 (dk_at dksX7_goesFromTo_1 6 rfl rfl)
theorem dX7_goesFromTo_33 : decode cX7_goesFromTo 33 = .ok (.iconst 1, 1) := dk_4 (dk_at dksX7_goesFromTo_1 9 rfl rfl)
theorem dX7_goesFromTo_34 : decode cX7_goesFromTo 34 = .ok (.goto 4, 3) := dk_167 0 4 (dk_at dksX7_goesFromTo_1 10 rfl rfl)
theorem dX7_goesFromTo_37 : decode cX7_goesFromTo 37 = .ok (.iconst 0, 1) := dk_3 (dk_at dksX7_goesFromTo_1 13 rfl rfl)
theorem dX7_goesFromTo_38 : decode cX7_goesFromTo 38 = .ok (.ireturn, 1) := dk_172 (dk_at dksX7_goesFromTo_1 14 rfl rfl)
abbrev cX7_longestBetween : ByteArray := prog_21_method_77_code
def yX7_longestBetween : MethodName := ⟨RX7, "longestBetween", "()I"⟩
def dkwX7_longestBetween_2 : List UInt8 := [28, 172]
abbrev dktX7_longestBetween_2 : List UInt8 := dkwX7_longestBetween_2 ++ []
def dkwX7_longestBetween_1 : List UInt8 := [167, 0, 18, 27, 2, 159, 0, 11, 28, 29, 27, 100, 184, 1, 86, 61, 29, 60, 132, 3, 1, 167, 255, 219]
abbrev dktX7_longestBetween_1 : List UInt8 := dkwX7_longestBetween_1 ++ dktX7_longestBetween_2
def dkwX7_longestBetween_0 : List UInt8 := [2, 60, 3, 61, 3, 62, 29, 17, 5, 159, 163, 0, 36, 42, 180, 0, 132, 29, 51, 154, 0, 6]
abbrev dktX7_longestBetween_0 : List UInt8 := dkwX7_longestBetween_0 ++ dktX7_longestBetween_1
theorem dksX7_longestBetween_0 : cX7_longestBetween.data.toList.drop 0 = dktX7_longestBetween_0 := by decide +kernel
theorem dksX7_longestBetween_1 : cX7_longestBetween.data.toList.drop 22 = dktX7_longestBetween_1 := dk_seg dksX7_longestBetween_0 22 rfl rfl
theorem dksX7_longestBetween_2 : cX7_longestBetween.data.toList.drop 46 = dktX7_longestBetween_2 := dk_seg dksX7_longestBetween_1 24 rfl rfl
theorem dX7_longestBetween_0 : decode cX7_longestBetween 0 = .ok (.iconst (-1), 1) := dk_2 (dk_at dksX7_longestBetween_0 0 rfl rfl)
theorem dX7_longestBetween_1 : decode cX7_longestBetween 1 = .ok (.istore_n 1, 1) := dk_60 (dk_at dksX7_longestBetween_0 1 rfl rfl)
theorem dX7_longestBetween_2 : decode cX7_longestBetween 2 = .ok (.iconst 0, 1) := dk_3 (dk_at dksX7_longestBetween_0 2 rfl rfl)
theorem dX7_longestBetween_3 : decode cX7_longestBetween 3 = .ok (.istore_n 2, 1) := dk_61 (dk_at dksX7_longestBetween_0 3 rfl rfl)
theorem dX7_longestBetween_4 : decode cX7_longestBetween 4 = .ok (.iconst 0, 1) := dk_3 (dk_at dksX7_longestBetween_0 4 rfl rfl)
theorem dX7_longestBetween_5 : decode cX7_longestBetween 5 = .ok (.istore_n 3, 1) := dk_62 (dk_at dksX7_longestBetween_0 5 rfl rfl)
theorem dX7_longestBetween_6 : decode cX7_longestBetween 6 = .ok (.iload_n 3, 1) := dk_29 (dk_at dksX7_longestBetween_0 6 rfl rfl)
theorem dX7_longestBetween_7 : decode cX7_longestBetween 7 = .ok (.sipush 1439, 3) := dk_17 5 159 (dk_at dksX7_longestBetween_0 7 rfl rfl)
theorem dX7_longestBetween_10 : decode cX7_longestBetween 10 = .ok (.if_icmp .gt 36, 3) := dk_163 0 36 (dk_at dksX7_longestBetween_0 10 rfl rfl)
theorem dX7_longestBetween_13 : decode cX7_longestBetween 13 = .ok (.aload_n 0, 1) := dk_42 (dk_at dksX7_longestBetween_0 13 rfl rfl)
theorem dX7_longestBetween_14 : decode cX7_longestBetween 14 = .ok (.getfield 132, 3) := dk_180 0 132 (dk_at dksX7_longestBetween_0 14 rfl rfl)
theorem dX7_longestBetween_17 : decode cX7_longestBetween 17 = .ok (.iload_n 3, 1) := dk_29 (dk_at dksX7_longestBetween_0 17 rfl rfl)
theorem dX7_longestBetween_18 : decode cX7_longestBetween 18 = .ok (.baload, 1) := dk_51 (dk_at dksX7_longestBetween_0 18 rfl rfl)
theorem dX7_longestBetween_19 : decode cX7_longestBetween 19 = .ok (.ifCond .ne 6, 3) := dk_154 0 6 (dk_at dksX7_longestBetween_0 19 rfl rfl)
theorem dX7_longestBetween_22 : decode cX7_longestBetween 22 = .ok (.goto 18, 3) := dk_167 0 18 (dk_at dksX7_longestBetween_1 0 rfl rfl)
theorem dX7_longestBetween_25 : decode cX7_longestBetween 25 = .ok (.iload_n 1, 1) := dk_27 (dk_at dksX7_longestBetween_1 3 rfl rfl)
theorem dX7_longestBetween_26 : decode cX7_longestBetween 26 = .ok (.iconst (-1), 1) := dk_2 (dk_at dksX7_longestBetween_1 4 rfl rfl)
theorem dX7_longestBetween_27 : decode cX7_longestBetween 27 = .ok (.if_icmp .eq 11, 3) := dk_159 0 11 (dk_at dksX7_longestBetween_1 5 rfl rfl)
theorem dX7_longestBetween_30 : decode cX7_longestBetween 30 = .ok (.iload_n 2, 1) := dk_28 (dk_at dksX7_longestBetween_1 8 rfl rfl)
theorem dX7_longestBetween_31 : decode cX7_longestBetween 31 = .ok (.iload_n 3, 1) := dk_29 (dk_at dksX7_longestBetween_1 9 rfl rfl)
theorem dX7_longestBetween_32 : decode cX7_longestBetween 32 = .ok (.iload_n 1, 1) := dk_27 (dk_at dksX7_longestBetween_1 10 rfl rfl)
theorem dX7_longestBetween_33 : decode cX7_longestBetween 33 = .ok (.isub, 1) := dk_100 (dk_at dksX7_longestBetween_1 11 rfl rfl)
theorem dX7_longestBetween_34 : decode cX7_longestBetween 34 = .ok (.invokestatic 342, 3) := dk_184 1 86 (dk_at dksX7_longestBetween_1 12 rfl rfl)
theorem dX7_longestBetween_37 : decode cX7_longestBetween 37 = .ok (.istore_n 2, 1) := dk_61 (dk_at dksX7_longestBetween_1 15 rfl rfl)
theorem dX7_longestBetween_38 : decode cX7_longestBetween 38 = .ok (.iload_n 3, 1) := dk_29 (dk_at dksX7_longestBetween_1 16 rfl rfl)
theorem dX7_longestBetween_39 : decode cX7_longestBetween 39 = .ok (.istore_n 1, 1) := dk_60 (dk_at dksX7_longestBetween_1 17 rfl rfl)
theorem dX7_longestBetween_40 : decode cX7_longestBetween 40 = .ok (.iinc 3 1, 3) := dk_132 3 1 (dk_at dksX7_longestBetween_1 18 rfl rfl)
theorem dX7_longestBetween_43 : decode cX7_longestBetween 43 = .ok (.goto (-37), 3) := dk_167 255 219 (dk_at dksX7_longestBetween_1 21 rfl rfl)
theorem dX7_longestBetween_46 : decode cX7_longestBetween 46 = .ok (.iload_n 2, 1) := dk_28 (dk_at dksX7_longestBetween_2 0 rfl rfl)
theorem dX7_longestBetween_47 : decode cX7_longestBetween 47 = .ok (.ireturn, 1) := dk_172 (dk_at dksX7_longestBetween_2 1 rfl rfl)
abbrev cX7_longestWait : ByteArray := prog_21_method_80_code
def yX7_longestWait : MethodName := ⟨RX7, "longestWait", "(I)I"⟩
def dkwX7_longestWait_2 : List UInt8 := [167, 255, 224, 42, 182, 1, 140, 172]
abbrev dktX7_longestWait_2 : List UInt8 := dkwX7_longestWait_2 ++ []
def dkwX7_longestWait_1 : List UInt8 := [28, 27, 182, 1, 125, 153, 0, 15, 42, 180, 0, 132, 42, 28, 27, 182, 1, 128, 4, 84, 132, 2, 1]
abbrev dktX7_longestWait_1 : List UInt8 := dkwX7_longestWait_1 ++ dktX7_longestWait_2
def dkwX7_longestWait_0 : List UInt8 := [27, 184, 0, 158, 154, 0, 5, 2, 172, 42, 182, 1, 134, 3, 61, 28, 42, 180, 0, 162, 162, 0, 30, 42]
abbrev dktX7_longestWait_0 : List UInt8 := dkwX7_longestWait_0 ++ dktX7_longestWait_1
theorem dksX7_longestWait_0 : cX7_longestWait.data.toList.drop 0 = dktX7_longestWait_0 := by decide +kernel
theorem dksX7_longestWait_1 : cX7_longestWait.data.toList.drop 24 = dktX7_longestWait_1 := dk_seg dksX7_longestWait_0 24 rfl rfl
theorem dksX7_longestWait_2 : cX7_longestWait.data.toList.drop 47 = dktX7_longestWait_2 := dk_seg dksX7_longestWait_1 23 rfl rfl
theorem dX7_longestWait_0 : decode cX7_longestWait 0 = .ok (.iload_n 1, 1) := dk_27 (dk_at dksX7_longestWait_0 0 rfl rfl)
theorem dX7_longestWait_1 : decode cX7_longestWait 1 = .ok (.invokestatic 158, 3) := dk_184 0 158 (dk_at dksX7_longestWait_0 1 rfl rfl)
theorem dX7_longestWait_4 : decode cX7_longestWait 4 = .ok (.ifCond .ne 5, 3) := dk_154 0 5 (dk_at dksX7_longestWait_0 4 rfl rfl)
theorem dX7_longestWait_7 : decode cX7_longestWait 7 = .ok (.iconst (-1), 1) := dk_2 (dk_at dksX7_longestWait_0 7 rfl rfl)
theorem dX7_longestWait_8 : decode cX7_longestWait 8 = .ok (.ireturn, 1) := dk_172 (dk_at dksX7_longestWait_0 8 rfl rfl)
theorem dX7_longestWait_9 : decode cX7_longestWait 9 = .ok (.aload_n 0, 1) := dk_42 (dk_at dksX7_longestWait_0 9 rfl rfl)
theorem dX7_longestWait_10 : decode cX7_longestWait 10 = .ok (.invokevirtual 390, 3) := dk_182 1 134 (dk_at dksX7_longestWait_0 10 rfl rfl)
theorem dX7_longestWait_13 : decode cX7_longestWait 13 = .ok (.iconst 0, 1) := dk_3 (dk_at dksX7_longestWait_0 13 rfl rfl)
theorem dX7_longestWait_14 : decode cX7_longestWait 14 = .ok (.istore_n 2, 1) := dk_61 (dk_at dksX7_longestWait_0 14 rfl rfl)
theorem dX7_longestWait_15 : decode cX7_longestWait 15 = .ok (.iload_n 2, 1) := dk_28 (dk_at dksX7_longestWait_0 15 rfl rfl)
theorem dX7_longestWait_16 : decode cX7_longestWait 16 = .ok (.aload_n 0, 1) := dk_42 (dk_at dksX7_longestWait_0 16 rfl rfl)
theorem dX7_longestWait_17 : decode cX7_longestWait 17 = .ok (.getfield 162, 3) := dk_180 0 162 (dk_at dksX7_longestWait_0 17 rfl rfl)
theorem dX7_longestWait_20 : decode cX7_longestWait 20 = .ok (.if_icmp .ge 30, 3) := dk_162 0 30 (dk_at dksX7_longestWait_0 20 rfl rfl)
theorem dX7_longestWait_23 : decode cX7_longestWait 23 = .ok (.aload_n 0, 1) := dk_42 (dk_at dksX7_longestWait_0 23 rfl rfl)
theorem dX7_longestWait_24 : decode cX7_longestWait 24 = .ok (.iload_n 2, 1) := dk_28 (dk_at dksX7_longestWait_1 0 rfl rfl)
theorem dX7_longestWait_25 : decode cX7_longestWait 25 = .ok (.iload_n 1, 1) := dk_27 (dk_at dksX7_longestWait_1 1 rfl rfl)
theorem dX7_longestWait_26 : decode cX7_longestWait 26 = .ok (.invokevirtual 381, 3) := dk_182 1 125 (dk_at dksX7_longestWait_1 2 rfl rfl)
theorem dX7_longestWait_29 : decode cX7_longestWait 29 = .ok (.ifCond .eq 15, 3) := dk_153 0 15 (dk_at dksX7_longestWait_1 5 rfl rfl)
theorem dX7_longestWait_32 : decode cX7_longestWait 32 = .ok (.aload_n 0, 1) := dk_42 (dk_at dksX7_longestWait_1 8 rfl rfl)
theorem dX7_longestWait_33 : decode cX7_longestWait 33 = .ok (.getfield 132, 3) := dk_180 0 132 (dk_at dksX7_longestWait_1 9 rfl rfl)
theorem dX7_longestWait_36 : decode cX7_longestWait 36 = .ok (.aload_n 0, 1) := dk_42 (dk_at dksX7_longestWait_1 12 rfl rfl)
theorem dX7_longestWait_37 : decode cX7_longestWait 37 = .ok (.iload_n 2, 1) := dk_28 (dk_at dksX7_longestWait_1 13 rfl rfl)
theorem dX7_longestWait_38 : decode cX7_longestWait 38 = .ok (.iload_n 1, 1) := dk_27 (dk_at dksX7_longestWait_1 14 rfl rfl)
theorem dX7_longestWait_39 : decode cX7_longestWait 39 = .ok (.invokevirtual 384, 3) := dk_182 1 128 (dk_at dksX7_longestWait_1 15 rfl rfl)
theorem dX7_longestWait_42 : decode cX7_longestWait 42 = .ok (.iconst 1, 1) := dk_4 (dk_at dksX7_longestWait_1 18 rfl rfl)
theorem dX7_longestWait_43 : decode cX7_longestWait 43 = .ok (.bastore, 1) := dk_84 (dk_at dksX7_longestWait_1 19 rfl rfl)
theorem dX7_longestWait_44 : decode cX7_longestWait 44 = .ok (.iinc 2 1, 3) := dk_132 2 1 (dk_at dksX7_longestWait_1 20 rfl rfl)
theorem dX7_longestWait_47 : decode cX7_longestWait 47 = .ok (.goto (-32), 3) := dk_167 255 224 (dk_at dksX7_longestWait_2 0 rfl rfl)
theorem dX7_longestWait_50 : decode cX7_longestWait 50 = .ok (.aload_n 0, 1) := dk_42 (dk_at dksX7_longestWait_2 3 rfl rfl)
theorem dX7_longestWait_51 : decode cX7_longestWait 51 = .ok (.invokevirtual 396, 3) := dk_182 1 140 (dk_at dksX7_longestWait_2 4 rfl rfl)
theorem dX7_longestWait_54 : decode cX7_longestWait 54 = .ok (.ireturn, 1) := dk_172 (dk_at dksX7_longestWait_2 7 rfl rfl)
abbrev cX7_justMissed : ByteArray := prog_21_method_81_code
def yX7_justMissed : MethodName := ⟨RX7, "justMissed", "(II)I"⟩
def dkwX7_justMissed_5 : List UInt8 := [163, 0, 7, 29, 4, 96, 62, 132, 5, 1, 167, 255, 167, 132, 4, 1, 167, 255, 149, 29, 172]
abbrev dktX7_justMissed_5 : List UInt8 := dkwX7_justMissed_5 ++ []
def dkwX7_justMissed_4 : List UInt8 := [21, 6, 155, 0, 12, 21, 6, 42, 180, 0, 150, 161, 0, 15, 21, 6, 156, 0, 14, 21, 6, 116, 28]
abbrev dktX7_justMissed_4 : List UInt8 := dkwX7_justMissed_4 ++ dktX7_justMissed_5
def dkwX7_justMissed_3 : List UInt8 := [154, 0, 6, 167, 0, 50, 42, 21, 4, 27, 182, 1, 128, 42, 21, 5, 27, 182, 1, 128, 100, 54, 6]
abbrev dktX7_justMissed_3 : List UInt8 := dkwX7_justMissed_3 ++ dktX7_justMissed_4
def dkwX7_justMissed_2 : List UInt8 := [21, 5, 159, 0, 73, 42, 21, 4, 27, 182, 1, 125, 153, 0, 63, 42, 21, 5, 27, 182, 1, 143]
abbrev dktX7_justMissed_2 : List UInt8 := dkwX7_justMissed_2 ++ dktX7_justMissed_3
def dkwX7_justMissed_1 : List UInt8 := [21, 4, 42, 180, 0, 162, 162, 0, 104, 3, 54, 5, 21, 5, 42, 180, 0, 162, 162, 0, 86, 21, 4]
abbrev dktX7_justMissed_1 : List UInt8 := dkwX7_justMissed_1 ++ dktX7_justMissed_2
def dkwX7_justMissed_0 : List UInt8 := [27, 184, 0, 158, 153, 0, 13, 28, 3, 16, 60, 184, 0, 154, 154, 0, 5, 2, 172, 3, 62, 3, 54, 4]
abbrev dktX7_justMissed_0 : List UInt8 := dkwX7_justMissed_0 ++ dktX7_justMissed_1
theorem dksX7_justMissed_0 : cX7_justMissed.data.toList.drop 0 = dktX7_justMissed_0 := by decide +kernel
theorem dksX7_justMissed_1 : cX7_justMissed.data.toList.drop 24 = dktX7_justMissed_1 := dk_seg dksX7_justMissed_0 24 rfl rfl
theorem dksX7_justMissed_2 : cX7_justMissed.data.toList.drop 47 = dktX7_justMissed_2 := dk_seg dksX7_justMissed_1 23 rfl rfl
theorem dksX7_justMissed_3 : cX7_justMissed.data.toList.drop 69 = dktX7_justMissed_3 := dk_seg dksX7_justMissed_2 22 rfl rfl
theorem dksX7_justMissed_4 : cX7_justMissed.data.toList.drop 92 = dktX7_justMissed_4 := dk_seg dksX7_justMissed_3 23 rfl rfl
theorem dksX7_justMissed_5 : cX7_justMissed.data.toList.drop 115 = dktX7_justMissed_5 := dk_seg dksX7_justMissed_4 23 rfl rfl
theorem dX7_justMissed_0 : decode cX7_justMissed 0 = .ok (.iload_n 1, 1) := dk_27 (dk_at dksX7_justMissed_0 0 rfl rfl)
theorem dX7_justMissed_1 : decode cX7_justMissed 1 = .ok (.invokestatic 158, 3) := dk_184 0 158 (dk_at dksX7_justMissed_0 1 rfl rfl)
theorem dX7_justMissed_4 : decode cX7_justMissed 4 = .ok (.ifCond .eq 13, 3) := dk_153 0 13 (dk_at dksX7_justMissed_0 4 rfl rfl)
theorem dX7_justMissed_7 : decode cX7_justMissed 7 = .ok (.iload_n 2, 1) := dk_28 (dk_at dksX7_justMissed_0 7 rfl rfl)
theorem dX7_justMissed_8 : decode cX7_justMissed 8 = .ok (.iconst 0, 1) := dk_3 (dk_at dksX7_justMissed_0 8 rfl rfl)
theorem dX7_justMissed_9 : decode cX7_justMissed 9 = .ok (.bipush 60, 2) := dk_16 60 (dk_at dksX7_justMissed_0 9 rfl rfl)
theorem dX7_justMissed_11 : decode cX7_justMissed 11 = .ok (.invokestatic 154, 3) := dk_184 0 154 (dk_at dksX7_justMissed_0 11 rfl rfl)
theorem dX7_justMissed_14 : decode cX7_justMissed 14 = .ok (.ifCond .ne 5, 3) := dk_154 0 5 (dk_at dksX7_justMissed_0 14 rfl rfl)
theorem dX7_justMissed_17 : decode cX7_justMissed 17 = .ok (.iconst (-1), 1) := dk_2 (dk_at dksX7_justMissed_0 17 rfl rfl)
theorem dX7_justMissed_18 : decode cX7_justMissed 18 = .ok (.ireturn, 1) := dk_172 (dk_at dksX7_justMissed_0 18 rfl rfl)
theorem dX7_justMissed_19 : decode cX7_justMissed 19 = .ok (.iconst 0, 1) := dk_3 (dk_at dksX7_justMissed_0 19 rfl rfl)
theorem dX7_justMissed_20 : decode cX7_justMissed 20 = .ok (.istore_n 3, 1) := dk_62 (dk_at dksX7_justMissed_0 20 rfl rfl)
theorem dX7_justMissed_21 : decode cX7_justMissed 21 = .ok (.iconst 0, 1) := dk_3 (dk_at dksX7_justMissed_0 21 rfl rfl)
theorem dX7_justMissed_22 : decode cX7_justMissed 22 = .ok (.istore 4, 2) := dk_54 4 (dk_at dksX7_justMissed_0 22 rfl rfl)
theorem dX7_justMissed_24 : decode cX7_justMissed 24 = .ok (.iload 4, 2) := dk_21 4 (dk_at dksX7_justMissed_1 0 rfl rfl)
theorem dX7_justMissed_26 : decode cX7_justMissed 26 = .ok (.aload_n 0, 1) := dk_42 (dk_at dksX7_justMissed_1 2 rfl rfl)
theorem dX7_justMissed_27 : decode cX7_justMissed 27 = .ok (.getfield 162, 3) := dk_180 0 162 (dk_at dksX7_justMissed_1 3 rfl rfl)
theorem dX7_justMissed_30 : decode cX7_justMissed 30 = .ok (.if_icmp .ge 104, 3) := dk_162 0 104 (dk_at dksX7_justMissed_1 6 rfl rfl)
theorem dX7_justMissed_33 : decode cX7_justMissed 33 = .ok (.iconst 0, 1) := dk_3 (dk_at dksX7_justMissed_1 9 rfl rfl)
theorem dX7_justMissed_34 : decode cX7_justMissed 34 = .ok (.istore 5, 2) := dk_54 5 (dk_at dksX7_justMissed_1 10 rfl rfl)
theorem dX7_justMissed_36 : decode cX7_justMissed 36 = .ok (.iload 5, 2) := dk_21 5 (dk_at dksX7_justMissed_1 12 rfl rfl)
theorem dX7_justMissed_38 : decode cX7_justMissed 38 = .ok (.aload_n 0, 1) := dk_42 (dk_at dksX7_justMissed_1 14 rfl rfl)
theorem dX7_justMissed_39 : decode cX7_justMissed 39 = .ok (.getfield 162, 3) := dk_180 0 162 (dk_at dksX7_justMissed_1 15 rfl rfl)
theorem dX7_justMissed_42 : decode cX7_justMissed 42 = .ok (.if_icmp .ge 86, 3) := dk_162 0 86 (dk_at dksX7_justMissed_1 18 rfl rfl)
theorem dX7_justMissed_45 : decode cX7_justMissed 45 = .ok (.iload 4, 2) := dk_21 4 (dk_at dksX7_justMissed_1 21 rfl rfl)
theorem dX7_justMissed_47 : decode cX7_justMissed 47 = .ok (.iload 5, 2) := dk_21 5 (dk_at dksX7_justMissed_2 0 rfl rfl)
theorem dX7_justMissed_49 : decode cX7_justMissed 49 = .ok (.if_icmp .eq 73, 3) := dk_159 0 73 (dk_at dksX7_justMissed_2 2 rfl rfl)
theorem dX7_justMissed_52 : decode cX7_justMissed 52 = .ok (.aload_n 0, 1) := dk_42 (dk_at dksX7_justMissed_2 5 rfl rfl)
theorem dX7_justMissed_53 : decode cX7_justMissed 53 = .ok (.iload 4, 2) := dk_21 4 (dk_at dksX7_justMissed_2 6 rfl rfl)
theorem dX7_justMissed_55 : decode cX7_justMissed 55 = .ok (.iload_n 1, 1) := dk_27 (dk_at dksX7_justMissed_2 8 rfl rfl)
theorem dX7_justMissed_56 : decode cX7_justMissed 56 = .ok (.invokevirtual 381, 3) := dk_182 1 125 (dk_at dksX7_justMissed_2 9 rfl rfl)
theorem dX7_justMissed_59 : decode cX7_justMissed 59 = .ok (.ifCond .eq 63, 3) := dk_153 0 63 (dk_at dksX7_justMissed_2 12 rfl rfl)
theorem dX7_justMissed_62 : decode cX7_justMissed 62 = .ok (.aload_n 0, 1) := dk_42 (dk_at dksX7_justMissed_2 15 rfl rfl)
theorem dX7_justMissed_63 : decode cX7_justMissed 63 = .ok (.iload 5, 2) := dk_21 5 (dk_at dksX7_justMissed_2 16 rfl rfl)
theorem dX7_justMissed_65 : decode cX7_justMissed 65 = .ok (.iload_n 1, 1) := dk_27 (dk_at dksX7_justMissed_2 18 rfl rfl)
theorem dX7_justMissed_66 : decode cX7_justMissed 66 = .ok (.invokevirtual 399, 3) := dk_182 1 143 (dk_at dksX7_justMissed_2 19 rfl rfl)
theorem dX7_justMissed_69 : decode cX7_justMissed 69 = .ok (.ifCond .ne 6, 3) := dk_154 0 6 (dk_at dksX7_justMissed_3 0 rfl rfl)
theorem dX7_justMissed_72 : decode cX7_justMissed 72 = .ok (.goto 50, 3) := dk_167 0 50 (dk_at dksX7_justMissed_3 3 rfl rfl)
theorem dX7_justMissed_75 : decode cX7_justMissed 75 = .ok (.aload_n 0, 1) := dk_42 (dk_at dksX7_justMissed_3 6 rfl rfl)
theorem dX7_justMissed_76 : decode cX7_justMissed 76 = .ok (.iload 4, 2) := dk_21 4 (dk_at dksX7_justMissed_3 7 rfl rfl)
theorem dX7_justMissed_78 : decode cX7_justMissed 78 = .ok (.iload_n 1, 1) := dk_27 (dk_at dksX7_justMissed_3 9 rfl rfl)
theorem dX7_justMissed_79 : decode cX7_justMissed 79 = .ok (.invokevirtual 384, 3) := dk_182 1 128 (dk_at dksX7_justMissed_3 10 rfl rfl)
theorem dX7_justMissed_82 : decode cX7_justMissed 82 = .ok (.aload_n 0, 1) := dk_42 (dk_at dksX7_justMissed_3 13 rfl rfl)
theorem dX7_justMissed_83 : decode cX7_justMissed 83 = .ok (.iload 5, 2) := dk_21 5 (dk_at dksX7_justMissed_3 14 rfl rfl)
theorem dX7_justMissed_85 : decode cX7_justMissed 85 = .ok (.iload_n 1, 1) := dk_27 (dk_at dksX7_justMissed_3 16 rfl rfl)
theorem dX7_justMissed_86 : decode cX7_justMissed 86 = .ok (.invokevirtual 384, 3) := dk_182 1 128 (dk_at dksX7_justMissed_3 17 rfl rfl)
theorem dX7_justMissed_89 : decode cX7_justMissed 89 = .ok (.isub, 1) := dk_100 (dk_at dksX7_justMissed_3 20 rfl rfl)
theorem dX7_justMissed_90 : decode cX7_justMissed 90 = .ok (.istore 6, 2) := dk_54 6 (dk_at dksX7_justMissed_3 21 rfl rfl)
theorem dX7_justMissed_92 : decode cX7_justMissed 92 = .ok (.iload 6, 2) := dk_21 6 (dk_at dksX7_justMissed_4 0 rfl rfl)
theorem dX7_justMissed_94 : decode cX7_justMissed 94 = .ok (.ifCond .lt 12, 3) := dk_155 0 12 (dk_at dksX7_justMissed_4 2 rfl rfl)
theorem dX7_justMissed_97 : decode cX7_justMissed 97 = .ok (.iload 6, 2) := dk_21 6 (dk_at dksX7_justMissed_4 5 rfl rfl)
theorem dX7_justMissed_99 : decode cX7_justMissed 99 = .ok (.aload_n 0, 1) := dk_42 (dk_at dksX7_justMissed_4 7 rfl rfl)
theorem dX7_justMissed_100 : decode cX7_justMissed 100 = .ok (.getfield 150, 3) := dk_180 0 150 (dk_at dksX7_justMissed_4 8 rfl rfl)
theorem dX7_justMissed_103 : decode cX7_justMissed 103 = .ok (.if_icmp .lt 15, 3) := dk_161 0 15 (dk_at dksX7_justMissed_4 11 rfl rfl)
theorem dX7_justMissed_106 : decode cX7_justMissed 106 = .ok (.iload 6, 2) := dk_21 6 (dk_at dksX7_justMissed_4 14 rfl rfl)
theorem dX7_justMissed_108 : decode cX7_justMissed 108 = .ok (.ifCond .ge 14, 3) := dk_156 0 14 (dk_at dksX7_justMissed_4 16 rfl rfl)
theorem dX7_justMissed_111 : decode cX7_justMissed 111 = .ok (.iload 6, 2) := dk_21 6 (dk_at dksX7_justMissed_4 19 rfl rfl)
theorem dX7_justMissed_113 : decode cX7_justMissed 113 = .ok (.ineg, 1) := dk_116 (dk_at dksX7_justMissed_4 21 rfl rfl)
theorem dX7_justMissed_114 : decode cX7_justMissed 114 = .ok (.iload_n 2, 1) := dk_28 (dk_at dksX7_justMissed_4 22 rfl rfl)
theorem dX7_justMissed_115 : decode cX7_justMissed 115 = .ok (.if_icmp .gt 7, 3) := dk_163 0 7 (dk_at dksX7_justMissed_5 0 rfl rfl)
theorem dX7_justMissed_118 : decode cX7_justMissed 118 = .ok (.iload_n 3, 1) := dk_29 (dk_at dksX7_justMissed_5 3 rfl rfl)
theorem dX7_justMissed_119 : decode cX7_justMissed 119 = .ok (.iconst 1, 1) := dk_4 (dk_at dksX7_justMissed_5 4 rfl rfl)
theorem dX7_justMissed_120 : decode cX7_justMissed 120 = .ok (.iadd, 1) := dk_96 (dk_at dksX7_justMissed_5 5 rfl rfl)
theorem dX7_justMissed_121 : decode cX7_justMissed 121 = .ok (.istore_n 3, 1) := dk_62 (dk_at dksX7_justMissed_5 6 rfl rfl)
theorem dX7_justMissed_122 : decode cX7_justMissed 122 = .ok (.iinc 5 1, 3) := dk_132 5 1 (dk_at dksX7_justMissed_5 7 rfl rfl)
theorem dX7_justMissed_125 : decode cX7_justMissed 125 = .ok (.goto (-89), 3) := dk_167 255 167 (dk_at dksX7_justMissed_5 10 rfl rfl)
theorem dX7_justMissed_128 : decode cX7_justMissed 128 = .ok (.iinc 4 1, 3) := dk_132 4 1 (dk_at dksX7_justMissed_5 13 rfl rfl)
theorem dX7_justMissed_131 : decode cX7_justMissed 131 = .ok (.goto (-107), 3) := dk_167 255 149 (dk_at dksX7_justMissed_5 16 rfl rfl)
theorem dX7_justMissed_134 : decode cX7_justMissed 134 = .ok (.iload_n 3, 1) := dk_29 (dk_at dksX7_justMissed_5 19 rfl rfl)
theorem dX7_justMissed_135 : decode cX7_justMissed 135 = .ok (.ireturn, 1) := dk_172 (dk_at dksX7_justMissed_5 20 rfl rfl)
abbrev cX7_comesTo : ByteArray := prog_21_method_14_code
def yX7_comesTo : MethodName := ⟨RX7, "comesTo", "(II)Z"⟩
def dkwX7_comesTo_0 : List UInt8 := [42, 27, 182, 0, 169, 153, 0, 16, 42, 27, 28, 182, 0, 172, 158, 0, 7, 4, 167, 0, 4, 3, 172]
abbrev dktX7_comesTo_0 : List UInt8 := dkwX7_comesTo_0 ++ []
theorem dksX7_comesTo_0 : cX7_comesTo.data.toList.drop 0 = dktX7_comesTo_0 := by decide +kernel
theorem dX7_comesTo_0 : decode cX7_comesTo 0 = .ok (.aload_n 0, 1) := dk_42 (dk_at dksX7_comesTo_0 0 rfl rfl)
theorem dX7_comesTo_1 : decode cX7_comesTo 1 = .ok (.iload_n 1, 1) := dk_27 (dk_at dksX7_comesTo_0 1 rfl rfl)
theorem dX7_comesTo_2 : decode cX7_comesTo 2 = .ok (.invokevirtual 169, 3) := dk_182 0 169 (dk_at dksX7_comesTo_0 2 rfl rfl)
theorem dX7_comesTo_5 : decode cX7_comesTo 5 = .ok (.ifCond .eq 16, 3) := dk_153 0 16 (dk_at dksX7_comesTo_0 5 rfl rfl)
theorem dX7_comesTo_8 : decode cX7_comesTo 8 = .ok (.aload_n 0, 1) := dk_42 (dk_at dksX7_comesTo_0 8 rfl rfl)
theorem dX7_comesTo_9 : decode cX7_comesTo 9 = .ok (.iload_n 1, 1) := dk_27 (dk_at dksX7_comesTo_0 9 rfl rfl)
theorem dX7_comesTo_10 : decode cX7_comesTo 10 = .ok (.iload_n 2, 1) := dk_28 (dk_at dksX7_comesTo_0 10 rfl rfl)
theorem dX7_comesTo_11 : decode cX7_comesTo 11 = .ok (.invokevirtual 172, 3) := dk_182 0 172 (dk_at dksX7_comesTo_0 11 rfl rfl)
theorem dX7_comesTo_14 : decode cX7_comesTo 14 = .ok (.ifCond .le 7, 3) := dk_158 0 7 (dk_at dksX7_comesTo_0 14 rfl rfl)
theorem dX7_comesTo_17 : decode cX7_comesTo 17 = .ok (.iconst 1, 1) := dk_4 (dk_at dksX7_comesTo_0 17 rfl rfl)
theorem dX7_comesTo_18 : decode cX7_comesTo 18 = .ok (.goto 4, 3) := dk_167 0 4 (dk_at dksX7_comesTo_0 18 rfl rfl)
theorem dX7_comesTo_21 : decode cX7_comesTo 21 = .ok (.iconst 0, 1) := dk_3 (dk_at dksX7_comesTo_0 21 rfl rfl)
theorem dX7_comesTo_22 : decode cX7_comesTo 22 = .ok (.ireturn, 1) := dk_172 (dk_at dksX7_comesTo_0 22 rfl rfl)
abbrev cX7_platforms : ByteArray := prog_21_method_82_code
def yX7_platforms : MethodName := ⟨RX7, "platforms", "(II)I"⟩
def dkwX7_platforms_6 : List UInt8 := [172]
abbrev dktX7_platforms_6 : List UInt8 := dkwX7_platforms_6 ++ []
def dkwX7_platforms_5 : List UInt8 := [4, 96, 54, 5, 132, 6, 1, 167, 255, 195, 29, 21, 5, 184, 1, 86, 62, 132, 4, 1, 167, 255, 144, 29]
abbrev dktX7_platforms_5 : List UInt8 := dkwX7_platforms_5 ++ dktX7_platforms_6
def dkwX7_platforms_4 : List UInt8 := [21, 4, 27, 182, 1, 128, 42, 21, 6, 27, 182, 1, 128, 100, 3, 28, 184, 0, 154, 153, 0, 9, 21, 5]
abbrev dktX7_platforms_4 : List UInt8 := dkwX7_platforms_4 ++ dktX7_platforms_5
def dkwX7_platforms_3 : List UInt8 := [162, 0, 58, 42, 21, 6, 182, 0, 169, 153, 0, 43, 42, 21, 6, 27, 182, 0, 172, 2, 159, 0, 32, 42]
abbrev dktX7_platforms_3 : List UInt8 := dkwX7_platforms_3 ++ dktX7_platforms_4
def dkwX7_platforms_2 : List UInt8 := [182, 0, 172, 2, 160, 0, 6, 167, 0, 80, 3, 54, 5, 3, 54, 6, 21, 6, 42, 180, 0, 162]
abbrev dktX7_platforms_2 : List UInt8 := dkwX7_platforms_2 ++ dktX7_platforms_3
def dkwX7_platforms_1 : List UInt8 := [21, 4, 42, 180, 0, 162, 162, 0, 109, 42, 21, 4, 182, 0, 169, 153, 0, 94, 42, 21, 4, 27]
abbrev dktX7_platforms_1 : List UInt8 := dkwX7_platforms_1 ++ dktX7_platforms_2
def dkwX7_platforms_0 : List UInt8 := [27, 184, 0, 158, 153, 0, 13, 28, 3, 16, 60, 184, 0, 154, 154, 0, 5, 2, 172, 3, 62, 3, 54, 4]
abbrev dktX7_platforms_0 : List UInt8 := dkwX7_platforms_0 ++ dktX7_platforms_1
theorem dksX7_platforms_0 : cX7_platforms.data.toList.drop 0 = dktX7_platforms_0 := by decide +kernel
theorem dksX7_platforms_1 : cX7_platforms.data.toList.drop 24 = dktX7_platforms_1 := dk_seg dksX7_platforms_0 24 rfl rfl
theorem dksX7_platforms_2 : cX7_platforms.data.toList.drop 46 = dktX7_platforms_2 := dk_seg dksX7_platforms_1 22 rfl rfl
theorem dksX7_platforms_3 : cX7_platforms.data.toList.drop 68 = dktX7_platforms_3 := dk_seg dksX7_platforms_2 22 rfl rfl
theorem dksX7_platforms_4 : cX7_platforms.data.toList.drop 92 = dktX7_platforms_4 := dk_seg dksX7_platforms_3 24 rfl rfl
theorem dksX7_platforms_5 : cX7_platforms.data.toList.drop 116 = dktX7_platforms_5 := dk_seg dksX7_platforms_4 24 rfl rfl
theorem dksX7_platforms_6 : cX7_platforms.data.toList.drop 140 = dktX7_platforms_6 := dk_seg dksX7_platforms_5 24 rfl rfl
theorem dX7_platforms_0 : decode cX7_platforms 0 = .ok (.iload_n 1, 1) := dk_27 (dk_at dksX7_platforms_0 0 rfl rfl)
theorem dX7_platforms_1 : decode cX7_platforms 1 = .ok (.invokestatic 158, 3) := dk_184 0 158 (dk_at dksX7_platforms_0 1 rfl rfl)
theorem dX7_platforms_4 : decode cX7_platforms 4 = .ok (.ifCond .eq 13, 3) := dk_153 0 13 (dk_at dksX7_platforms_0 4 rfl rfl)
theorem dX7_platforms_7 : decode cX7_platforms 7 = .ok (.iload_n 2, 1) := dk_28 (dk_at dksX7_platforms_0 7 rfl rfl)
theorem dX7_platforms_8 : decode cX7_platforms 8 = .ok (.iconst 0, 1) := dk_3 (dk_at dksX7_platforms_0 8 rfl rfl)
theorem dX7_platforms_9 : decode cX7_platforms 9 = .ok (.bipush 60, 2) := dk_16 60 (dk_at dksX7_platforms_0 9 rfl rfl)
theorem dX7_platforms_11 : decode cX7_platforms 11 = .ok (.invokestatic 154, 3) := dk_184 0 154 (dk_at dksX7_platforms_0 11 rfl rfl)
theorem dX7_platforms_14 : decode cX7_platforms 14 = .ok (.ifCond .ne 5, 3) := dk_154 0 5 (dk_at dksX7_platforms_0 14 rfl rfl)
theorem dX7_platforms_17 : decode cX7_platforms 17 = .ok (.iconst (-1), 1) := dk_2 (dk_at dksX7_platforms_0 17 rfl rfl)
theorem dX7_platforms_18 : decode cX7_platforms 18 = .ok (.ireturn, 1) := dk_172 (dk_at dksX7_platforms_0 18 rfl rfl)
theorem dX7_platforms_19 : decode cX7_platforms 19 = .ok (.iconst 0, 1) := dk_3 (dk_at dksX7_platforms_0 19 rfl rfl)
theorem dX7_platforms_20 : decode cX7_platforms 20 = .ok (.istore_n 3, 1) := dk_62 (dk_at dksX7_platforms_0 20 rfl rfl)
theorem dX7_platforms_21 : decode cX7_platforms 21 = .ok (.iconst 0, 1) := dk_3 (dk_at dksX7_platforms_0 21 rfl rfl)
theorem dX7_platforms_22 : decode cX7_platforms 22 = .ok (.istore 4, 2) := dk_54 4 (dk_at dksX7_platforms_0 22 rfl rfl)
theorem dX7_platforms_24 : decode cX7_platforms 24 = .ok (.iload 4, 2) := dk_21 4 (dk_at dksX7_platforms_1 0 rfl rfl)
theorem dX7_platforms_26 : decode cX7_platforms 26 = .ok (.aload_n 0, 1) := dk_42 (dk_at dksX7_platforms_1 2 rfl rfl)
theorem dX7_platforms_27 : decode cX7_platforms 27 = .ok (.getfield 162, 3) := dk_180 0 162 (dk_at dksX7_platforms_1 3 rfl rfl)
theorem dX7_platforms_30 : decode cX7_platforms 30 = .ok (.if_icmp .ge 109, 3) := dk_162 0 109 (dk_at dksX7_platforms_1 6 rfl rfl)
theorem dX7_platforms_33 : decode cX7_platforms 33 = .ok (.aload_n 0, 1) := dk_42 (dk_at dksX7_platforms_1 9 rfl rfl)
theorem dX7_platforms_34 : decode cX7_platforms 34 = .ok (.iload 4, 2) := dk_21 4 (dk_at dksX7_platforms_1 10 rfl rfl)
theorem dX7_platforms_36 : decode cX7_platforms 36 = .ok (.invokevirtual 169, 3) := dk_182 0 169 (dk_at dksX7_platforms_1 12 rfl rfl)
theorem dX7_platforms_39 : decode cX7_platforms 39 = .ok (.ifCond .eq 94, 3) := dk_153 0 94 (dk_at dksX7_platforms_1 15 rfl rfl)
theorem dX7_platforms_42 : decode cX7_platforms 42 = .ok (.aload_n 0, 1) := dk_42 (dk_at dksX7_platforms_1 18 rfl rfl)
theorem dX7_platforms_43 : decode cX7_platforms 43 = .ok (.iload 4, 2) := dk_21 4 (dk_at dksX7_platforms_1 19 rfl rfl)
theorem dX7_platforms_45 : decode cX7_platforms 45 = .ok (.iload_n 1, 1) := dk_27 (dk_at dksX7_platforms_1 21 rfl rfl)
theorem dX7_platforms_46 : decode cX7_platforms 46 = .ok (.invokevirtual 172, 3) := dk_182 0 172 (dk_at dksX7_platforms_2 0 rfl rfl)
theorem dX7_platforms_49 : decode cX7_platforms 49 = .ok (.iconst (-1), 1) := dk_2 (dk_at dksX7_platforms_2 3 rfl rfl)
theorem dX7_platforms_50 : decode cX7_platforms 50 = .ok (.if_icmp .ne 6, 3) := dk_160 0 6 (dk_at dksX7_platforms_2 4 rfl rfl)
theorem dX7_platforms_53 : decode cX7_platforms 53 = .ok (.goto 80, 3) := dk_167 0 80 (dk_at dksX7_platforms_2 7 rfl rfl)
theorem dX7_platforms_56 : decode cX7_platforms 56 = .ok (.iconst 0, 1) := dk_3 (dk_at dksX7_platforms_2 10 rfl rfl)
theorem dX7_platforms_57 : decode cX7_platforms 57 = .ok (.istore 5, 2) := dk_54 5 (dk_at dksX7_platforms_2 11 rfl rfl)
theorem dX7_platforms_59 : decode cX7_platforms 59 = .ok (.iconst 0, 1) := dk_3 (dk_at dksX7_platforms_2 13 rfl rfl)
theorem dX7_platforms_60 : decode cX7_platforms 60 = .ok (.istore 6, 2) := dk_54 6 (dk_at dksX7_platforms_2 14 rfl rfl)
theorem dX7_platforms_62 : decode cX7_platforms 62 = .ok (.iload 6, 2) := dk_21 6 (dk_at dksX7_platforms_2 16 rfl rfl)
theorem dX7_platforms_64 : decode cX7_platforms 64 = .ok (.aload_n 0, 1) := dk_42 (dk_at dksX7_platforms_2 18 rfl rfl)
theorem dX7_platforms_65 : decode cX7_platforms 65 = .ok (.getfield 162, 3) := dk_180 0 162 (dk_at dksX7_platforms_2 19 rfl rfl)
theorem dX7_platforms_68 : decode cX7_platforms 68 = .ok (.if_icmp .ge 58, 3) := dk_162 0 58 (dk_at dksX7_platforms_3 0 rfl rfl)
theorem dX7_platforms_71 : decode cX7_platforms 71 = .ok (.aload_n 0, 1) := dk_42 (dk_at dksX7_platforms_3 3 rfl rfl)
theorem dX7_platforms_72 : decode cX7_platforms 72 = .ok (.iload 6, 2) := dk_21 6 (dk_at dksX7_platforms_3 4 rfl rfl)
theorem dX7_platforms_74 : decode cX7_platforms 74 = .ok (.invokevirtual 169, 3) := dk_182 0 169 (dk_at dksX7_platforms_3 6 rfl rfl)
theorem dX7_platforms_77 : decode cX7_platforms 77 = .ok (.ifCond .eq 43, 3) := dk_153 0 43 (dk_at dksX7_platforms_3 9 rfl rfl)
theorem dX7_platforms_80 : decode cX7_platforms 80 = .ok (.aload_n 0, 1) := dk_42 (dk_at dksX7_platforms_3 12 rfl rfl)
theorem dX7_platforms_81 : decode cX7_platforms 81 = .ok (.iload 6, 2) := dk_21 6 (dk_at dksX7_platforms_3 13 rfl rfl)
theorem dX7_platforms_83 : decode cX7_platforms 83 = .ok (.iload_n 1, 1) := dk_27 (dk_at dksX7_platforms_3 15 rfl rfl)
theorem dX7_platforms_84 : decode cX7_platforms 84 = .ok (.invokevirtual 172, 3) := dk_182 0 172 (dk_at dksX7_platforms_3 16 rfl rfl)
theorem dX7_platforms_87 : decode cX7_platforms 87 = .ok (.iconst (-1), 1) := dk_2 (dk_at dksX7_platforms_3 19 rfl rfl)
theorem dX7_platforms_88 : decode cX7_platforms 88 = .ok (.if_icmp .eq 32, 3) := dk_159 0 32 (dk_at dksX7_platforms_3 20 rfl rfl)
theorem dX7_platforms_91 : decode cX7_platforms 91 = .ok (.aload_n 0, 1) := dk_42 (dk_at dksX7_platforms_3 23 rfl rfl)
theorem dX7_platforms_92 : decode cX7_platforms 92 = .ok (.iload 4, 2) := dk_21 4 (dk_at dksX7_platforms_4 0 rfl rfl)
theorem dX7_platforms_94 : decode cX7_platforms 94 = .ok (.iload_n 1, 1) := dk_27 (dk_at dksX7_platforms_4 2 rfl rfl)
theorem dX7_platforms_95 : decode cX7_platforms 95 = .ok (.invokevirtual 384, 3) := dk_182 1 128 (dk_at dksX7_platforms_4 3 rfl rfl)
theorem dX7_platforms_98 : decode cX7_platforms 98 = .ok (.aload_n 0, 1) := dk_42 (dk_at dksX7_platforms_4 6 rfl rfl)
theorem dX7_platforms_99 : decode cX7_platforms 99 = .ok (.iload 6, 2) := dk_21 6 (dk_at dksX7_platforms_4 7 rfl rfl)
theorem dX7_platforms_101 : decode cX7_platforms 101 = .ok (.iload_n 1, 1) := dk_27 (dk_at dksX7_platforms_4 9 rfl rfl)
theorem dX7_platforms_102 : decode cX7_platforms 102 = .ok (.invokevirtual 384, 3) := dk_182 1 128 (dk_at dksX7_platforms_4 10 rfl rfl)
theorem dX7_platforms_105 : decode cX7_platforms 105 = .ok (.isub, 1) := dk_100 (dk_at dksX7_platforms_4 13 rfl rfl)
theorem dX7_platforms_106 : decode cX7_platforms 106 = .ok (.iconst 0, 1) := dk_3 (dk_at dksX7_platforms_4 14 rfl rfl)
theorem dX7_platforms_107 : decode cX7_platforms 107 = .ok (.iload_n 2, 1) := dk_28 (dk_at dksX7_platforms_4 15 rfl rfl)
theorem dX7_platforms_108 : decode cX7_platforms 108 = .ok (.invokestatic 154, 3) := dk_184 0 154 (dk_at dksX7_platforms_4 16 rfl rfl)
theorem dX7_platforms_111 : decode cX7_platforms 111 = .ok (.ifCond .eq 9, 3) := dk_153 0 9 (dk_at dksX7_platforms_4 19 rfl rfl)
theorem dX7_platforms_114 : decode cX7_platforms 114 = .ok (.iload 5, 2) := dk_21 5 (dk_at dksX7_platforms_4 22 rfl rfl)
theorem dX7_platforms_116 : decode cX7_platforms 116 = .ok (.iconst 1, 1) := dk_4 (dk_at dksX7_platforms_5 0 rfl rfl)
theorem dX7_platforms_117 : decode cX7_platforms 117 = .ok (.iadd, 1) := dk_96 (dk_at dksX7_platforms_5 1 rfl rfl)
theorem dX7_platforms_118 : decode cX7_platforms 118 = .ok (.istore 5, 2) := dk_54 5 (dk_at dksX7_platforms_5 2 rfl rfl)
theorem dX7_platforms_120 : decode cX7_platforms 120 = .ok (.iinc 6 1, 3) := dk_132 6 1 (dk_at dksX7_platforms_5 4 rfl rfl)
theorem dX7_platforms_123 : decode cX7_platforms 123 = .ok (.goto (-61), 3) := dk_167 255 195 (dk_at dksX7_platforms_5 7 rfl rfl)
theorem dX7_platforms_126 : decode cX7_platforms 126 = .ok (.iload_n 3, 1) := dk_29 (dk_at dksX7_platforms_5 10 rfl rfl)
theorem dX7_platforms_127 : decode cX7_platforms 127 = .ok (.iload 5, 2) := dk_21 5 (dk_at dksX7_platforms_5 11 rfl rfl)
theorem dX7_platforms_129 : decode cX7_platforms 129 = .ok (.invokestatic 342, 3) := dk_184 1 86 (dk_at dksX7_platforms_5 13 rfl rfl)
theorem dX7_platforms_132 : decode cX7_platforms 132 = .ok (.istore_n 3, 1) := dk_62 (dk_at dksX7_platforms_5 16 rfl rfl)
theorem dX7_platforms_133 : decode cX7_platforms 133 = .ok (.iinc 4 1, 3) := dk_132 4 1 (dk_at dksX7_platforms_5 17 rfl rfl)
theorem dX7_platforms_136 : decode cX7_platforms 136 = .ok (.goto (-112), 3) := dk_167 255 144 (dk_at dksX7_platforms_5 20 rfl rfl)
theorem dX7_platforms_139 : decode cX7_platforms 139 = .ok (.iload_n 3, 1) := dk_29 (dk_at dksX7_platforms_5 23 rfl rfl)
theorem dX7_platforms_140 : decode cX7_platforms 140 = .ok (.ireturn, 1) := dk_172 (dk_at dksX7_platforms_6 0 rfl rfl)
abbrev cX7_sets : ByteArray := prog_21_method_86_code
def yX7_sets : MethodName := ⟨RX7, "sets", "()I"⟩
def dkwX7_sets_2 : List UInt8 := [42, 28, 182, 1, 155, 153, 0, 7, 27, 4, 100, 60, 132, 2, 1, 167, 255, 218, 27, 172]
abbrev dktX7_sets_2 : List UInt8 := dkwX7_sets_2 ++ []
def dkwX7_sets_1 : List UInt8 := [61, 28, 42, 180, 0, 162, 162, 0, 36, 42, 28, 182, 0, 169, 154, 0, 6, 167, 0, 19, 27, 4, 96, 60]
abbrev dktX7_sets_1 : List UInt8 := dkwX7_sets_1 ++ dktX7_sets_2
def dkwX7_sets_0 : List UInt8 := [3, 60, 3, 61, 28, 16, 48, 162, 0, 16, 42, 180, 0, 135, 28, 2, 79, 132, 2, 1, 167, 255, 240, 3]
abbrev dktX7_sets_0 : List UInt8 := dkwX7_sets_0 ++ dktX7_sets_1
theorem dksX7_sets_0 : cX7_sets.data.toList.drop 0 = dktX7_sets_0 := by decide +kernel
theorem dksX7_sets_1 : cX7_sets.data.toList.drop 24 = dktX7_sets_1 := dk_seg dksX7_sets_0 24 rfl rfl
theorem dksX7_sets_2 : cX7_sets.data.toList.drop 48 = dktX7_sets_2 := dk_seg dksX7_sets_1 24 rfl rfl
theorem dX7_sets_0 : decode cX7_sets 0 = .ok (.iconst 0, 1) := dk_3 (dk_at dksX7_sets_0 0 rfl rfl)
theorem dX7_sets_1 : decode cX7_sets 1 = .ok (.istore_n 1, 1) := dk_60 (dk_at dksX7_sets_0 1 rfl rfl)
theorem dX7_sets_2 : decode cX7_sets 2 = .ok (.iconst 0, 1) := dk_3 (dk_at dksX7_sets_0 2 rfl rfl)
theorem dX7_sets_3 : decode cX7_sets 3 = .ok (.istore_n 2, 1) := dk_61 (dk_at dksX7_sets_0 3 rfl rfl)
theorem dX7_sets_4 : decode cX7_sets 4 = .ok (.iload_n 2, 1) := dk_28 (dk_at dksX7_sets_0 4 rfl rfl)
theorem dX7_sets_5 : decode cX7_sets 5 = .ok (.bipush 48, 2) := dk_16 48 (dk_at dksX7_sets_0 5 rfl rfl)
theorem dX7_sets_7 : decode cX7_sets 7 = .ok (.if_icmp .ge 16, 3) := dk_162 0 16 (dk_at dksX7_sets_0 7 rfl rfl)
theorem dX7_sets_10 : decode cX7_sets 10 = .ok (.aload_n 0, 1) := dk_42 (dk_at dksX7_sets_0 10 rfl rfl)
theorem dX7_sets_11 : decode cX7_sets 11 = .ok (.getfield 135, 3) := dk_180 0 135 (dk_at dksX7_sets_0 11 rfl rfl)
theorem dX7_sets_14 : decode cX7_sets 14 = .ok (.iload_n 2, 1) := dk_28 (dk_at dksX7_sets_0 14 rfl rfl)
theorem dX7_sets_15 : decode cX7_sets 15 = .ok (.iconst (-1), 1) := dk_2 (dk_at dksX7_sets_0 15 rfl rfl)
theorem dX7_sets_16 : decode cX7_sets 16 = .ok (.iastore, 1) := dk_79 (dk_at dksX7_sets_0 16 rfl rfl)
theorem dX7_sets_17 : decode cX7_sets 17 = .ok (.iinc 2 1, 3) := dk_132 2 1 (dk_at dksX7_sets_0 17 rfl rfl)
theorem dX7_sets_20 : decode cX7_sets 20 = .ok (.goto (-16), 3) := dk_167 255 240 (dk_at dksX7_sets_0 20 rfl rfl)
theorem dX7_sets_23 : decode cX7_sets 23 = .ok (.iconst 0, 1) := dk_3 (dk_at dksX7_sets_0 23 rfl rfl)
theorem dX7_sets_24 : decode cX7_sets 24 = .ok (.istore_n 2, 1) := dk_61 (dk_at dksX7_sets_1 0 rfl rfl)
theorem dX7_sets_25 : decode cX7_sets 25 = .ok (.iload_n 2, 1) := dk_28 (dk_at dksX7_sets_1 1 rfl rfl)
theorem dX7_sets_26 : decode cX7_sets 26 = .ok (.aload_n 0, 1) := dk_42 (dk_at dksX7_sets_1 2 rfl rfl)
theorem dX7_sets_27 : decode cX7_sets 27 = .ok (.getfield 162, 3) := dk_180 0 162 (dk_at dksX7_sets_1 3 rfl rfl)
theorem dX7_sets_30 : decode cX7_sets 30 = .ok (.if_icmp .ge 36, 3) := dk_162 0 36 (dk_at dksX7_sets_1 6 rfl rfl)
theorem dX7_sets_33 : decode cX7_sets 33 = .ok (.aload_n 0, 1) := dk_42 (dk_at dksX7_sets_1 9 rfl rfl)
theorem dX7_sets_34 : decode cX7_sets 34 = .ok (.iload_n 2, 1) := dk_28 (dk_at dksX7_sets_1 10 rfl rfl)
theorem dX7_sets_35 : decode cX7_sets 35 = .ok (.invokevirtual 169, 3) := dk_182 0 169 (dk_at dksX7_sets_1 11 rfl rfl)
theorem dX7_sets_38 : decode cX7_sets 38 = .ok (.ifCond .ne 6, 3) := dk_154 0 6 (dk_at dksX7_sets_1 14 rfl rfl)
theorem dX7_sets_41 : decode cX7_sets 41 = .ok (.goto 19, 3) := dk_167 0 19 (dk_at dksX7_sets_1 17 rfl rfl)
theorem dX7_sets_44 : decode cX7_sets 44 = .ok (.iload_n 1, 1) := dk_27 (dk_at dksX7_sets_1 20 rfl rfl)
theorem dX7_sets_45 : decode cX7_sets 45 = .ok (.iconst 1, 1) := dk_4 (dk_at dksX7_sets_1 21 rfl rfl)
theorem dX7_sets_46 : decode cX7_sets 46 = .ok (.iadd, 1) := dk_96 (dk_at dksX7_sets_1 22 rfl rfl)
theorem dX7_sets_47 : decode cX7_sets 47 = .ok (.istore_n 1, 1) := dk_60 (dk_at dksX7_sets_1 23 rfl rfl)
theorem dX7_sets_48 : decode cX7_sets 48 = .ok (.aload_n 0, 1) := dk_42 (dk_at dksX7_sets_2 0 rfl rfl)
theorem dX7_sets_49 : decode cX7_sets 49 = .ok (.iload_n 2, 1) := dk_28 (dk_at dksX7_sets_2 1 rfl rfl)
theorem dX7_sets_50 : decode cX7_sets 50 = .ok (.invokevirtual 411, 3) := dk_182 1 155 (dk_at dksX7_sets_2 2 rfl rfl)
theorem dX7_sets_53 : decode cX7_sets 53 = .ok (.ifCond .eq 7, 3) := dk_153 0 7 (dk_at dksX7_sets_2 5 rfl rfl)
theorem dX7_sets_56 : decode cX7_sets 56 = .ok (.iload_n 1, 1) := dk_27 (dk_at dksX7_sets_2 8 rfl rfl)
theorem dX7_sets_57 : decode cX7_sets 57 = .ok (.iconst 1, 1) := dk_4 (dk_at dksX7_sets_2 9 rfl rfl)
theorem dX7_sets_58 : decode cX7_sets 58 = .ok (.isub, 1) := dk_100 (dk_at dksX7_sets_2 10 rfl rfl)
theorem dX7_sets_59 : decode cX7_sets 59 = .ok (.istore_n 1, 1) := dk_60 (dk_at dksX7_sets_2 11 rfl rfl)
theorem dX7_sets_60 : decode cX7_sets 60 = .ok (.iinc 2 1, 3) := dk_132 2 1 (dk_at dksX7_sets_2 12 rfl rfl)
theorem dX7_sets_63 : decode cX7_sets 63 = .ok (.goto (-38), 3) := dk_167 255 218 (dk_at dksX7_sets_2 15 rfl rfl)
theorem dX7_sets_66 : decode cX7_sets 66 = .ok (.iload_n 1, 1) := dk_27 (dk_at dksX7_sets_2 18 rfl rfl)
theorem dX7_sets_67 : decode cX7_sets 67 = .ok (.ireturn, 1) := dk_172 (dk_at dksX7_sets_2 19 rfl rfl)
abbrev cX7_findsNext : ByteArray := prog_21_method_84_code
def yX7_findsNext : MethodName := ⟨RX7, "findsNext", "(I)Z"⟩
def dkwX7_findsNext_6 : List UInt8 := [3, 172]
abbrev dktX7_findsNext_6 : List UInt8 := dkwX7_findsNext_6 ++ []
def dkwX7_findsNext_5 : List UInt8 := [42, 180, 0, 135, 21, 5, 46, 79, 28, 4, 96, 61, 132, 5, 1, 167, 255, 173, 132, 3, 1, 167, 255, 151]
abbrev dktX7_findsNext_5 : List UInt8 := dkwX7_findsNext_5 ++ dktX7_findsNext_6
def dkwX7_findsNext_4 : List UInt8 := [180, 0, 135, 21, 5, 46, 2, 160, 0, 12, 42, 21, 5, 27, 182, 1, 152, 4, 172, 42, 180, 0, 141, 28]
abbrev dktX7_findsNext_4 : List UInt8 := dkwX7_findsNext_4 ++ dktX7_findsNext_5
def dkwX7_findsNext_3 : List UInt8 := [21, 4, 21, 5, 182, 1, 149, 154, 0, 6, 167, 0, 49, 42, 180, 0, 138, 21, 5, 21, 4, 79, 42]
abbrev dktX7_findsNext_3 : List UInt8 := dkwX7_findsNext_3 ++ dktX7_findsNext_4
def dkwX7_findsNext_2 : List UInt8 := [54, 5, 21, 5, 42, 180, 0, 162, 162, 0, 80, 42, 180, 0, 138, 21, 5, 46, 2, 160, 0, 63, 42]
abbrev dktX7_findsNext_2 : List UInt8 := dkwX7_findsNext_2 ++ dktX7_findsNext_3
def dkwX7_findsNext_1 : List UInt8 := [180, 0, 141, 3, 27, 79, 4, 61, 3, 62, 29, 28, 162, 0, 106, 42, 180, 0, 141, 29, 46, 54, 4, 3]
abbrev dktX7_findsNext_1 : List UInt8 := dkwX7_findsNext_1 ++ dktX7_findsNext_2
def dkwX7_findsNext_0 : List UInt8 := [3, 61, 28, 42, 180, 0, 162, 162, 0, 16, 42, 180, 0, 138, 28, 2, 79, 132, 2, 1, 167, 255, 238, 42]
abbrev dktX7_findsNext_0 : List UInt8 := dkwX7_findsNext_0 ++ dktX7_findsNext_1
theorem dksX7_findsNext_0 : cX7_findsNext.data.toList.drop 0 = dktX7_findsNext_0 := by decide +kernel
theorem dksX7_findsNext_1 : cX7_findsNext.data.toList.drop 24 = dktX7_findsNext_1 := dk_seg dksX7_findsNext_0 24 rfl rfl
theorem dksX7_findsNext_2 : cX7_findsNext.data.toList.drop 48 = dktX7_findsNext_2 := dk_seg dksX7_findsNext_1 24 rfl rfl
theorem dksX7_findsNext_3 : cX7_findsNext.data.toList.drop 71 = dktX7_findsNext_3 := dk_seg dksX7_findsNext_2 23 rfl rfl
theorem dksX7_findsNext_4 : cX7_findsNext.data.toList.drop 94 = dktX7_findsNext_4 := dk_seg dksX7_findsNext_3 23 rfl rfl
theorem dksX7_findsNext_5 : cX7_findsNext.data.toList.drop 118 = dktX7_findsNext_5 := dk_seg dksX7_findsNext_4 24 rfl rfl
theorem dksX7_findsNext_6 : cX7_findsNext.data.toList.drop 142 = dktX7_findsNext_6 := dk_seg dksX7_findsNext_5 24 rfl rfl
theorem dX7_findsNext_0 : decode cX7_findsNext 0 = .ok (.iconst 0, 1) := dk_3 (dk_at dksX7_findsNext_0 0 rfl rfl)
theorem dX7_findsNext_1 : decode cX7_findsNext 1 = .ok (.istore_n 2, 1) := dk_61 (dk_at dksX7_findsNext_0 1 rfl rfl)
theorem dX7_findsNext_2 : decode cX7_findsNext 2 = .ok (.iload_n 2, 1) := dk_28 (dk_at dksX7_findsNext_0 2 rfl rfl)
theorem dX7_findsNext_3 : decode cX7_findsNext 3 = .ok (.aload_n 0, 1) := dk_42 (dk_at dksX7_findsNext_0 3 rfl rfl)
theorem dX7_findsNext_4 : decode cX7_findsNext 4 = .ok (.getfield 162, 3) := dk_180 0 162 (dk_at dksX7_findsNext_0 4 rfl rfl)
theorem dX7_findsNext_7 : decode cX7_findsNext 7 = .ok (.if_icmp .ge 16, 3) := dk_162 0 16 (dk_at dksX7_findsNext_0 7 rfl rfl)
theorem dX7_findsNext_10 : decode cX7_findsNext 10 = .ok (.aload_n 0, 1) := dk_42 (dk_at dksX7_findsNext_0 10 rfl rfl)
theorem dX7_findsNext_11 : decode cX7_findsNext 11 = .ok (.getfield 138, 3) := dk_180 0 138 (dk_at dksX7_findsNext_0 11 rfl rfl)
theorem dX7_findsNext_14 : decode cX7_findsNext 14 = .ok (.iload_n 2, 1) := dk_28 (dk_at dksX7_findsNext_0 14 rfl rfl)
theorem dX7_findsNext_15 : decode cX7_findsNext 15 = .ok (.iconst (-1), 1) := dk_2 (dk_at dksX7_findsNext_0 15 rfl rfl)
theorem dX7_findsNext_16 : decode cX7_findsNext 16 = .ok (.iastore, 1) := dk_79 (dk_at dksX7_findsNext_0 16 rfl rfl)
theorem dX7_findsNext_17 : decode cX7_findsNext 17 = .ok (.iinc 2 1, 3) := dk_132 2 1 (dk_at dksX7_findsNext_0 17 rfl rfl)
theorem dX7_findsNext_20 : decode cX7_findsNext 20 = .ok (.goto (-18), 3) := dk_167 255 238 (dk_at dksX7_findsNext_0 20 rfl rfl)
theorem dX7_findsNext_23 : decode cX7_findsNext 23 = .ok (.aload_n 0, 1) := dk_42 (dk_at dksX7_findsNext_0 23 rfl rfl)
theorem dX7_findsNext_24 : decode cX7_findsNext 24 = .ok (.getfield 141, 3) := dk_180 0 141 (dk_at dksX7_findsNext_1 0 rfl rfl)
theorem dX7_findsNext_27 : decode cX7_findsNext 27 = .ok (.iconst 0, 1) := dk_3 (dk_at dksX7_findsNext_1 3 rfl rfl)
theorem dX7_findsNext_28 : decode cX7_findsNext 28 = .ok (.iload_n 1, 1) := dk_27 (dk_at dksX7_findsNext_1 4 rfl rfl)
theorem dX7_findsNext_29 : decode cX7_findsNext 29 = .ok (.iastore, 1) := dk_79 (dk_at dksX7_findsNext_1 5 rfl rfl)
theorem dX7_findsNext_30 : decode cX7_findsNext 30 = .ok (.iconst 1, 1) := dk_4 (dk_at dksX7_findsNext_1 6 rfl rfl)
theorem dX7_findsNext_31 : decode cX7_findsNext 31 = .ok (.istore_n 2, 1) := dk_61 (dk_at dksX7_findsNext_1 7 rfl rfl)
theorem dX7_findsNext_32 : decode cX7_findsNext 32 = .ok (.iconst 0, 1) := dk_3 (dk_at dksX7_findsNext_1 8 rfl rfl)
theorem dX7_findsNext_33 : decode cX7_findsNext 33 = .ok (.istore_n 3, 1) := dk_62 (dk_at dksX7_findsNext_1 9 rfl rfl)
theorem dX7_findsNext_34 : decode cX7_findsNext 34 = .ok (.iload_n 3, 1) := dk_29 (dk_at dksX7_findsNext_1 10 rfl rfl)
theorem dX7_findsNext_35 : decode cX7_findsNext 35 = .ok (.iload_n 2, 1) := dk_28 (dk_at dksX7_findsNext_1 11 rfl rfl)
theorem dX7_findsNext_36 : decode cX7_findsNext 36 = .ok (.if_icmp .ge 106, 3) := dk_162 0 106 (dk_at dksX7_findsNext_1 12 rfl rfl)
theorem dX7_findsNext_39 : decode cX7_findsNext 39 = .ok (.aload_n 0, 1) := dk_42 (dk_at dksX7_findsNext_1 15 rfl rfl)
theorem dX7_findsNext_40 : decode cX7_findsNext 40 = .ok (.getfield 141, 3) := dk_180 0 141 (dk_at dksX7_findsNext_1 16 rfl rfl)
theorem dX7_findsNext_43 : decode cX7_findsNext 43 = .ok (.iload_n 3, 1) := dk_29 (dk_at dksX7_findsNext_1 19 rfl rfl)
theorem dX7_findsNext_44 : decode cX7_findsNext 44 = .ok (.iaload, 1) := dk_46 (dk_at dksX7_findsNext_1 20 rfl rfl)
theorem dX7_findsNext_45 : decode cX7_findsNext 45 = .ok (.istore 4, 2) := dk_54 4 (dk_at dksX7_findsNext_1 21 rfl rfl)
theorem dX7_findsNext_47 : decode cX7_findsNext 47 = .ok (.iconst 0, 1) := dk_3 (dk_at dksX7_findsNext_1 23 rfl rfl)
theorem dX7_findsNext_48 : decode cX7_findsNext 48 = .ok (.istore 5, 2) := dk_54 5 (dk_at dksX7_findsNext_2 0 rfl rfl)
theorem dX7_findsNext_50 : decode cX7_findsNext 50 = .ok (.iload 5, 2) := dk_21 5 (dk_at dksX7_findsNext_2 2 rfl rfl)
theorem dX7_findsNext_52 : decode cX7_findsNext 52 = .ok (.aload_n 0, 1) := dk_42 (dk_at dksX7_findsNext_2 4 rfl rfl)
theorem dX7_findsNext_53 : decode cX7_findsNext 53 = .ok (.getfield 162, 3) := dk_180 0 162 (dk_at dksX7_findsNext_2 5 rfl rfl)
theorem dX7_findsNext_56 : decode cX7_findsNext 56 = .ok (.if_icmp .ge 80, 3) := dk_162 0 80 (dk_at dksX7_findsNext_2 8 rfl rfl)
theorem dX7_findsNext_59 : decode cX7_findsNext 59 = .ok (.aload_n 0, 1) := dk_42 (dk_at dksX7_findsNext_2 11 rfl rfl)
theorem dX7_findsNext_60 : decode cX7_findsNext 60 = .ok (.getfield 138, 3) := dk_180 0 138 (dk_at dksX7_findsNext_2 12 rfl rfl)
theorem dX7_findsNext_63 : decode cX7_findsNext 63 = .ok (.iload 5, 2) := dk_21 5 (dk_at dksX7_findsNext_2 15 rfl rfl)
theorem dX7_findsNext_65 : decode cX7_findsNext 65 = .ok (.iaload, 1) := dk_46 (dk_at dksX7_findsNext_2 17 rfl rfl)
theorem dX7_findsNext_66 : decode cX7_findsNext 66 = .ok (.iconst (-1), 1) := dk_2 (dk_at dksX7_findsNext_2 18 rfl rfl)
theorem dX7_findsNext_67 : decode cX7_findsNext 67 = .ok (.if_icmp .ne 63, 3) := dk_160 0 63 (dk_at dksX7_findsNext_2 19 rfl rfl)
theorem dX7_findsNext_70 : decode cX7_findsNext 70 = .ok (.aload_n 0, 1) := dk_42 (dk_at dksX7_findsNext_2 22 rfl rfl)
theorem dX7_findsNext_71 : decode cX7_findsNext 71 = .ok (.iload 4, 2) := dk_21 4 (dk_at dksX7_findsNext_3 0 rfl rfl)
theorem dX7_findsNext_73 : decode cX7_findsNext 73 = .ok (.iload 5, 2) := dk_21 5 (dk_at dksX7_findsNext_3 2 rfl rfl)
theorem dX7_findsNext_75 : decode cX7_findsNext 75 = .ok (.invokevirtual 405, 3) := dk_182 1 149 (dk_at dksX7_findsNext_3 4 rfl rfl)
theorem dX7_findsNext_78 : decode cX7_findsNext 78 = .ok (.ifCond .ne 6, 3) := dk_154 0 6 (dk_at dksX7_findsNext_3 7 rfl rfl)
theorem dX7_findsNext_81 : decode cX7_findsNext 81 = .ok (.goto 49, 3) := dk_167 0 49 (dk_at dksX7_findsNext_3 10 rfl rfl)
theorem dX7_findsNext_84 : decode cX7_findsNext 84 = .ok (.aload_n 0, 1) := dk_42 (dk_at dksX7_findsNext_3 13 rfl rfl)
theorem dX7_findsNext_85 : decode cX7_findsNext 85 = .ok (.getfield 138, 3) := dk_180 0 138 (dk_at dksX7_findsNext_3 14 rfl rfl)
theorem dX7_findsNext_88 : decode cX7_findsNext 88 = .ok (.iload 5, 2) := dk_21 5 (dk_at dksX7_findsNext_3 17 rfl rfl)
theorem dX7_findsNext_90 : decode cX7_findsNext 90 = .ok (.iload 4, 2) := dk_21 4 (dk_at dksX7_findsNext_3 19 rfl rfl)
theorem dX7_findsNext_92 : decode cX7_findsNext 92 = .ok (.iastore, 1) := dk_79 (dk_at dksX7_findsNext_3 21 rfl rfl)
theorem dX7_findsNext_93 : decode cX7_findsNext 93 = .ok (.aload_n 0, 1) := dk_42 (dk_at dksX7_findsNext_3 22 rfl rfl)
theorem dX7_findsNext_94 : decode cX7_findsNext 94 = .ok (.getfield 135, 3) := dk_180 0 135 (dk_at dksX7_findsNext_4 0 rfl rfl)
theorem dX7_findsNext_97 : decode cX7_findsNext 97 = .ok (.iload 5, 2) := dk_21 5 (dk_at dksX7_findsNext_4 3 rfl rfl)
theorem dX7_findsNext_99 : decode cX7_findsNext 99 = .ok (.iaload, 1) := dk_46 (dk_at dksX7_findsNext_4 5 rfl rfl)
theorem dX7_findsNext_100 : decode cX7_findsNext 100 = .ok (.iconst (-1), 1) := dk_2 (dk_at dksX7_findsNext_4 6 rfl rfl)
theorem dX7_findsNext_101 : decode cX7_findsNext 101 = .ok (.if_icmp .ne 12, 3) := dk_160 0 12 (dk_at dksX7_findsNext_4 7 rfl rfl)
theorem dX7_findsNext_104 : decode cX7_findsNext 104 = .ok (.aload_n 0, 1) := dk_42 (dk_at dksX7_findsNext_4 10 rfl rfl)
theorem dX7_findsNext_105 : decode cX7_findsNext 105 = .ok (.iload 5, 2) := dk_21 5 (dk_at dksX7_findsNext_4 11 rfl rfl)
theorem dX7_findsNext_107 : decode cX7_findsNext 107 = .ok (.iload_n 1, 1) := dk_27 (dk_at dksX7_findsNext_4 13 rfl rfl)
theorem dX7_findsNext_108 : decode cX7_findsNext 108 = .ok (.invokevirtual 408, 3) := dk_182 1 152 (dk_at dksX7_findsNext_4 14 rfl rfl)
theorem dX7_findsNext_111 : decode cX7_findsNext 111 = .ok (.iconst 1, 1) := dk_4 (dk_at dksX7_findsNext_4 17 rfl rfl)
theorem dX7_findsNext_112 : decode cX7_findsNext 112 = .ok (.ireturn, 1) := dk_172 (dk_at dksX7_findsNext_4 18 rfl rfl)
theorem dX7_findsNext_113 : decode cX7_findsNext 113 = .ok (.aload_n 0, 1) := dk_42 (dk_at dksX7_findsNext_4 19 rfl rfl)
theorem dX7_findsNext_114 : decode cX7_findsNext 114 = .ok (.getfield 141, 3) := dk_180 0 141 (dk_at dksX7_findsNext_4 20 rfl rfl)
theorem dX7_findsNext_117 : decode cX7_findsNext 117 = .ok (.iload_n 2, 1) := dk_28 (dk_at dksX7_findsNext_4 23 rfl rfl)
theorem dX7_findsNext_118 : decode cX7_findsNext 118 = .ok (.aload_n 0, 1) := dk_42 (dk_at dksX7_findsNext_5 0 rfl rfl)
theorem dX7_findsNext_119 : decode cX7_findsNext 119 = .ok (.getfield 135, 3) := dk_180 0 135 (dk_at dksX7_findsNext_5 1 rfl rfl)
theorem dX7_findsNext_122 : decode cX7_findsNext 122 = .ok (.iload 5, 2) := dk_21 5 (dk_at dksX7_findsNext_5 4 rfl rfl)
theorem dX7_findsNext_124 : decode cX7_findsNext 124 = .ok (.iaload, 1) := dk_46 (dk_at dksX7_findsNext_5 6 rfl rfl)
theorem dX7_findsNext_125 : decode cX7_findsNext 125 = .ok (.iastore, 1) := dk_79 (dk_at dksX7_findsNext_5 7 rfl rfl)
theorem dX7_findsNext_126 : decode cX7_findsNext 126 = .ok (.iload_n 2, 1) := dk_28 (dk_at dksX7_findsNext_5 8 rfl rfl)
theorem dX7_findsNext_127 : decode cX7_findsNext 127 = .ok (.iconst 1, 1) := dk_4 (dk_at dksX7_findsNext_5 9 rfl rfl)
theorem dX7_findsNext_128 : decode cX7_findsNext 128 = .ok (.iadd, 1) := dk_96 (dk_at dksX7_findsNext_5 10 rfl rfl)
theorem dX7_findsNext_129 : decode cX7_findsNext 129 = .ok (.istore_n 2, 1) := dk_61 (dk_at dksX7_findsNext_5 11 rfl rfl)
theorem dX7_findsNext_130 : decode cX7_findsNext 130 = .ok (.iinc 5 1, 3) := dk_132 5 1 (dk_at dksX7_findsNext_5 12 rfl rfl)
theorem dX7_findsNext_133 : decode cX7_findsNext 133 = .ok (.goto (-83), 3) := dk_167 255 173 (dk_at dksX7_findsNext_5 15 rfl rfl)
theorem dX7_findsNext_136 : decode cX7_findsNext 136 = .ok (.iinc 3 1, 3) := dk_132 3 1 (dk_at dksX7_findsNext_5 18 rfl rfl)
theorem dX7_findsNext_139 : decode cX7_findsNext 139 = .ok (.goto (-105), 3) := dk_167 255 151 (dk_at dksX7_findsNext_5 21 rfl rfl)
theorem dX7_findsNext_142 : decode cX7_findsNext 142 = .ok (.iconst 0, 1) := dk_3 (dk_at dksX7_findsNext_6 0 rfl rfl)
theorem dX7_findsNext_143 : decode cX7_findsNext 143 = .ok (.ireturn, 1) := dk_172 (dk_at dksX7_findsNext_6 1 rfl rfl)
abbrev cX7_goesOn : ByteArray := prog_21_method_83_code
def yX7_goesOn : MethodName := ⟨RX7, "goesOn", "(II)Z"⟩
def dkwX7_goesOn_2 : List UInt8 := [180, 0, 150, 96, 161, 0, 7, 4, 167, 0, 4, 3, 172]
abbrev dktX7_goesOn_2 : List UInt8 := dkwX7_goesOn_2 ++ []
def dkwX7_goesOn_1 : List UInt8 := [6, 182, 1, 146, 159, 0, 5, 3, 172, 42, 28, 8, 182, 1, 146, 42, 27, 16, 6, 182, 1, 146, 42]
abbrev dktX7_goesOn_1 : List UInt8 := dkwX7_goesOn_1 ++ dktX7_goesOn_2
def dkwX7_goesOn_0 : List UInt8 := [42, 27, 182, 0, 169, 153, 0, 26, 42, 28, 182, 0, 169, 153, 0, 18, 42, 27, 7, 182, 1, 146, 42, 28]
abbrev dktX7_goesOn_0 : List UInt8 := dkwX7_goesOn_0 ++ dktX7_goesOn_1
theorem dksX7_goesOn_0 : cX7_goesOn.data.toList.drop 0 = dktX7_goesOn_0 := by decide +kernel
theorem dksX7_goesOn_1 : cX7_goesOn.data.toList.drop 24 = dktX7_goesOn_1 := dk_seg dksX7_goesOn_0 24 rfl rfl
theorem dksX7_goesOn_2 : cX7_goesOn.data.toList.drop 47 = dktX7_goesOn_2 := dk_seg dksX7_goesOn_1 23 rfl rfl
theorem dX7_goesOn_0 : decode cX7_goesOn 0 = .ok (.aload_n 0, 1) := dk_42 (dk_at dksX7_goesOn_0 0 rfl rfl)
theorem dX7_goesOn_1 : decode cX7_goesOn 1 = .ok (.iload_n 1, 1) := dk_27 (dk_at dksX7_goesOn_0 1 rfl rfl)
theorem dX7_goesOn_2 : decode cX7_goesOn 2 = .ok (.invokevirtual 169, 3) := dk_182 0 169 (dk_at dksX7_goesOn_0 2 rfl rfl)
theorem dX7_goesOn_5 : decode cX7_goesOn 5 = .ok (.ifCond .eq 26, 3) := dk_153 0 26 (dk_at dksX7_goesOn_0 5 rfl rfl)
theorem dX7_goesOn_8 : decode cX7_goesOn 8 = .ok (.aload_n 0, 1) := dk_42 (dk_at dksX7_goesOn_0 8 rfl rfl)
theorem dX7_goesOn_9 : decode cX7_goesOn 9 = .ok (.iload_n 2, 1) := dk_28 (dk_at dksX7_goesOn_0 9 rfl rfl)
theorem dX7_goesOn_10 : decode cX7_goesOn 10 = .ok (.invokevirtual 169, 3) := dk_182 0 169 (dk_at dksX7_goesOn_0 10 rfl rfl)
theorem dX7_goesOn_13 : decode cX7_goesOn 13 = .ok (.ifCond .eq 18, 3) := dk_153 0 18 (dk_at dksX7_goesOn_0 13 rfl rfl)
theorem dX7_goesOn_16 : decode cX7_goesOn 16 = .ok (.aload_n 0, 1) := dk_42 (dk_at dksX7_goesOn_0 16 rfl rfl)
theorem dX7_goesOn_17 : decode cX7_goesOn 17 = .ok (.iload_n 1, 1) := dk_27 (dk_at dksX7_goesOn_0 17 rfl rfl)
theorem dX7_goesOn_18 : decode cX7_goesOn 18 = .ok (.iconst 4, 1) := dk_7 (dk_at dksX7_goesOn_0 18 rfl rfl)
theorem dX7_goesOn_19 : decode cX7_goesOn 19 = .ok (.invokevirtual 402, 3) := dk_182 1 146 (dk_at dksX7_goesOn_0 19 rfl rfl)
theorem dX7_goesOn_22 : decode cX7_goesOn 22 = .ok (.aload_n 0, 1) := dk_42 (dk_at dksX7_goesOn_0 22 rfl rfl)
theorem dX7_goesOn_23 : decode cX7_goesOn 23 = .ok (.iload_n 2, 1) := dk_28 (dk_at dksX7_goesOn_0 23 rfl rfl)
theorem dX7_goesOn_24 : decode cX7_goesOn 24 = .ok (.iconst 3, 1) := dk_6 (dk_at dksX7_goesOn_1 0 rfl rfl)
theorem dX7_goesOn_25 : decode cX7_goesOn 25 = .ok (.invokevirtual 402, 3) := dk_182 1 146 (dk_at dksX7_goesOn_1 1 rfl rfl)
theorem dX7_goesOn_28 : decode cX7_goesOn 28 = .ok (.if_icmp .eq 5, 3) := dk_159 0 5 (dk_at dksX7_goesOn_1 4 rfl rfl)
theorem dX7_goesOn_31 : decode cX7_goesOn 31 = .ok (.iconst 0, 1) := dk_3 (dk_at dksX7_goesOn_1 7 rfl rfl)
theorem dX7_goesOn_32 : decode cX7_goesOn 32 = .ok (.ireturn, 1) := dk_172 (dk_at dksX7_goesOn_1 8 rfl rfl)
theorem dX7_goesOn_33 : decode cX7_goesOn 33 = .ok (.aload_n 0, 1) := dk_42 (dk_at dksX7_goesOn_1 9 rfl rfl)
theorem dX7_goesOn_34 : decode cX7_goesOn 34 = .ok (.iload_n 2, 1) := dk_28 (dk_at dksX7_goesOn_1 10 rfl rfl)
theorem dX7_goesOn_35 : decode cX7_goesOn 35 = .ok (.iconst 5, 1) := dk_8 (dk_at dksX7_goesOn_1 11 rfl rfl)
theorem dX7_goesOn_36 : decode cX7_goesOn 36 = .ok (.invokevirtual 402, 3) := dk_182 1 146 (dk_at dksX7_goesOn_1 12 rfl rfl)
theorem dX7_goesOn_39 : decode cX7_goesOn 39 = .ok (.aload_n 0, 1) := dk_42 (dk_at dksX7_goesOn_1 15 rfl rfl)
theorem dX7_goesOn_40 : decode cX7_goesOn 40 = .ok (.iload_n 1, 1) := dk_27 (dk_at dksX7_goesOn_1 16 rfl rfl)
theorem dX7_goesOn_41 : decode cX7_goesOn 41 = .ok (.bipush 6, 2) := dk_16 6 (dk_at dksX7_goesOn_1 17 rfl rfl)
theorem dX7_goesOn_43 : decode cX7_goesOn 43 = .ok (.invokevirtual 402, 3) := dk_182 1 146 (dk_at dksX7_goesOn_1 19 rfl rfl)
theorem dX7_goesOn_46 : decode cX7_goesOn 46 = .ok (.aload_n 0, 1) := dk_42 (dk_at dksX7_goesOn_1 22 rfl rfl)
theorem dX7_goesOn_47 : decode cX7_goesOn 47 = .ok (.getfield 150, 3) := dk_180 0 150 (dk_at dksX7_goesOn_2 0 rfl rfl)
theorem dX7_goesOn_50 : decode cX7_goesOn 50 = .ok (.iadd, 1) := dk_96 (dk_at dksX7_goesOn_2 3 rfl rfl)
theorem dX7_goesOn_51 : decode cX7_goesOn 51 = .ok (.if_icmp .lt 7, 3) := dk_161 0 7 (dk_at dksX7_goesOn_2 4 rfl rfl)
theorem dX7_goesOn_54 : decode cX7_goesOn 54 = .ok (.iconst 1, 1) := dk_4 (dk_at dksX7_goesOn_2 7 rfl rfl)
theorem dX7_goesOn_55 : decode cX7_goesOn 55 = .ok (.goto 4, 3) := dk_167 0 4 (dk_at dksX7_goesOn_2 8 rfl rfl)
theorem dX7_goesOn_58 : decode cX7_goesOn 58 = .ok (.iconst 0, 1) := dk_3 (dk_at dksX7_goesOn_2 11 rfl rfl)
theorem dX7_goesOn_59 : decode cX7_goesOn 59 = .ok (.ireturn, 1) := dk_172 (dk_at dksX7_goesOn_2 12 rfl rfl)
abbrev cX7_changesAlong : ByteArray := prog_21_method_85_code
def yX7_changesAlong : MethodName := ⟨RX7, "changesAlong", "(II)V"⟩
def dkwX7_changesAlong_2 : List UInt8 := [167, 255, 228, 42, 180, 0, 135, 29, 21, 4, 79, 21, 4, 28, 160, 0, 4, 177, 21, 5, 62, 167, 255, 193]
abbrev dktX7_changesAlong_2 : List UInt8 := dkwX7_changesAlong_2 ++ []
def dkwX7_changesAlong_1 : List UInt8 := [162, 0, 25, 42, 180, 0, 135, 21, 6, 46, 21, 4, 160, 0, 7, 21, 6, 54, 5, 132, 6, 1]
abbrev dktX7_changesAlong_1 : List UInt8 := dkwX7_changesAlong_1 ++ dktX7_changesAlong_2
def dkwX7_changesAlong_0 : List UInt8 := [27, 62, 42, 180, 0, 138, 29, 46, 54, 4, 2, 54, 5, 3, 54, 6, 21, 6, 42, 180, 0, 162]
abbrev dktX7_changesAlong_0 : List UInt8 := dkwX7_changesAlong_0 ++ dktX7_changesAlong_1
theorem dksX7_changesAlong_0 : cX7_changesAlong.data.toList.drop 0 = dktX7_changesAlong_0 := by decide +kernel
theorem dksX7_changesAlong_1 : cX7_changesAlong.data.toList.drop 22 = dktX7_changesAlong_1 := dk_seg dksX7_changesAlong_0 22 rfl rfl
theorem dksX7_changesAlong_2 : cX7_changesAlong.data.toList.drop 44 = dktX7_changesAlong_2 := dk_seg dksX7_changesAlong_1 22 rfl rfl
theorem dX7_changesAlong_0 : decode cX7_changesAlong 0 = .ok (.iload_n 1, 1) := dk_27 (dk_at dksX7_changesAlong_0 0 rfl rfl)
theorem dX7_changesAlong_1 : decode cX7_changesAlong 1 = .ok (.istore_n 3, 1) := dk_62 (dk_at dksX7_changesAlong_0 1 rfl rfl)
theorem dX7_changesAlong_2 : decode cX7_changesAlong 2 = .ok (.aload_n 0, 1) := dk_42 (dk_at dksX7_changesAlong_0 2 rfl rfl)
theorem dX7_changesAlong_3 : decode cX7_changesAlong 3 = .ok (.getfield 138, 3) := dk_180 0 138 (dk_at dksX7_changesAlong_0 3 rfl rfl)
theorem dX7_changesAlong_6 : decode cX7_changesAlong 6 = .ok (.iload_n 3, 1) := dk_29 (dk_at dksX7_changesAlong_0 6 rfl rfl)
theorem dX7_changesAlong_7 : decode cX7_changesAlong 7 = .ok (.iaload, 1) := dk_46 (dk_at dksX7_changesAlong_0 7 rfl rfl)
theorem dX7_changesAlong_8 : decode cX7_changesAlong 8 = .ok (.istore 4, 2) := dk_54 4 (dk_at dksX7_changesAlong_0 8 rfl rfl)
theorem dX7_changesAlong_10 : decode cX7_changesAlong 10 = .ok (.iconst (-1), 1) := dk_2 (dk_at dksX7_changesAlong_0 10 rfl rfl)
theorem dX7_changesAlong_11 : decode cX7_changesAlong 11 = .ok (.istore 5, 2) := dk_54 5 (dk_at dksX7_changesAlong_0 11 rfl rfl)
theorem dX7_changesAlong_13 : decode cX7_changesAlong 13 = .ok (.iconst 0, 1) := dk_3 (dk_at dksX7_changesAlong_0 13 rfl rfl)
theorem dX7_changesAlong_14 : decode cX7_changesAlong 14 = .ok (.istore 6, 2) := dk_54 6 (dk_at dksX7_changesAlong_0 14 rfl rfl)
theorem dX7_changesAlong_16 : decode cX7_changesAlong 16 = .ok (.iload 6, 2) := dk_21 6 (dk_at dksX7_changesAlong_0 16 rfl rfl)
theorem dX7_changesAlong_18 : decode cX7_changesAlong 18 = .ok (.aload_n 0, 1) := dk_42 (dk_at dksX7_changesAlong_0 18 rfl rfl)
theorem dX7_changesAlong_19 : decode cX7_changesAlong 19 = .ok (.getfield 162, 3) := dk_180 0 162 (dk_at dksX7_changesAlong_0 19 rfl rfl)
theorem dX7_changesAlong_22 : decode cX7_changesAlong 22 = .ok (.if_icmp .ge 25, 3) := dk_162 0 25 (dk_at dksX7_changesAlong_1 0 rfl rfl)
theorem dX7_changesAlong_25 : decode cX7_changesAlong 25 = .ok (.aload_n 0, 1) := dk_42 (dk_at dksX7_changesAlong_1 3 rfl rfl)
theorem dX7_changesAlong_26 : decode cX7_changesAlong 26 = .ok (.getfield 135, 3) := dk_180 0 135 (dk_at dksX7_changesAlong_1 4 rfl rfl)
theorem dX7_changesAlong_29 : decode cX7_changesAlong 29 = .ok (.iload 6, 2) := dk_21 6 (dk_at dksX7_changesAlong_1 7 rfl rfl)
theorem dX7_changesAlong_31 : decode cX7_changesAlong 31 = .ok (.iaload, 1) := dk_46 (dk_at dksX7_changesAlong_1 9 rfl rfl)
theorem dX7_changesAlong_32 : decode cX7_changesAlong 32 = .ok (.iload 4, 2) := dk_21 4 (dk_at dksX7_changesAlong_1 10 rfl rfl)
theorem dX7_changesAlong_34 : decode cX7_changesAlong 34 = .ok (.if_icmp .ne 7, 3) := dk_160 0 7 (dk_at dksX7_changesAlong_1 12 rfl rfl)
theorem dX7_changesAlong_37 : decode cX7_changesAlong 37 = .ok (.iload 6, 2) := dk_21 6 (dk_at dksX7_changesAlong_1 15 rfl rfl)
theorem dX7_changesAlong_39 : decode cX7_changesAlong 39 = .ok (.istore 5, 2) := dk_54 5 (dk_at dksX7_changesAlong_1 17 rfl rfl)
theorem dX7_changesAlong_41 : decode cX7_changesAlong 41 = .ok (.iinc 6 1, 3) := dk_132 6 1 (dk_at dksX7_changesAlong_1 19 rfl rfl)
theorem dX7_changesAlong_44 : decode cX7_changesAlong 44 = .ok (.goto (-28), 3) := dk_167 255 228 (dk_at dksX7_changesAlong_2 0 rfl rfl)
theorem dX7_changesAlong_47 : decode cX7_changesAlong 47 = .ok (.aload_n 0, 1) := dk_42 (dk_at dksX7_changesAlong_2 3 rfl rfl)
theorem dX7_changesAlong_48 : decode cX7_changesAlong 48 = .ok (.getfield 135, 3) := dk_180 0 135 (dk_at dksX7_changesAlong_2 4 rfl rfl)
theorem dX7_changesAlong_51 : decode cX7_changesAlong 51 = .ok (.iload_n 3, 1) := dk_29 (dk_at dksX7_changesAlong_2 7 rfl rfl)
theorem dX7_changesAlong_52 : decode cX7_changesAlong 52 = .ok (.iload 4, 2) := dk_21 4 (dk_at dksX7_changesAlong_2 8 rfl rfl)
theorem dX7_changesAlong_54 : decode cX7_changesAlong 54 = .ok (.iastore, 1) := dk_79 (dk_at dksX7_changesAlong_2 10 rfl rfl)
theorem dX7_changesAlong_55 : decode cX7_changesAlong 55 = .ok (.iload 4, 2) := dk_21 4 (dk_at dksX7_changesAlong_2 11 rfl rfl)
theorem dX7_changesAlong_57 : decode cX7_changesAlong 57 = .ok (.iload_n 2, 1) := dk_28 (dk_at dksX7_changesAlong_2 13 rfl rfl)
theorem dX7_changesAlong_58 : decode cX7_changesAlong 58 = .ok (.if_icmp .ne 4, 3) := dk_160 0 4 (dk_at dksX7_changesAlong_2 14 rfl rfl)
theorem dX7_changesAlong_61 : decode cX7_changesAlong 61 = .ok (.return_, 1) := dk_177 (dk_at dksX7_changesAlong_2 17 rfl rfl)
theorem dX7_changesAlong_62 : decode cX7_changesAlong 62 = .ok (.iload 5, 2) := dk_21 5 (dk_at dksX7_changesAlong_2 18 rfl rfl)
theorem dX7_changesAlong_64 : decode cX7_changesAlong 64 = .ok (.istore_n 3, 1) := dk_62 (dk_at dksX7_changesAlong_2 20 rfl rfl)
theorem dX7_changesAlong_65 : decode cX7_changesAlong 65 = .ok (.goto (-63), 3) := dk_167 255 193 (dk_at dksX7_changesAlong_2 21 rfl rfl)
abbrev cX7_meets : ByteArray := prog_21_method_88_code
def yX7_meets : MethodName := ⟨RX7, "meets", "()I"⟩
def dkwX7_meets_2 : List UInt8 := [132, 3, 1, 167, 255, 219, 132, 2, 1, 167, 255, 203, 27, 172]
abbrev dktX7_meets_2 : List UInt8 := dkwX7_meets_2 ++ []
def dkwX7_meets_1 : List UInt8 := [153, 0, 24, 42, 29, 182, 0, 169, 153, 0, 16, 42, 28, 29, 182, 1, 158, 153, 0, 7, 27, 4, 96, 60]
abbrev dktX7_meets_1 : List UInt8 := dkwX7_meets_1 ++ dktX7_meets_2
def dkwX7_meets_0 : List UInt8 := [3, 60, 3, 61, 28, 42, 180, 0, 162, 162, 0, 51, 3, 62, 29, 28, 162, 0, 38, 42, 28, 182, 0, 169]
abbrev dktX7_meets_0 : List UInt8 := dkwX7_meets_0 ++ dktX7_meets_1
theorem dksX7_meets_0 : cX7_meets.data.toList.drop 0 = dktX7_meets_0 := by decide +kernel
theorem dksX7_meets_1 : cX7_meets.data.toList.drop 24 = dktX7_meets_1 := dk_seg dksX7_meets_0 24 rfl rfl
theorem dksX7_meets_2 : cX7_meets.data.toList.drop 48 = dktX7_meets_2 := dk_seg dksX7_meets_1 24 rfl rfl
theorem dX7_meets_0 : decode cX7_meets 0 = .ok (.iconst 0, 1) := dk_3 (dk_at dksX7_meets_0 0 rfl rfl)
theorem dX7_meets_1 : decode cX7_meets 1 = .ok (.istore_n 1, 1) := dk_60 (dk_at dksX7_meets_0 1 rfl rfl)
theorem dX7_meets_2 : decode cX7_meets 2 = .ok (.iconst 0, 1) := dk_3 (dk_at dksX7_meets_0 2 rfl rfl)
theorem dX7_meets_3 : decode cX7_meets 3 = .ok (.istore_n 2, 1) := dk_61 (dk_at dksX7_meets_0 3 rfl rfl)
theorem dX7_meets_4 : decode cX7_meets 4 = .ok (.iload_n 2, 1) := dk_28 (dk_at dksX7_meets_0 4 rfl rfl)
theorem dX7_meets_5 : decode cX7_meets 5 = .ok (.aload_n 0, 1) := dk_42 (dk_at dksX7_meets_0 5 rfl rfl)
theorem dX7_meets_6 : decode cX7_meets 6 = .ok (.getfield 162, 3) := dk_180 0 162 (dk_at dksX7_meets_0 6 rfl rfl)
theorem dX7_meets_9 : decode cX7_meets 9 = .ok (.if_icmp .ge 51, 3) := dk_162 0 51 (dk_at dksX7_meets_0 9 rfl rfl)
theorem dX7_meets_12 : decode cX7_meets 12 = .ok (.iconst 0, 1) := dk_3 (dk_at dksX7_meets_0 12 rfl rfl)
theorem dX7_meets_13 : decode cX7_meets 13 = .ok (.istore_n 3, 1) := dk_62 (dk_at dksX7_meets_0 13 rfl rfl)
theorem dX7_meets_14 : decode cX7_meets 14 = .ok (.iload_n 3, 1) := dk_29 (dk_at dksX7_meets_0 14 rfl rfl)
theorem dX7_meets_15 : decode cX7_meets 15 = .ok (.iload_n 2, 1) := dk_28 (dk_at dksX7_meets_0 15 rfl rfl)
theorem dX7_meets_16 : decode cX7_meets 16 = .ok (.if_icmp .ge 38, 3) := dk_162 0 38 (dk_at dksX7_meets_0 16 rfl rfl)
theorem dX7_meets_19 : decode cX7_meets 19 = .ok (.aload_n 0, 1) := dk_42 (dk_at dksX7_meets_0 19 rfl rfl)
theorem dX7_meets_20 : decode cX7_meets 20 = .ok (.iload_n 2, 1) := dk_28 (dk_at dksX7_meets_0 20 rfl rfl)
theorem dX7_meets_21 : decode cX7_meets 21 = .ok (.invokevirtual 169, 3) := dk_182 0 169 (dk_at dksX7_meets_0 21 rfl rfl)
theorem dX7_meets_24 : decode cX7_meets 24 = .ok (.ifCond .eq 24, 3) := dk_153 0 24 (dk_at dksX7_meets_1 0 rfl rfl)
theorem dX7_meets_27 : decode cX7_meets 27 = .ok (.aload_n 0, 1) := dk_42 (dk_at dksX7_meets_1 3 rfl rfl)
theorem dX7_meets_28 : decode cX7_meets 28 = .ok (.iload_n 3, 1) := dk_29 (dk_at dksX7_meets_1 4 rfl rfl)
theorem dX7_meets_29 : decode cX7_meets 29 = .ok (.invokevirtual 169, 3) := dk_182 0 169 (dk_at dksX7_meets_1 5 rfl rfl)
theorem dX7_meets_32 : decode cX7_meets 32 = .ok (.ifCond .eq 16, 3) := dk_153 0 16 (dk_at dksX7_meets_1 8 rfl rfl)
theorem dX7_meets_35 : decode cX7_meets 35 = .ok (.aload_n 0, 1) := dk_42 (dk_at dksX7_meets_1 11 rfl rfl)
theorem dX7_meets_36 : decode cX7_meets 36 = .ok (.iload_n 2, 1) := dk_28 (dk_at dksX7_meets_1 12 rfl rfl)
theorem dX7_meets_37 : decode cX7_meets 37 = .ok (.iload_n 3, 1) := dk_29 (dk_at dksX7_meets_1 13 rfl rfl)
theorem dX7_meets_38 : decode cX7_meets 38 = .ok (.invokevirtual 414, 3) := dk_182 1 158 (dk_at dksX7_meets_1 14 rfl rfl)
theorem dX7_meets_41 : decode cX7_meets 41 = .ok (.ifCond .eq 7, 3) := dk_153 0 7 (dk_at dksX7_meets_1 17 rfl rfl)
theorem dX7_meets_44 : decode cX7_meets 44 = .ok (.iload_n 1, 1) := dk_27 (dk_at dksX7_meets_1 20 rfl rfl)
theorem dX7_meets_45 : decode cX7_meets 45 = .ok (.iconst 1, 1) := dk_4 (dk_at dksX7_meets_1 21 rfl rfl)
theorem dX7_meets_46 : decode cX7_meets 46 = .ok (.iadd, 1) := dk_96 (dk_at dksX7_meets_1 22 rfl rfl)
theorem dX7_meets_47 : decode cX7_meets 47 = .ok (.istore_n 1, 1) := dk_60 (dk_at dksX7_meets_1 23 rfl rfl)
theorem dX7_meets_48 : decode cX7_meets 48 = .ok (.iinc 3 1, 3) := dk_132 3 1 (dk_at dksX7_meets_2 0 rfl rfl)
theorem dX7_meets_51 : decode cX7_meets 51 = .ok (.goto (-37), 3) := dk_167 255 219 (dk_at dksX7_meets_2 3 rfl rfl)
theorem dX7_meets_54 : decode cX7_meets 54 = .ok (.iinc 2 1, 3) := dk_132 2 1 (dk_at dksX7_meets_2 6 rfl rfl)
theorem dX7_meets_57 : decode cX7_meets 57 = .ok (.goto (-53), 3) := dk_167 255 203 (dk_at dksX7_meets_2 9 rfl rfl)
theorem dX7_meets_60 : decode cX7_meets 60 = .ok (.iload_n 1, 1) := dk_27 (dk_at dksX7_meets_2 12 rfl rfl)
theorem dX7_meets_61 : decode cX7_meets 61 = .ok (.ireturn, 1) := dk_172 (dk_at dksX7_meets_2 13 rfl rfl)
abbrev cX7_areMet : ByteArray := prog_21_method_87_code
def yX7_areMet : MethodName := ⟨RX7, "areMet", "(II)Z"⟩
def dkwX7_areMet_7 : List UInt8 := [172]
abbrev dktX7_areMet_7 : List UInt8 := dkwX7_areMet_7 ++ []
def dkwX7_areMet_6 : List UInt8 := [4, 96, 184, 0, 165, 46, 162, 0, 5, 4, 172, 132, 4, 1, 167, 255, 122, 132, 3, 1, 167, 255, 101, 3]
abbrev dktX7_areMet_6 : List UInt8 := dkwX7_areMet_6 ++ dktX7_areMet_7
def dkwX7_areMet_5 : List UInt8 := [184, 0, 165, 46, 162, 0, 31, 42, 180, 0, 34, 28, 21, 4, 184, 0, 165, 46, 42, 180, 0, 34, 27, 29]
abbrev dktX7_areMet_5 : List UInt8 := dkwX7_areMet_5 ++ dktX7_areMet_6
def dkwX7_areMet_4 : List UInt8 := [153, 0, 57, 42, 180, 0, 34, 27, 29, 184, 0, 165, 46, 42, 180, 0, 34, 28, 21, 4, 4, 96]
abbrev dktX7_areMet_4 : List UInt8 := dkwX7_areMet_4 ++ dktX7_areMet_5
def dkwX7_areMet_3 : List UInt8 := [180, 0, 31, 28, 21, 4, 184, 0, 165, 46, 160, 0, 7, 4, 167, 0, 4, 3, 54, 5, 21, 5]
abbrev dktX7_areMet_3 : List UInt8 := dkwX7_areMet_3 ++ dktX7_areMet_4
def dkwX7_areMet_2 : List UInt8 := [21, 4, 4, 96, 184, 0, 165, 46, 160, 0, 33, 42, 180, 0, 31, 27, 29, 4, 96, 184, 0, 165, 46, 42]
abbrev dktX7_areMet_2 : List UInt8 := dkwX7_areMet_2 ++ dktX7_areMet_3
def dkwX7_areMet_1 : List UInt8 := [180, 0, 28, 28, 46, 162, 0, 127, 42, 180, 0, 31, 27, 29, 184, 0, 165, 46, 42, 180, 0, 31, 28]
abbrev dktX7_areMet_1 : List UInt8 := dkwX7_areMet_1 ++ dktX7_areMet_2
def dkwX7_areMet_0 : List UInt8 := [3, 62, 29, 4, 96, 42, 180, 0, 28, 27, 46, 162, 0, 149, 3, 54, 4, 21, 4, 4, 96, 42]
abbrev dktX7_areMet_0 : List UInt8 := dkwX7_areMet_0 ++ dktX7_areMet_1
theorem dksX7_areMet_0 : cX7_areMet.data.toList.drop 0 = dktX7_areMet_0 := by decide +kernel
theorem dksX7_areMet_1 : cX7_areMet.data.toList.drop 22 = dktX7_areMet_1 := dk_seg dksX7_areMet_0 22 rfl rfl
theorem dksX7_areMet_2 : cX7_areMet.data.toList.drop 45 = dktX7_areMet_2 := dk_seg dksX7_areMet_1 23 rfl rfl
theorem dksX7_areMet_3 : cX7_areMet.data.toList.drop 69 = dktX7_areMet_3 := dk_seg dksX7_areMet_2 24 rfl rfl
theorem dksX7_areMet_4 : cX7_areMet.data.toList.drop 91 = dktX7_areMet_4 := dk_seg dksX7_areMet_3 22 rfl rfl
theorem dksX7_areMet_5 : cX7_areMet.data.toList.drop 113 = dktX7_areMet_5 := dk_seg dksX7_areMet_4 22 rfl rfl
theorem dksX7_areMet_6 : cX7_areMet.data.toList.drop 137 = dktX7_areMet_6 := dk_seg dksX7_areMet_5 24 rfl rfl
theorem dksX7_areMet_7 : cX7_areMet.data.toList.drop 161 = dktX7_areMet_7 := dk_seg dksX7_areMet_6 24 rfl rfl
theorem dX7_areMet_0 : decode cX7_areMet 0 = .ok (.iconst 0, 1) := dk_3 (dk_at dksX7_areMet_0 0 rfl rfl)
theorem dX7_areMet_1 : decode cX7_areMet 1 = .ok (.istore_n 3, 1) := dk_62 (dk_at dksX7_areMet_0 1 rfl rfl)
theorem dX7_areMet_2 : decode cX7_areMet 2 = .ok (.iload_n 3, 1) := dk_29 (dk_at dksX7_areMet_0 2 rfl rfl)
theorem dX7_areMet_3 : decode cX7_areMet 3 = .ok (.iconst 1, 1) := dk_4 (dk_at dksX7_areMet_0 3 rfl rfl)
theorem dX7_areMet_4 : decode cX7_areMet 4 = .ok (.iadd, 1) := dk_96 (dk_at dksX7_areMet_0 4 rfl rfl)
theorem dX7_areMet_5 : decode cX7_areMet 5 = .ok (.aload_n 0, 1) := dk_42 (dk_at dksX7_areMet_0 5 rfl rfl)
theorem dX7_areMet_6 : decode cX7_areMet 6 = .ok (.getfield 28, 3) := dk_180 0 28 (dk_at dksX7_areMet_0 6 rfl rfl)
theorem dX7_areMet_9 : decode cX7_areMet 9 = .ok (.iload_n 1, 1) := dk_27 (dk_at dksX7_areMet_0 9 rfl rfl)
theorem dX7_areMet_10 : decode cX7_areMet 10 = .ok (.iaload, 1) := dk_46 (dk_at dksX7_areMet_0 10 rfl rfl)
theorem dX7_areMet_11 : decode cX7_areMet 11 = .ok (.if_icmp .ge 149, 3) := dk_162 0 149 (dk_at dksX7_areMet_0 11 rfl rfl)
theorem dX7_areMet_14 : decode cX7_areMet 14 = .ok (.iconst 0, 1) := dk_3 (dk_at dksX7_areMet_0 14 rfl rfl)
theorem dX7_areMet_15 : decode cX7_areMet 15 = .ok (.istore 4, 2) := dk_54 4 (dk_at dksX7_areMet_0 15 rfl rfl)
theorem dX7_areMet_17 : decode cX7_areMet 17 = .ok (.iload 4, 2) := dk_21 4 (dk_at dksX7_areMet_0 17 rfl rfl)
theorem dX7_areMet_19 : decode cX7_areMet 19 = .ok (.iconst 1, 1) := dk_4 (dk_at dksX7_areMet_0 19 rfl rfl)
theorem dX7_areMet_20 : decode cX7_areMet 20 = .ok (.iadd, 1) := dk_96 (dk_at dksX7_areMet_0 20 rfl rfl)
theorem dX7_areMet_21 : decode cX7_areMet 21 = .ok (.aload_n 0, 1) := dk_42 (dk_at dksX7_areMet_0 21 rfl rfl)
theorem dX7_areMet_22 : decode cX7_areMet 22 = .ok (.getfield 28, 3) := dk_180 0 28 (dk_at dksX7_areMet_1 0 rfl rfl)
theorem dX7_areMet_25 : decode cX7_areMet 25 = .ok (.iload_n 2, 1) := dk_28 (dk_at dksX7_areMet_1 3 rfl rfl)
theorem dX7_areMet_26 : decode cX7_areMet 26 = .ok (.iaload, 1) := dk_46 (dk_at dksX7_areMet_1 4 rfl rfl)
theorem dX7_areMet_27 : decode cX7_areMet 27 = .ok (.if_icmp .ge 127, 3) := dk_162 0 127 (dk_at dksX7_areMet_1 5 rfl rfl)
theorem dX7_areMet_30 : decode cX7_areMet 30 = .ok (.aload_n 0, 1) := dk_42 (dk_at dksX7_areMet_1 8 rfl rfl)
theorem dX7_areMet_31 : decode cX7_areMet 31 = .ok (.getfield 31, 3) := dk_180 0 31 (dk_at dksX7_areMet_1 9 rfl rfl)
theorem dX7_areMet_34 : decode cX7_areMet 34 = .ok (.iload_n 1, 1) := dk_27 (dk_at dksX7_areMet_1 12 rfl rfl)
theorem dX7_areMet_35 : decode cX7_areMet 35 = .ok (.iload_n 3, 1) := dk_29 (dk_at dksX7_areMet_1 13 rfl rfl)
theorem dX7_areMet_36 : decode cX7_areMet 36 = .ok (.invokestatic 165, 3) := dk_184 0 165 (dk_at dksX7_areMet_1 14 rfl rfl)
theorem dX7_areMet_39 : decode cX7_areMet 39 = .ok (.iaload, 1) := dk_46 (dk_at dksX7_areMet_1 17 rfl rfl)
theorem dX7_areMet_40 : decode cX7_areMet 40 = .ok (.aload_n 0, 1) := dk_42 (dk_at dksX7_areMet_1 18 rfl rfl)
theorem dX7_areMet_41 : decode cX7_areMet 41 = .ok (.getfield 31, 3) := dk_180 0 31 (dk_at dksX7_areMet_1 19 rfl rfl)
theorem dX7_areMet_44 : decode cX7_areMet 44 = .ok (.iload_n 2, 1) := dk_28 (dk_at dksX7_areMet_1 22 rfl rfl)
theorem dX7_areMet_45 : decode cX7_areMet 45 = .ok (.iload 4, 2) := dk_21 4 (dk_at dksX7_areMet_2 0 rfl rfl)
theorem dX7_areMet_47 : decode cX7_areMet 47 = .ok (.iconst 1, 1) := dk_4 (dk_at dksX7_areMet_2 2 rfl rfl)
theorem dX7_areMet_48 : decode cX7_areMet 48 = .ok (.iadd, 1) := dk_96 (dk_at dksX7_areMet_2 3 rfl rfl)
theorem dX7_areMet_49 : decode cX7_areMet 49 = .ok (.invokestatic 165, 3) := dk_184 0 165 (dk_at dksX7_areMet_2 4 rfl rfl)
theorem dX7_areMet_52 : decode cX7_areMet 52 = .ok (.iaload, 1) := dk_46 (dk_at dksX7_areMet_2 7 rfl rfl)
theorem dX7_areMet_53 : decode cX7_areMet 53 = .ok (.if_icmp .ne 33, 3) := dk_160 0 33 (dk_at dksX7_areMet_2 8 rfl rfl)
theorem dX7_areMet_56 : decode cX7_areMet 56 = .ok (.aload_n 0, 1) := dk_42 (dk_at dksX7_areMet_2 11 rfl rfl)
theorem dX7_areMet_57 : decode cX7_areMet 57 = .ok (.getfield 31, 3) := dk_180 0 31 (dk_at dksX7_areMet_2 12 rfl rfl)
theorem dX7_areMet_60 : decode cX7_areMet 60 = .ok (.iload_n 1, 1) := dk_27 (dk_at dksX7_areMet_2 15 rfl rfl)
theorem dX7_areMet_61 : decode cX7_areMet 61 = .ok (.iload_n 3, 1) := dk_29 (dk_at dksX7_areMet_2 16 rfl rfl)
theorem dX7_areMet_62 : decode cX7_areMet 62 = .ok (.iconst 1, 1) := dk_4 (dk_at dksX7_areMet_2 17 rfl rfl)
theorem dX7_areMet_63 : decode cX7_areMet 63 = .ok (.iadd, 1) := dk_96 (dk_at dksX7_areMet_2 18 rfl rfl)
theorem dX7_areMet_64 : decode cX7_areMet 64 = .ok (.invokestatic 165, 3) := dk_184 0 165 (dk_at dksX7_areMet_2 19 rfl rfl)
theorem dX7_areMet_67 : decode cX7_areMet 67 = .ok (.iaload, 1) := dk_46 (dk_at dksX7_areMet_2 22 rfl rfl)
theorem dX7_areMet_68 : decode cX7_areMet 68 = .ok (.aload_n 0, 1) := dk_42 (dk_at dksX7_areMet_2 23 rfl rfl)
theorem dX7_areMet_69 : decode cX7_areMet 69 = .ok (.getfield 31, 3) := dk_180 0 31 (dk_at dksX7_areMet_3 0 rfl rfl)
theorem dX7_areMet_72 : decode cX7_areMet 72 = .ok (.iload_n 2, 1) := dk_28 (dk_at dksX7_areMet_3 3 rfl rfl)
theorem dX7_areMet_73 : decode cX7_areMet 73 = .ok (.iload 4, 2) := dk_21 4 (dk_at dksX7_areMet_3 4 rfl rfl)
theorem dX7_areMet_75 : decode cX7_areMet 75 = .ok (.invokestatic 165, 3) := dk_184 0 165 (dk_at dksX7_areMet_3 6 rfl rfl)
theorem dX7_areMet_78 : decode cX7_areMet 78 = .ok (.iaload, 1) := dk_46 (dk_at dksX7_areMet_3 9 rfl rfl)
theorem dX7_areMet_79 : decode cX7_areMet 79 = .ok (.if_icmp .ne 7, 3) := dk_160 0 7 (dk_at dksX7_areMet_3 10 rfl rfl)
theorem dX7_areMet_82 : decode cX7_areMet 82 = .ok (.iconst 1, 1) := dk_4 (dk_at dksX7_areMet_3 13 rfl rfl)
theorem dX7_areMet_83 : decode cX7_areMet 83 = .ok (.goto 4, 3) := dk_167 0 4 (dk_at dksX7_areMet_3 14 rfl rfl)
theorem dX7_areMet_86 : decode cX7_areMet 86 = .ok (.iconst 0, 1) := dk_3 (dk_at dksX7_areMet_3 17 rfl rfl)
theorem dX7_areMet_87 : decode cX7_areMet 87 = .ok (.istore 5, 2) := dk_54 5 (dk_at dksX7_areMet_3 18 rfl rfl)
theorem dX7_areMet_89 : decode cX7_areMet 89 = .ok (.iload 5, 2) := dk_21 5 (dk_at dksX7_areMet_3 20 rfl rfl)
theorem dX7_areMet_91 : decode cX7_areMet 91 = .ok (.ifCond .eq 57, 3) := dk_153 0 57 (dk_at dksX7_areMet_4 0 rfl rfl)
theorem dX7_areMet_94 : decode cX7_areMet 94 = .ok (.aload_n 0, 1) := dk_42 (dk_at dksX7_areMet_4 3 rfl rfl)
theorem dX7_areMet_95 : decode cX7_areMet 95 = .ok (.getfield 34, 3) := dk_180 0 34 (dk_at dksX7_areMet_4 4 rfl rfl)
theorem dX7_areMet_98 : decode cX7_areMet 98 = .ok (.iload_n 1, 1) := dk_27 (dk_at dksX7_areMet_4 7 rfl rfl)
theorem dX7_areMet_99 : decode cX7_areMet 99 = .ok (.iload_n 3, 1) := dk_29 (dk_at dksX7_areMet_4 8 rfl rfl)
theorem dX7_areMet_100 : decode cX7_areMet 100 = .ok (.invokestatic 165, 3) := dk_184 0 165 (dk_at dksX7_areMet_4 9 rfl rfl)
theorem dX7_areMet_103 : decode cX7_areMet 103 = .ok (.iaload, 1) := dk_46 (dk_at dksX7_areMet_4 12 rfl rfl)
theorem dX7_areMet_104 : decode cX7_areMet 104 = .ok (.aload_n 0, 1) := dk_42 (dk_at dksX7_areMet_4 13 rfl rfl)
theorem dX7_areMet_105 : decode cX7_areMet 105 = .ok (.getfield 34, 3) := dk_180 0 34 (dk_at dksX7_areMet_4 14 rfl rfl)
theorem dX7_areMet_108 : decode cX7_areMet 108 = .ok (.iload_n 2, 1) := dk_28 (dk_at dksX7_areMet_4 17 rfl rfl)
theorem dX7_areMet_109 : decode cX7_areMet 109 = .ok (.iload 4, 2) := dk_21 4 (dk_at dksX7_areMet_4 18 rfl rfl)
theorem dX7_areMet_111 : decode cX7_areMet 111 = .ok (.iconst 1, 1) := dk_4 (dk_at dksX7_areMet_4 20 rfl rfl)
theorem dX7_areMet_112 : decode cX7_areMet 112 = .ok (.iadd, 1) := dk_96 (dk_at dksX7_areMet_4 21 rfl rfl)
theorem dX7_areMet_113 : decode cX7_areMet 113 = .ok (.invokestatic 165, 3) := dk_184 0 165 (dk_at dksX7_areMet_5 0 rfl rfl)
theorem dX7_areMet_116 : decode cX7_areMet 116 = .ok (.iaload, 1) := dk_46 (dk_at dksX7_areMet_5 3 rfl rfl)
theorem dX7_areMet_117 : decode cX7_areMet 117 = .ok (.if_icmp .ge 31, 3) := dk_162 0 31 (dk_at dksX7_areMet_5 4 rfl rfl)
theorem dX7_areMet_120 : decode cX7_areMet 120 = .ok (.aload_n 0, 1) := dk_42 (dk_at dksX7_areMet_5 7 rfl rfl)
theorem dX7_areMet_121 : decode cX7_areMet 121 = .ok (.getfield 34, 3) := dk_180 0 34 (dk_at dksX7_areMet_5 8 rfl rfl)
theorem dX7_areMet_124 : decode cX7_areMet 124 = .ok (.iload_n 2, 1) := dk_28 (dk_at dksX7_areMet_5 11 rfl rfl)
theorem dX7_areMet_125 : decode cX7_areMet 125 = .ok (.iload 4, 2) := dk_21 4 (dk_at dksX7_areMet_5 12 rfl rfl)
theorem dX7_areMet_127 : decode cX7_areMet 127 = .ok (.invokestatic 165, 3) := dk_184 0 165 (dk_at dksX7_areMet_5 14 rfl rfl)
theorem dX7_areMet_130 : decode cX7_areMet 130 = .ok (.iaload, 1) := dk_46 (dk_at dksX7_areMet_5 17 rfl rfl)
theorem dX7_areMet_131 : decode cX7_areMet 131 = .ok (.aload_n 0, 1) := dk_42 (dk_at dksX7_areMet_5 18 rfl rfl)
theorem dX7_areMet_132 : decode cX7_areMet 132 = .ok (.getfield 34, 3) := dk_180 0 34 (dk_at dksX7_areMet_5 19 rfl rfl)
theorem dX7_areMet_135 : decode cX7_areMet 135 = .ok (.iload_n 1, 1) := dk_27 (dk_at dksX7_areMet_5 22 rfl rfl)
theorem dX7_areMet_136 : decode cX7_areMet 136 = .ok (.iload_n 3, 1) := dk_29 (dk_at dksX7_areMet_5 23 rfl rfl)
theorem dX7_areMet_137 : decode cX7_areMet 137 = .ok (.iconst 1, 1) := dk_4 (dk_at dksX7_areMet_6 0 rfl rfl)
theorem dX7_areMet_138 : decode cX7_areMet 138 = .ok (.iadd, 1) := dk_96 (dk_at dksX7_areMet_6 1 rfl rfl)
theorem dX7_areMet_139 : decode cX7_areMet 139 = .ok (.invokestatic 165, 3) := dk_184 0 165 (dk_at dksX7_areMet_6 2 rfl rfl)
theorem dX7_areMet_142 : decode cX7_areMet 142 = .ok (.iaload, 1) := dk_46 (dk_at dksX7_areMet_6 5 rfl rfl)
theorem dX7_areMet_143 : decode cX7_areMet 143 = .ok (.if_icmp .ge 5, 3) := dk_162 0 5 (dk_at dksX7_areMet_6 6 rfl rfl)
theorem dX7_areMet_146 : decode cX7_areMet 146 = .ok (.iconst 1, 1) := dk_4 (dk_at dksX7_areMet_6 9 rfl rfl)
theorem dX7_areMet_147 : decode cX7_areMet 147 = .ok (.ireturn, 1) := dk_172 (dk_at dksX7_areMet_6 10 rfl rfl)
theorem dX7_areMet_148 : decode cX7_areMet 148 = .ok (.iinc 4 1, 3) := dk_132 4 1 (dk_at dksX7_areMet_6 11 rfl rfl)
theorem dX7_areMet_151 : decode cX7_areMet 151 = .ok (.goto (-134), 3) := dk_167 255 122 (dk_at dksX7_areMet_6 14 rfl rfl)
theorem dX7_areMet_154 : decode cX7_areMet 154 = .ok (.iinc 3 1, 3) := dk_132 3 1 (dk_at dksX7_areMet_6 17 rfl rfl)
theorem dX7_areMet_157 : decode cX7_areMet 157 = .ok (.goto (-155), 3) := dk_167 255 101 (dk_at dksX7_areMet_6 20 rfl rfl)
theorem dX7_areMet_160 : decode cX7_areMet 160 = .ok (.iconst 0, 1) := dk_3 (dk_at dksX7_areMet_6 23 rfl rfl)
theorem dX7_areMet_161 : decode cX7_areMet 161 = .ok (.ireturn, 1) := dk_172 (dk_at dksX7_areMet_7 0 rfl rfl)
abbrev cX7_inspector : ByteArray := prog_21_method_90_code
def yX7_inspector : MethodName := ⟨RX7, "inspector", "(I)I"⟩
def dkwX7_inspector_7 : List UInt8 := [167, 255, 195, 132, 3, 1, 167, 255, 119, 28, 172]
abbrev dktX7_inspector_7 : List UInt8 := dkwX7_inspector_7 ++ []
def dkwX7_inspector_6 : List UInt8 := [184, 0, 165, 46, 21, 6, 4, 96, 184, 1, 86, 79, 28, 21, 6, 4, 96, 184, 1, 86, 61, 132, 7, 1]
abbrev dktX7_inspector_6 : List UInt8 := dkwX7_inspector_6 ++ dktX7_inspector_7
def dkwX7_inspector_5 : List UInt8 := [159, 0, 49, 42, 180, 0, 144, 21, 5, 21, 7, 184, 0, 165, 42, 180, 0, 144, 21, 5, 21, 7]
abbrev dktX7_inspector_5 : List UInt8 := dkwX7_inspector_5 ++ dktX7_inspector_6
def dkwX7_inspector_4 : List UInt8 := [21, 4, 16, 8, 112, 4, 96, 54, 7, 21, 7, 42, 180, 0, 28, 21, 5, 46, 162, 0, 55, 21, 6, 2]
abbrev dktX7_inspector_4 : List UInt8 := dkwX7_inspector_4 ++ dktX7_inspector_5
def dkwX7_inspector_3 : List UInt8 := [42, 180, 0, 28, 21, 5, 46, 4, 100, 160, 0, 6, 167, 0, 85, 42, 21, 4, 27, 182, 1, 161, 54, 6]
abbrev dktX7_inspector_3 : List UInt8 := dkwX7_inspector_3 ++ dktX7_inspector_4
def dkwX7_inspector_2 : List UInt8 := [46, 54, 4, 21, 4, 16, 8, 108, 54, 5, 42, 21, 5, 182, 0, 169, 153, 0, 105, 21, 4, 16, 8, 112]
abbrev dktX7_inspector_2 : List UInt8 := dkwX7_inspector_2 ++ dktX7_inspector_3
def dkwX7_inspector_1 : List UInt8 := [79, 132, 2, 1, 167, 255, 239, 3, 61, 3, 62, 29, 42, 180, 1, 48, 162, 0, 135, 42, 180, 0, 40, 29]
abbrev dktX7_inspector_1 : List UInt8 := dkwX7_inspector_1 ++ dktX7_inspector_2
def dkwX7_inspector_0 : List UInt8 := [27, 184, 0, 158, 154, 0, 5, 2, 172, 3, 61, 28, 17, 1, 128, 162, 0, 16, 42, 180, 0, 144, 28, 3]
abbrev dktX7_inspector_0 : List UInt8 := dkwX7_inspector_0 ++ dktX7_inspector_1
theorem dksX7_inspector_0 : cX7_inspector.data.toList.drop 0 = dktX7_inspector_0 := by decide +kernel
theorem dksX7_inspector_1 : cX7_inspector.data.toList.drop 24 = dktX7_inspector_1 := dk_seg dksX7_inspector_0 24 rfl rfl
theorem dksX7_inspector_2 : cX7_inspector.data.toList.drop 48 = dktX7_inspector_2 := dk_seg dksX7_inspector_1 24 rfl rfl
theorem dksX7_inspector_3 : cX7_inspector.data.toList.drop 72 = dktX7_inspector_3 := dk_seg dksX7_inspector_2 24 rfl rfl
theorem dksX7_inspector_4 : cX7_inspector.data.toList.drop 96 = dktX7_inspector_4 := dk_seg dksX7_inspector_3 24 rfl rfl
theorem dksX7_inspector_5 : cX7_inspector.data.toList.drop 120 = dktX7_inspector_5 := dk_seg dksX7_inspector_4 24 rfl rfl
theorem dksX7_inspector_6 : cX7_inspector.data.toList.drop 142 = dktX7_inspector_6 := dk_seg dksX7_inspector_5 22 rfl rfl
theorem dksX7_inspector_7 : cX7_inspector.data.toList.drop 166 = dktX7_inspector_7 := dk_seg dksX7_inspector_6 24 rfl rfl
theorem dX7_inspector_0 : decode cX7_inspector 0 = .ok (.iload_n 1, 1) := dk_27 (dk_at dksX7_inspector_0 0 rfl rfl)
theorem dX7_inspector_1 : decode cX7_inspector 1 = .ok (.invokestatic 158, 3) := dk_184 0 158 (dk_at dksX7_inspector_0 1 rfl rfl)
theorem dX7_inspector_4 : decode cX7_inspector 4 = .ok (.ifCond .ne 5, 3) := dk_154 0 5 (dk_at dksX7_inspector_0 4 rfl rfl)
theorem dX7_inspector_7 : decode cX7_inspector 7 = .ok (.iconst (-1), 1) := dk_2 (dk_at dksX7_inspector_0 7 rfl rfl)
theorem dX7_inspector_8 : decode cX7_inspector 8 = .ok (.ireturn, 1) := dk_172 (dk_at dksX7_inspector_0 8 rfl rfl)
theorem dX7_inspector_9 : decode cX7_inspector 9 = .ok (.iconst 0, 1) := dk_3 (dk_at dksX7_inspector_0 9 rfl rfl)
theorem dX7_inspector_10 : decode cX7_inspector 10 = .ok (.istore_n 2, 1) := dk_61 (dk_at dksX7_inspector_0 10 rfl rfl)
theorem dX7_inspector_11 : decode cX7_inspector 11 = .ok (.iload_n 2, 1) := dk_28 (dk_at dksX7_inspector_0 11 rfl rfl)
theorem dX7_inspector_12 : decode cX7_inspector 12 = .ok (.sipush 384, 3) := dk_17 1 128 (dk_at dksX7_inspector_0 12 rfl rfl)
theorem dX7_inspector_15 : decode cX7_inspector 15 = .ok (.if_icmp .ge 16, 3) := dk_162 0 16 (dk_at dksX7_inspector_0 15 rfl rfl)
theorem dX7_inspector_18 : decode cX7_inspector 18 = .ok (.aload_n 0, 1) := dk_42 (dk_at dksX7_inspector_0 18 rfl rfl)
theorem dX7_inspector_19 : decode cX7_inspector 19 = .ok (.getfield 144, 3) := dk_180 0 144 (dk_at dksX7_inspector_0 19 rfl rfl)
theorem dX7_inspector_22 : decode cX7_inspector 22 = .ok (.iload_n 2, 1) := dk_28 (dk_at dksX7_inspector_0 22 rfl rfl)
theorem dX7_inspector_23 : decode cX7_inspector 23 = .ok (.iconst 0, 1) := dk_3 (dk_at dksX7_inspector_0 23 rfl rfl)
theorem dX7_inspector_24 : decode cX7_inspector 24 = .ok (.iastore, 1) := dk_79 (dk_at dksX7_inspector_1 0 rfl rfl)
theorem dX7_inspector_25 : decode cX7_inspector 25 = .ok (.iinc 2 1, 3) := dk_132 2 1 (dk_at dksX7_inspector_1 1 rfl rfl)
theorem dX7_inspector_28 : decode cX7_inspector 28 = .ok (.goto (-17), 3) := dk_167 255 239 (dk_at dksX7_inspector_1 4 rfl rfl)
theorem dX7_inspector_31 : decode cX7_inspector 31 = .ok (.iconst 0, 1) := dk_3 (dk_at dksX7_inspector_1 7 rfl rfl)
theorem dX7_inspector_32 : decode cX7_inspector 32 = .ok (.istore_n 2, 1) := dk_61 (dk_at dksX7_inspector_1 8 rfl rfl)
theorem dX7_inspector_33 : decode cX7_inspector 33 = .ok (.iconst 0, 1) := dk_3 (dk_at dksX7_inspector_1 9 rfl rfl)
theorem dX7_inspector_34 : decode cX7_inspector 34 = .ok (.istore_n 3, 1) := dk_62 (dk_at dksX7_inspector_1 10 rfl rfl)
theorem dX7_inspector_35 : decode cX7_inspector 35 = .ok (.iload_n 3, 1) := dk_29 (dk_at dksX7_inspector_1 11 rfl rfl)
theorem dX7_inspector_36 : decode cX7_inspector 36 = .ok (.aload_n 0, 1) := dk_42 (dk_at dksX7_inspector_1 12 rfl rfl)
theorem dX7_inspector_37 : decode cX7_inspector 37 = .ok (.getfield 304, 3) := dk_180 1 48 (dk_at dksX7_inspector_1 13 rfl rfl)
theorem dX7_inspector_40 : decode cX7_inspector 40 = .ok (.if_icmp .ge 135, 3) := dk_162 0 135 (dk_at dksX7_inspector_1 16 rfl rfl)
theorem dX7_inspector_43 : decode cX7_inspector 43 = .ok (.aload_n 0, 1) := dk_42 (dk_at dksX7_inspector_1 19 rfl rfl)
theorem dX7_inspector_44 : decode cX7_inspector 44 = .ok (.getfield 40, 3) := dk_180 0 40 (dk_at dksX7_inspector_1 20 rfl rfl)
theorem dX7_inspector_47 : decode cX7_inspector 47 = .ok (.iload_n 3, 1) := dk_29 (dk_at dksX7_inspector_1 23 rfl rfl)
theorem dX7_inspector_48 : decode cX7_inspector 48 = .ok (.iaload, 1) := dk_46 (dk_at dksX7_inspector_2 0 rfl rfl)
theorem dX7_inspector_49 : decode cX7_inspector 49 = .ok (.istore 4, 2) := dk_54 4 (dk_at dksX7_inspector_2 1 rfl rfl)
theorem dX7_inspector_51 : decode cX7_inspector 51 = .ok (.iload 4, 2) := dk_21 4 (dk_at dksX7_inspector_2 3 rfl rfl)
theorem dX7_inspector_53 : decode cX7_inspector 53 = .ok (.bipush 8, 2) := dk_16 8 (dk_at dksX7_inspector_2 5 rfl rfl)
theorem dX7_inspector_55 : decode cX7_inspector 55 = .ok (.idiv, 1) := dk_108 (dk_at dksX7_inspector_2 7 rfl rfl)
theorem dX7_inspector_56 : decode cX7_inspector 56 = .ok (.istore 5, 2) := dk_54 5 (dk_at dksX7_inspector_2 8 rfl rfl)
theorem dX7_inspector_58 : decode cX7_inspector 58 = .ok (.aload_n 0, 1) := dk_42 (dk_at dksX7_inspector_2 10 rfl rfl)
theorem dX7_inspector_59 : decode cX7_inspector 59 = .ok (.iload 5, 2) := dk_21 5 (dk_at dksX7_inspector_2 11 rfl rfl)
theorem dX7_inspector_61 : decode cX7_inspector 61 = .ok (.invokevirtual 169, 3) := dk_182 0 169 (dk_at dksX7_inspector_2 13 rfl rfl)
theorem dX7_inspector_64 : decode cX7_inspector 64 = .ok (.ifCond .eq 105, 3) := dk_153 0 105 (dk_at dksX7_inspector_2 16 rfl rfl)
theorem dX7_inspector_67 : decode cX7_inspector 67 = .ok (.iload 4, 2) := dk_21 4 (dk_at dksX7_inspector_2 19 rfl rfl)
theorem dX7_inspector_69 : decode cX7_inspector 69 = .ok (.bipush 8, 2) := dk_16 8 (dk_at dksX7_inspector_2 21 rfl rfl)
theorem dX7_inspector_71 : decode cX7_inspector 71 = .ok (.irem, 1) := dk_112 (dk_at dksX7_inspector_2 23 rfl rfl)
theorem dX7_inspector_72 : decode cX7_inspector 72 = .ok (.aload_n 0, 1) := dk_42 (dk_at dksX7_inspector_3 0 rfl rfl)
theorem dX7_inspector_73 : decode cX7_inspector 73 = .ok (.getfield 28, 3) := dk_180 0 28 (dk_at dksX7_inspector_3 1 rfl rfl)
theorem dX7_inspector_76 : decode cX7_inspector 76 = .ok (.iload 5, 2) := dk_21 5 (dk_at dksX7_inspector_3 4 rfl rfl)
theorem dX7_inspector_78 : decode cX7_inspector 78 = .ok (.iaload, 1) := dk_46 (dk_at dksX7_inspector_3 6 rfl rfl)
theorem dX7_inspector_79 : decode cX7_inspector 79 = .ok (.iconst 1, 1) := dk_4 (dk_at dksX7_inspector_3 7 rfl rfl)
theorem dX7_inspector_80 : decode cX7_inspector 80 = .ok (.isub, 1) := dk_100 (dk_at dksX7_inspector_3 8 rfl rfl)
theorem dX7_inspector_81 : decode cX7_inspector 81 = .ok (.if_icmp .ne 6, 3) := dk_160 0 6 (dk_at dksX7_inspector_3 9 rfl rfl)
theorem dX7_inspector_84 : decode cX7_inspector 84 = .ok (.goto 85, 3) := dk_167 0 85 (dk_at dksX7_inspector_3 12 rfl rfl)
theorem dX7_inspector_87 : decode cX7_inspector 87 = .ok (.aload_n 0, 1) := dk_42 (dk_at dksX7_inspector_3 15 rfl rfl)
theorem dX7_inspector_88 : decode cX7_inspector 88 = .ok (.iload 4, 2) := dk_21 4 (dk_at dksX7_inspector_3 16 rfl rfl)
theorem dX7_inspector_90 : decode cX7_inspector 90 = .ok (.iload_n 1, 1) := dk_27 (dk_at dksX7_inspector_3 18 rfl rfl)
theorem dX7_inspector_91 : decode cX7_inspector 91 = .ok (.invokevirtual 417, 3) := dk_182 1 161 (dk_at dksX7_inspector_3 19 rfl rfl)
theorem dX7_inspector_94 : decode cX7_inspector 94 = .ok (.istore 6, 2) := dk_54 6 (dk_at dksX7_inspector_3 22 rfl rfl)
theorem dX7_inspector_96 : decode cX7_inspector 96 = .ok (.iload 4, 2) := dk_21 4 (dk_at dksX7_inspector_4 0 rfl rfl)
theorem dX7_inspector_98 : decode cX7_inspector 98 = .ok (.bipush 8, 2) := dk_16 8 (dk_at dksX7_inspector_4 2 rfl rfl)
theorem dX7_inspector_100 : decode cX7_inspector 100 = .ok (.irem, 1) := dk_112 (dk_at dksX7_inspector_4 4 rfl rfl)
theorem dX7_inspector_101 : decode cX7_inspector 101 = .ok (.iconst 1, 1) := dk_4 (dk_at dksX7_inspector_4 5 rfl rfl)
theorem dX7_inspector_102 : decode cX7_inspector 102 = .ok (.iadd, 1) := dk_96 (dk_at dksX7_inspector_4 6 rfl rfl)
theorem dX7_inspector_103 : decode cX7_inspector 103 = .ok (.istore 7, 2) := dk_54 7 (dk_at dksX7_inspector_4 7 rfl rfl)
theorem dX7_inspector_105 : decode cX7_inspector 105 = .ok (.iload 7, 2) := dk_21 7 (dk_at dksX7_inspector_4 9 rfl rfl)
theorem dX7_inspector_107 : decode cX7_inspector 107 = .ok (.aload_n 0, 1) := dk_42 (dk_at dksX7_inspector_4 11 rfl rfl)
theorem dX7_inspector_108 : decode cX7_inspector 108 = .ok (.getfield 28, 3) := dk_180 0 28 (dk_at dksX7_inspector_4 12 rfl rfl)
theorem dX7_inspector_111 : decode cX7_inspector 111 = .ok (.iload 5, 2) := dk_21 5 (dk_at dksX7_inspector_4 15 rfl rfl)
theorem dX7_inspector_113 : decode cX7_inspector 113 = .ok (.iaload, 1) := dk_46 (dk_at dksX7_inspector_4 17 rfl rfl)
theorem dX7_inspector_114 : decode cX7_inspector 114 = .ok (.if_icmp .ge 55, 3) := dk_162 0 55 (dk_at dksX7_inspector_4 18 rfl rfl)
theorem dX7_inspector_117 : decode cX7_inspector 117 = .ok (.iload 6, 2) := dk_21 6 (dk_at dksX7_inspector_4 21 rfl rfl)
theorem dX7_inspector_119 : decode cX7_inspector 119 = .ok (.iconst (-1), 1) := dk_2 (dk_at dksX7_inspector_4 23 rfl rfl)
theorem dX7_inspector_120 : decode cX7_inspector 120 = .ok (.if_icmp .eq 49, 3) := dk_159 0 49 (dk_at dksX7_inspector_5 0 rfl rfl)
theorem dX7_inspector_123 : decode cX7_inspector 123 = .ok (.aload_n 0, 1) := dk_42 (dk_at dksX7_inspector_5 3 rfl rfl)
theorem dX7_inspector_124 : decode cX7_inspector 124 = .ok (.getfield 144, 3) := dk_180 0 144 (dk_at dksX7_inspector_5 4 rfl rfl)
theorem dX7_inspector_127 : decode cX7_inspector 127 = .ok (.iload 5, 2) := dk_21 5 (dk_at dksX7_inspector_5 7 rfl rfl)
theorem dX7_inspector_129 : decode cX7_inspector 129 = .ok (.iload 7, 2) := dk_21 7 (dk_at dksX7_inspector_5 9 rfl rfl)
theorem dX7_inspector_131 : decode cX7_inspector 131 = .ok (.invokestatic 165, 3) := dk_184 0 165 (dk_at dksX7_inspector_5 11 rfl rfl)
theorem dX7_inspector_134 : decode cX7_inspector 134 = .ok (.aload_n 0, 1) := dk_42 (dk_at dksX7_inspector_5 14 rfl rfl)
theorem dX7_inspector_135 : decode cX7_inspector 135 = .ok (.getfield 144, 3) := dk_180 0 144 (dk_at dksX7_inspector_5 15 rfl rfl)
theorem dX7_inspector_138 : decode cX7_inspector 138 = .ok (.iload 5, 2) := dk_21 5 (dk_at dksX7_inspector_5 18 rfl rfl)
theorem dX7_inspector_140 : decode cX7_inspector 140 = .ok (.iload 7, 2) := dk_21 7 (dk_at dksX7_inspector_5 20 rfl rfl)
theorem dX7_inspector_142 : decode cX7_inspector 142 = .ok (.invokestatic 165, 3) := dk_184 0 165 (dk_at dksX7_inspector_6 0 rfl rfl)
theorem dX7_inspector_145 : decode cX7_inspector 145 = .ok (.iaload, 1) := dk_46 (dk_at dksX7_inspector_6 3 rfl rfl)
theorem dX7_inspector_146 : decode cX7_inspector 146 = .ok (.iload 6, 2) := dk_21 6 (dk_at dksX7_inspector_6 4 rfl rfl)
theorem dX7_inspector_148 : decode cX7_inspector 148 = .ok (.iconst 1, 1) := dk_4 (dk_at dksX7_inspector_6 6 rfl rfl)
theorem dX7_inspector_149 : decode cX7_inspector 149 = .ok (.iadd, 1) := dk_96 (dk_at dksX7_inspector_6 7 rfl rfl)
theorem dX7_inspector_150 : decode cX7_inspector 150 = .ok (.invokestatic 342, 3) := dk_184 1 86 (dk_at dksX7_inspector_6 8 rfl rfl)
theorem dX7_inspector_153 : decode cX7_inspector 153 = .ok (.iastore, 1) := dk_79 (dk_at dksX7_inspector_6 11 rfl rfl)
theorem dX7_inspector_154 : decode cX7_inspector 154 = .ok (.iload_n 2, 1) := dk_28 (dk_at dksX7_inspector_6 12 rfl rfl)
theorem dX7_inspector_155 : decode cX7_inspector 155 = .ok (.iload 6, 2) := dk_21 6 (dk_at dksX7_inspector_6 13 rfl rfl)
theorem dX7_inspector_157 : decode cX7_inspector 157 = .ok (.iconst 1, 1) := dk_4 (dk_at dksX7_inspector_6 15 rfl rfl)
theorem dX7_inspector_158 : decode cX7_inspector 158 = .ok (.iadd, 1) := dk_96 (dk_at dksX7_inspector_6 16 rfl rfl)
theorem dX7_inspector_159 : decode cX7_inspector 159 = .ok (.invokestatic 342, 3) := dk_184 1 86 (dk_at dksX7_inspector_6 17 rfl rfl)
theorem dX7_inspector_162 : decode cX7_inspector 162 = .ok (.istore_n 2, 1) := dk_61 (dk_at dksX7_inspector_6 20 rfl rfl)
theorem dX7_inspector_163 : decode cX7_inspector 163 = .ok (.iinc 7 1, 3) := dk_132 7 1 (dk_at dksX7_inspector_6 21 rfl rfl)
theorem dX7_inspector_166 : decode cX7_inspector 166 = .ok (.goto (-61), 3) := dk_167 255 195 (dk_at dksX7_inspector_7 0 rfl rfl)
theorem dX7_inspector_169 : decode cX7_inspector 169 = .ok (.iinc 3 1, 3) := dk_132 3 1 (dk_at dksX7_inspector_7 3 rfl rfl)
theorem dX7_inspector_172 : decode cX7_inspector 172 = .ok (.goto (-137), 3) := dk_167 255 119 (dk_at dksX7_inspector_7 6 rfl rfl)
theorem dX7_inspector_175 : decode cX7_inspector 175 = .ok (.iload_n 2, 1) := dk_28 (dk_at dksX7_inspector_7 9 rfl rfl)
theorem dX7_inspector_176 : decode cX7_inspector 176 = .ok (.ireturn, 1) := dk_172 (dk_at dksX7_inspector_7 10 rfl rfl)
abbrev cX7_mostAt : ByteArray := prog_21_method_89_code
def yX7_mostAt : MethodName := ⟨RX7, "mostAt", "(II)I"⟩
def dkwX7_mostAt_5 : List UInt8 := [132, 4, 1, 167, 255, 157, 29, 172]
abbrev dktX7_mostAt_5 : List UInt8 := dkwX7_mostAt_5 ++ []
def dkwX7_mostAt_4 : List UInt8 := [180, 0, 144, 21, 5, 46, 154, 0, 7, 2, 167, 0, 10, 42, 180, 0, 144, 21, 5, 46, 184, 1, 86, 62]
abbrev dktX7_mostAt_4 : List UInt8 := dkwX7_mostAt_4 ++ dktX7_mostAt_5
def dkwX7_mostAt_3 : List UInt8 := [21, 5, 46, 42, 180, 0, 150, 96, 42, 180, 0, 34, 27, 46, 164, 0, 6, 167, 0, 29, 29, 42]
abbrev dktX7_mostAt_3 : List UInt8 := dkwX7_mostAt_3 ++ dktX7_mostAt_4
def dkwX7_mostAt_2 : List UInt8 := [159, 0, 69, 42, 180, 0, 31, 21, 5, 46, 42, 180, 0, 31, 27, 46, 160, 0, 53, 42, 180, 0, 34]
abbrev dktX7_mostAt_2 : List UInt8 := dkwX7_mostAt_2 ++ dktX7_mostAt_3
def dkwX7_mostAt_1 : List UInt8 := [180, 1, 48, 162, 0, 96, 42, 180, 0, 40, 21, 4, 46, 54, 5, 21, 5, 16, 8, 108, 27, 16, 8, 108]
abbrev dktX7_mostAt_1 : List UInt8 := dkwX7_mostAt_1 ++ dktX7_mostAt_2
def dkwX7_mostAt_0 : List UInt8 := [42, 180, 0, 31, 27, 46, 28, 160, 0, 7, 3, 167, 0, 4, 2, 62, 3, 54, 4, 21, 4, 42]
abbrev dktX7_mostAt_0 : List UInt8 := dkwX7_mostAt_0 ++ dktX7_mostAt_1
theorem dksX7_mostAt_0 : cX7_mostAt.data.toList.drop 0 = dktX7_mostAt_0 := by decide +kernel
theorem dksX7_mostAt_1 : cX7_mostAt.data.toList.drop 22 = dktX7_mostAt_1 := dk_seg dksX7_mostAt_0 22 rfl rfl
theorem dksX7_mostAt_2 : cX7_mostAt.data.toList.drop 46 = dktX7_mostAt_2 := dk_seg dksX7_mostAt_1 24 rfl rfl
theorem dksX7_mostAt_3 : cX7_mostAt.data.toList.drop 69 = dktX7_mostAt_3 := dk_seg dksX7_mostAt_2 23 rfl rfl
theorem dksX7_mostAt_4 : cX7_mostAt.data.toList.drop 91 = dktX7_mostAt_4 := dk_seg dksX7_mostAt_3 22 rfl rfl
theorem dksX7_mostAt_5 : cX7_mostAt.data.toList.drop 115 = dktX7_mostAt_5 := dk_seg dksX7_mostAt_4 24 rfl rfl
theorem dX7_mostAt_0 : decode cX7_mostAt 0 = .ok (.aload_n 0, 1) := dk_42 (dk_at dksX7_mostAt_0 0 rfl rfl)
theorem dX7_mostAt_1 : decode cX7_mostAt 1 = .ok (.getfield 31, 3) := dk_180 0 31 (dk_at dksX7_mostAt_0 1 rfl rfl)
theorem dX7_mostAt_4 : decode cX7_mostAt 4 = .ok (.iload_n 1, 1) := dk_27 (dk_at dksX7_mostAt_0 4 rfl rfl)
theorem dX7_mostAt_5 : decode cX7_mostAt 5 = .ok (.iaload, 1) := dk_46 (dk_at dksX7_mostAt_0 5 rfl rfl)
theorem dX7_mostAt_6 : decode cX7_mostAt 6 = .ok (.iload_n 2, 1) := dk_28 (dk_at dksX7_mostAt_0 6 rfl rfl)
theorem dX7_mostAt_7 : decode cX7_mostAt 7 = .ok (.if_icmp .ne 7, 3) := dk_160 0 7 (dk_at dksX7_mostAt_0 7 rfl rfl)
theorem dX7_mostAt_10 : decode cX7_mostAt 10 = .ok (.iconst 0, 1) := dk_3 (dk_at dksX7_mostAt_0 10 rfl rfl)
theorem dX7_mostAt_11 : decode cX7_mostAt 11 = .ok (.goto 4, 3) := dk_167 0 4 (dk_at dksX7_mostAt_0 11 rfl rfl)
theorem dX7_mostAt_14 : decode cX7_mostAt 14 = .ok (.iconst (-1), 1) := dk_2 (dk_at dksX7_mostAt_0 14 rfl rfl)
theorem dX7_mostAt_15 : decode cX7_mostAt 15 = .ok (.istore_n 3, 1) := dk_62 (dk_at dksX7_mostAt_0 15 rfl rfl)
theorem dX7_mostAt_16 : decode cX7_mostAt 16 = .ok (.iconst 0, 1) := dk_3 (dk_at dksX7_mostAt_0 16 rfl rfl)
theorem dX7_mostAt_17 : decode cX7_mostAt 17 = .ok (.istore 4, 2) := dk_54 4 (dk_at dksX7_mostAt_0 17 rfl rfl)
theorem dX7_mostAt_19 : decode cX7_mostAt 19 = .ok (.iload 4, 2) := dk_21 4 (dk_at dksX7_mostAt_0 19 rfl rfl)
theorem dX7_mostAt_21 : decode cX7_mostAt 21 = .ok (.aload_n 0, 1) := dk_42 (dk_at dksX7_mostAt_0 21 rfl rfl)
theorem dX7_mostAt_22 : decode cX7_mostAt 22 = .ok (.getfield 304, 3) := dk_180 1 48 (dk_at dksX7_mostAt_1 0 rfl rfl)
theorem dX7_mostAt_25 : decode cX7_mostAt 25 = .ok (.if_icmp .ge 96, 3) := dk_162 0 96 (dk_at dksX7_mostAt_1 3 rfl rfl)
theorem dX7_mostAt_28 : decode cX7_mostAt 28 = .ok (.aload_n 0, 1) := dk_42 (dk_at dksX7_mostAt_1 6 rfl rfl)
theorem dX7_mostAt_29 : decode cX7_mostAt 29 = .ok (.getfield 40, 3) := dk_180 0 40 (dk_at dksX7_mostAt_1 7 rfl rfl)
theorem dX7_mostAt_32 : decode cX7_mostAt 32 = .ok (.iload 4, 2) := dk_21 4 (dk_at dksX7_mostAt_1 10 rfl rfl)
theorem dX7_mostAt_34 : decode cX7_mostAt 34 = .ok (.iaload, 1) := dk_46 (dk_at dksX7_mostAt_1 12 rfl rfl)
theorem dX7_mostAt_35 : decode cX7_mostAt 35 = .ok (.istore 5, 2) := dk_54 5 (dk_at dksX7_mostAt_1 13 rfl rfl)
theorem dX7_mostAt_37 : decode cX7_mostAt 37 = .ok (.iload 5, 2) := dk_21 5 (dk_at dksX7_mostAt_1 15 rfl rfl)
theorem dX7_mostAt_39 : decode cX7_mostAt 39 = .ok (.bipush 8, 2) := dk_16 8 (dk_at dksX7_mostAt_1 17 rfl rfl)
theorem dX7_mostAt_41 : decode cX7_mostAt 41 = .ok (.idiv, 1) := dk_108 (dk_at dksX7_mostAt_1 19 rfl rfl)
theorem dX7_mostAt_42 : decode cX7_mostAt 42 = .ok (.iload_n 1, 1) := dk_27 (dk_at dksX7_mostAt_1 20 rfl rfl)
theorem dX7_mostAt_43 : decode cX7_mostAt 43 = .ok (.bipush 8, 2) := dk_16 8 (dk_at dksX7_mostAt_1 21 rfl rfl)
theorem dX7_mostAt_45 : decode cX7_mostAt 45 = .ok (.idiv, 1) := dk_108 (dk_at dksX7_mostAt_1 23 rfl rfl)
theorem dX7_mostAt_46 : decode cX7_mostAt 46 = .ok (.if_icmp .eq 69, 3) := dk_159 0 69 (dk_at dksX7_mostAt_2 0 rfl rfl)
theorem dX7_mostAt_49 : decode cX7_mostAt 49 = .ok (.aload_n 0, 1) := dk_42 (dk_at dksX7_mostAt_2 3 rfl rfl)
theorem dX7_mostAt_50 : decode cX7_mostAt 50 = .ok (.getfield 31, 3) := dk_180 0 31 (dk_at dksX7_mostAt_2 4 rfl rfl)
theorem dX7_mostAt_53 : decode cX7_mostAt 53 = .ok (.iload 5, 2) := dk_21 5 (dk_at dksX7_mostAt_2 7 rfl rfl)
theorem dX7_mostAt_55 : decode cX7_mostAt 55 = .ok (.iaload, 1) := dk_46 (dk_at dksX7_mostAt_2 9 rfl rfl)
theorem dX7_mostAt_56 : decode cX7_mostAt 56 = .ok (.aload_n 0, 1) := dk_42 (dk_at dksX7_mostAt_2 10 rfl rfl)
theorem dX7_mostAt_57 : decode cX7_mostAt 57 = .ok (.getfield 31, 3) := dk_180 0 31 (dk_at dksX7_mostAt_2 11 rfl rfl)
theorem dX7_mostAt_60 : decode cX7_mostAt 60 = .ok (.iload_n 1, 1) := dk_27 (dk_at dksX7_mostAt_2 14 rfl rfl)
theorem dX7_mostAt_61 : decode cX7_mostAt 61 = .ok (.iaload, 1) := dk_46 (dk_at dksX7_mostAt_2 15 rfl rfl)
theorem dX7_mostAt_62 : decode cX7_mostAt 62 = .ok (.if_icmp .ne 53, 3) := dk_160 0 53 (dk_at dksX7_mostAt_2 16 rfl rfl)
theorem dX7_mostAt_65 : decode cX7_mostAt 65 = .ok (.aload_n 0, 1) := dk_42 (dk_at dksX7_mostAt_2 19 rfl rfl)
theorem dX7_mostAt_66 : decode cX7_mostAt 66 = .ok (.getfield 34, 3) := dk_180 0 34 (dk_at dksX7_mostAt_2 20 rfl rfl)
theorem dX7_mostAt_69 : decode cX7_mostAt 69 = .ok (.iload 5, 2) := dk_21 5 (dk_at dksX7_mostAt_3 0 rfl rfl)
theorem dX7_mostAt_71 : decode cX7_mostAt 71 = .ok (.iaload, 1) := dk_46 (dk_at dksX7_mostAt_3 2 rfl rfl)
theorem dX7_mostAt_72 : decode cX7_mostAt 72 = .ok (.aload_n 0, 1) := dk_42 (dk_at dksX7_mostAt_3 3 rfl rfl)
theorem dX7_mostAt_73 : decode cX7_mostAt 73 = .ok (.getfield 150, 3) := dk_180 0 150 (dk_at dksX7_mostAt_3 4 rfl rfl)
theorem dX7_mostAt_76 : decode cX7_mostAt 76 = .ok (.iadd, 1) := dk_96 (dk_at dksX7_mostAt_3 7 rfl rfl)
theorem dX7_mostAt_77 : decode cX7_mostAt 77 = .ok (.aload_n 0, 1) := dk_42 (dk_at dksX7_mostAt_3 8 rfl rfl)
theorem dX7_mostAt_78 : decode cX7_mostAt 78 = .ok (.getfield 34, 3) := dk_180 0 34 (dk_at dksX7_mostAt_3 9 rfl rfl)
theorem dX7_mostAt_81 : decode cX7_mostAt 81 = .ok (.iload_n 1, 1) := dk_27 (dk_at dksX7_mostAt_3 12 rfl rfl)
theorem dX7_mostAt_82 : decode cX7_mostAt 82 = .ok (.iaload, 1) := dk_46 (dk_at dksX7_mostAt_3 13 rfl rfl)
theorem dX7_mostAt_83 : decode cX7_mostAt 83 = .ok (.if_icmp .le 6, 3) := dk_164 0 6 (dk_at dksX7_mostAt_3 14 rfl rfl)
theorem dX7_mostAt_86 : decode cX7_mostAt 86 = .ok (.goto 29, 3) := dk_167 0 29 (dk_at dksX7_mostAt_3 17 rfl rfl)
theorem dX7_mostAt_89 : decode cX7_mostAt 89 = .ok (.iload_n 3, 1) := dk_29 (dk_at dksX7_mostAt_3 20 rfl rfl)
theorem dX7_mostAt_90 : decode cX7_mostAt 90 = .ok (.aload_n 0, 1) := dk_42 (dk_at dksX7_mostAt_3 21 rfl rfl)
theorem dX7_mostAt_91 : decode cX7_mostAt 91 = .ok (.getfield 144, 3) := dk_180 0 144 (dk_at dksX7_mostAt_4 0 rfl rfl)
theorem dX7_mostAt_94 : decode cX7_mostAt 94 = .ok (.iload 5, 2) := dk_21 5 (dk_at dksX7_mostAt_4 3 rfl rfl)
theorem dX7_mostAt_96 : decode cX7_mostAt 96 = .ok (.iaload, 1) := dk_46 (dk_at dksX7_mostAt_4 5 rfl rfl)
theorem dX7_mostAt_97 : decode cX7_mostAt 97 = .ok (.ifCond .ne 7, 3) := dk_154 0 7 (dk_at dksX7_mostAt_4 6 rfl rfl)
theorem dX7_mostAt_100 : decode cX7_mostAt 100 = .ok (.iconst (-1), 1) := dk_2 (dk_at dksX7_mostAt_4 9 rfl rfl)
theorem dX7_mostAt_101 : decode cX7_mostAt 101 = .ok (.goto 10, 3) := dk_167 0 10 (dk_at dksX7_mostAt_4 10 rfl rfl)
theorem dX7_mostAt_104 : decode cX7_mostAt 104 = .ok (.aload_n 0, 1) := dk_42 (dk_at dksX7_mostAt_4 13 rfl rfl)
theorem dX7_mostAt_105 : decode cX7_mostAt 105 = .ok (.getfield 144, 3) := dk_180 0 144 (dk_at dksX7_mostAt_4 14 rfl rfl)
theorem dX7_mostAt_108 : decode cX7_mostAt 108 = .ok (.iload 5, 2) := dk_21 5 (dk_at dksX7_mostAt_4 17 rfl rfl)
theorem dX7_mostAt_110 : decode cX7_mostAt 110 = .ok (.iaload, 1) := dk_46 (dk_at dksX7_mostAt_4 19 rfl rfl)
theorem dX7_mostAt_111 : decode cX7_mostAt 111 = .ok (.invokestatic 342, 3) := dk_184 1 86 (dk_at dksX7_mostAt_4 20 rfl rfl)
theorem dX7_mostAt_114 : decode cX7_mostAt 114 = .ok (.istore_n 3, 1) := dk_62 (dk_at dksX7_mostAt_4 23 rfl rfl)
theorem dX7_mostAt_115 : decode cX7_mostAt 115 = .ok (.iinc 4 1, 3) := dk_132 4 1 (dk_at dksX7_mostAt_5 0 rfl rfl)
theorem dX7_mostAt_118 : decode cX7_mostAt 118 = .ok (.goto (-99), 3) := dk_167 255 157 (dk_at dksX7_mostAt_5 3 rfl rfl)
theorem dX7_mostAt_121 : decode cX7_mostAt 121 = .ok (.iload_n 3, 1) := dk_29 (dk_at dksX7_mostAt_5 6 rfl rfl)
theorem dX7_mostAt_122 : decode cX7_mostAt 122 = .ok (.ireturn, 1) := dk_172 (dk_at dksX7_mostAt_5 7 rfl rfl)
abbrev cX7_busiest : ByteArray := prog_21_method_91_code
def yX7_busiest : MethodName := ⟨RX7, "busiest", "(I)I"⟩
def dkwX7_busiest_4 : List UInt8 := [27, 154, 0, 7, 28, 167, 0, 4, 29, 172]
abbrev dktX7_busiest_4 : List UInt8 := dkwX7_busiest_4 ++ []
def dkwX7_busiest_3 : List UInt8 := [167, 255, 217, 21, 5, 29, 163, 0, 6, 167, 0, 9, 21, 5, 62, 21, 4, 61, 132, 4, 1, 167, 255, 183]
abbrev dktX7_busiest_3 : List UInt8 := dkwX7_busiest_3 ++ dktX7_busiest_4
def dkwX7_busiest_2 : List UInt8 := [153, 0, 21, 42, 21, 6, 21, 4, 182, 0, 172, 2, 159, 0, 9, 21, 5, 4, 96, 54, 5, 132, 6, 1]
abbrev dktX7_busiest_2 : List UInt8 := dkwX7_busiest_2 ++ dktX7_busiest_3
def dkwX7_busiest_1 : List UInt8 := [162, 0, 72, 3, 54, 5, 3, 54, 6, 21, 6, 42, 180, 0, 162, 162, 0, 36, 42, 21, 6, 182, 0, 169]
abbrev dktX7_busiest_1 : List UInt8 := dkwX7_busiest_1 ++ dktX7_busiest_2
def dkwX7_busiest_0 : List UInt8 := [27, 3, 4, 184, 0, 154, 154, 0, 5, 2, 172, 16, 254, 61, 3, 62, 3, 54, 4, 21, 4, 16, 10]
abbrev dktX7_busiest_0 : List UInt8 := dkwX7_busiest_0 ++ dktX7_busiest_1
theorem dksX7_busiest_0 : cX7_busiest.data.toList.drop 0 = dktX7_busiest_0 := by decide +kernel
theorem dksX7_busiest_1 : cX7_busiest.data.toList.drop 23 = dktX7_busiest_1 := dk_seg dksX7_busiest_0 23 rfl rfl
theorem dksX7_busiest_2 : cX7_busiest.data.toList.drop 47 = dktX7_busiest_2 := dk_seg dksX7_busiest_1 24 rfl rfl
theorem dksX7_busiest_3 : cX7_busiest.data.toList.drop 71 = dktX7_busiest_3 := dk_seg dksX7_busiest_2 24 rfl rfl
theorem dksX7_busiest_4 : cX7_busiest.data.toList.drop 95 = dktX7_busiest_4 := dk_seg dksX7_busiest_3 24 rfl rfl
theorem dX7_busiest_0 : decode cX7_busiest 0 = .ok (.iload_n 1, 1) := dk_27 (dk_at dksX7_busiest_0 0 rfl rfl)
theorem dX7_busiest_1 : decode cX7_busiest 1 = .ok (.iconst 0, 1) := dk_3 (dk_at dksX7_busiest_0 1 rfl rfl)
theorem dX7_busiest_2 : decode cX7_busiest 2 = .ok (.iconst 1, 1) := dk_4 (dk_at dksX7_busiest_0 2 rfl rfl)
theorem dX7_busiest_3 : decode cX7_busiest 3 = .ok (.invokestatic 154, 3) := dk_184 0 154 (dk_at dksX7_busiest_0 3 rfl rfl)
theorem dX7_busiest_6 : decode cX7_busiest 6 = .ok (.ifCond .ne 5, 3) := dk_154 0 5 (dk_at dksX7_busiest_0 6 rfl rfl)
theorem dX7_busiest_9 : decode cX7_busiest 9 = .ok (.iconst (-1), 1) := dk_2 (dk_at dksX7_busiest_0 9 rfl rfl)
theorem dX7_busiest_10 : decode cX7_busiest 10 = .ok (.ireturn, 1) := dk_172 (dk_at dksX7_busiest_0 10 rfl rfl)
theorem dX7_busiest_11 : decode cX7_busiest 11 = .ok (.bipush (-2), 2) := dk_16 254 (dk_at dksX7_busiest_0 11 rfl rfl)
theorem dX7_busiest_13 : decode cX7_busiest 13 = .ok (.istore_n 2, 1) := dk_61 (dk_at dksX7_busiest_0 13 rfl rfl)
theorem dX7_busiest_14 : decode cX7_busiest 14 = .ok (.iconst 0, 1) := dk_3 (dk_at dksX7_busiest_0 14 rfl rfl)
theorem dX7_busiest_15 : decode cX7_busiest 15 = .ok (.istore_n 3, 1) := dk_62 (dk_at dksX7_busiest_0 15 rfl rfl)
theorem dX7_busiest_16 : decode cX7_busiest 16 = .ok (.iconst 0, 1) := dk_3 (dk_at dksX7_busiest_0 16 rfl rfl)
theorem dX7_busiest_17 : decode cX7_busiest 17 = .ok (.istore 4, 2) := dk_54 4 (dk_at dksX7_busiest_0 17 rfl rfl)
theorem dX7_busiest_19 : decode cX7_busiest 19 = .ok (.iload 4, 2) := dk_21 4 (dk_at dksX7_busiest_0 19 rfl rfl)
theorem dX7_busiest_21 : decode cX7_busiest 21 = .ok (.bipush 10, 2) := dk_16 10 (dk_at dksX7_busiest_0 21 rfl rfl)
theorem dX7_busiest_23 : decode cX7_busiest 23 = .ok (.if_icmp .ge 72, 3) := dk_162 0 72 (dk_at dksX7_busiest_1 0 rfl rfl)
theorem dX7_busiest_26 : decode cX7_busiest 26 = .ok (.iconst 0, 1) := dk_3 (dk_at dksX7_busiest_1 3 rfl rfl)
theorem dX7_busiest_27 : decode cX7_busiest 27 = .ok (.istore 5, 2) := dk_54 5 (dk_at dksX7_busiest_1 4 rfl rfl)
theorem dX7_busiest_29 : decode cX7_busiest 29 = .ok (.iconst 0, 1) := dk_3 (dk_at dksX7_busiest_1 6 rfl rfl)
theorem dX7_busiest_30 : decode cX7_busiest 30 = .ok (.istore 6, 2) := dk_54 6 (dk_at dksX7_busiest_1 7 rfl rfl)
theorem dX7_busiest_32 : decode cX7_busiest 32 = .ok (.iload 6, 2) := dk_21 6 (dk_at dksX7_busiest_1 9 rfl rfl)
theorem dX7_busiest_34 : decode cX7_busiest 34 = .ok (.aload_n 0, 1) := dk_42 (dk_at dksX7_busiest_1 11 rfl rfl)
theorem dX7_busiest_35 : decode cX7_busiest 35 = .ok (.getfield 162, 3) := dk_180 0 162 (dk_at dksX7_busiest_1 12 rfl rfl)
theorem dX7_busiest_38 : decode cX7_busiest 38 = .ok (.if_icmp .ge 36, 3) := dk_162 0 36 (dk_at dksX7_busiest_1 15 rfl rfl)
theorem dX7_busiest_41 : decode cX7_busiest 41 = .ok (.aload_n 0, 1) := dk_42 (dk_at dksX7_busiest_1 18 rfl rfl)
theorem dX7_busiest_42 : decode cX7_busiest 42 = .ok (.iload 6, 2) := dk_21 6 (dk_at dksX7_busiest_1 19 rfl rfl)
theorem dX7_busiest_44 : decode cX7_busiest 44 = .ok (.invokevirtual 169, 3) := dk_182 0 169 (dk_at dksX7_busiest_1 21 rfl rfl)
theorem dX7_busiest_47 : decode cX7_busiest 47 = .ok (.ifCond .eq 21, 3) := dk_153 0 21 (dk_at dksX7_busiest_2 0 rfl rfl)
theorem dX7_busiest_50 : decode cX7_busiest 50 = .ok (.aload_n 0, 1) := dk_42 (dk_at dksX7_busiest_2 3 rfl rfl)
theorem dX7_busiest_51 : decode cX7_busiest 51 = .ok (.iload 6, 2) := dk_21 6 (dk_at dksX7_busiest_2 4 rfl rfl)
theorem dX7_busiest_53 : decode cX7_busiest 53 = .ok (.iload 4, 2) := dk_21 4 (dk_at dksX7_busiest_2 6 rfl rfl)
theorem dX7_busiest_55 : decode cX7_busiest 55 = .ok (.invokevirtual 172, 3) := dk_182 0 172 (dk_at dksX7_busiest_2 8 rfl rfl)
theorem dX7_busiest_58 : decode cX7_busiest 58 = .ok (.iconst (-1), 1) := dk_2 (dk_at dksX7_busiest_2 11 rfl rfl)
theorem dX7_busiest_59 : decode cX7_busiest 59 = .ok (.if_icmp .eq 9, 3) := dk_159 0 9 (dk_at dksX7_busiest_2 12 rfl rfl)
theorem dX7_busiest_62 : decode cX7_busiest 62 = .ok (.iload 5, 2) := dk_21 5 (dk_at dksX7_busiest_2 15 rfl rfl)
theorem dX7_busiest_64 : decode cX7_busiest 64 = .ok (.iconst 1, 1) := dk_4 (dk_at dksX7_busiest_2 17 rfl rfl)
theorem dX7_busiest_65 : decode cX7_busiest 65 = .ok (.iadd, 1) := dk_96 (dk_at dksX7_busiest_2 18 rfl rfl)
theorem dX7_busiest_66 : decode cX7_busiest 66 = .ok (.istore 5, 2) := dk_54 5 (dk_at dksX7_busiest_2 19 rfl rfl)
theorem dX7_busiest_68 : decode cX7_busiest 68 = .ok (.iinc 6 1, 3) := dk_132 6 1 (dk_at dksX7_busiest_2 21 rfl rfl)
theorem dX7_busiest_71 : decode cX7_busiest 71 = .ok (.goto (-39), 3) := dk_167 255 217 (dk_at dksX7_busiest_3 0 rfl rfl)
theorem dX7_busiest_74 : decode cX7_busiest 74 = .ok (.iload 5, 2) := dk_21 5 (dk_at dksX7_busiest_3 3 rfl rfl)
theorem dX7_busiest_76 : decode cX7_busiest 76 = .ok (.iload_n 3, 1) := dk_29 (dk_at dksX7_busiest_3 5 rfl rfl)
theorem dX7_busiest_77 : decode cX7_busiest 77 = .ok (.if_icmp .gt 6, 3) := dk_163 0 6 (dk_at dksX7_busiest_3 6 rfl rfl)
theorem dX7_busiest_80 : decode cX7_busiest 80 = .ok (.goto 9, 3) := dk_167 0 9 (dk_at dksX7_busiest_3 9 rfl rfl)
theorem dX7_busiest_83 : decode cX7_busiest 83 = .ok (.iload 5, 2) := dk_21 5 (dk_at dksX7_busiest_3 12 rfl rfl)
theorem dX7_busiest_85 : decode cX7_busiest 85 = .ok (.istore_n 3, 1) := dk_62 (dk_at dksX7_busiest_3 14 rfl rfl)
theorem dX7_busiest_86 : decode cX7_busiest 86 = .ok (.iload 4, 2) := dk_21 4 (dk_at dksX7_busiest_3 15 rfl rfl)
theorem dX7_busiest_88 : decode cX7_busiest 88 = .ok (.istore_n 2, 1) := dk_61 (dk_at dksX7_busiest_3 17 rfl rfl)
theorem dX7_busiest_89 : decode cX7_busiest 89 = .ok (.iinc 4 1, 3) := dk_132 4 1 (dk_at dksX7_busiest_3 18 rfl rfl)
theorem dX7_busiest_92 : decode cX7_busiest 92 = .ok (.goto (-73), 3) := dk_167 255 183 (dk_at dksX7_busiest_3 21 rfl rfl)
theorem dX7_busiest_95 : decode cX7_busiest 95 = .ok (.iload_n 1, 1) := dk_27 (dk_at dksX7_busiest_4 0 rfl rfl)
theorem dX7_busiest_96 : decode cX7_busiest 96 = .ok (.ifCond .ne 7, 3) := dk_154 0 7 (dk_at dksX7_busiest_4 1 rfl rfl)
theorem dX7_busiest_99 : decode cX7_busiest 99 = .ok (.iload_n 2, 1) := dk_28 (dk_at dksX7_busiest_4 4 rfl rfl)
theorem dX7_busiest_100 : decode cX7_busiest 100 = .ok (.goto 4, 3) := dk_167 0 4 (dk_at dksX7_busiest_4 5 rfl rfl)
theorem dX7_busiest_103 : decode cX7_busiest 103 = .ok (.iload_n 3, 1) := dk_29 (dk_at dksX7_busiest_4 8 rfl rfl)
theorem dX7_busiest_104 : decode cX7_busiest 104 = .ok (.ireturn, 1) := dk_172 (dk_at dksX7_busiest_4 9 rfl rfl)
abbrev cX7_onTheWay : ByteArray := prog_21_method_92_code
def yX7_onTheWay : MethodName := ⟨RX7, "onTheWay", "(I)I"⟩
def dkwX7_onTheWay_2 : List UInt8 := [182, 1, 146, 184, 0, 154, 153, 0, 7, 28, 4, 96, 61, 132, 3, 1, 167, 255, 213, 28, 172]
abbrev dktX7_onTheWay_2 : List UInt8 := dkwX7_onTheWay_2 ++ []
def dkwX7_onTheWay_1 : List UInt8 := [162, 0, 41, 42, 29, 182, 0, 169, 153, 0, 27, 27, 42, 29, 8, 182, 1, 146, 42, 29, 16, 6]
abbrev dktX7_onTheWay_1 : List UInt8 := dkwX7_onTheWay_1 ++ dktX7_onTheWay_2
def dkwX7_onTheWay_0 : List UInt8 := [27, 3, 17, 5, 159, 184, 0, 154, 154, 0, 5, 2, 172, 3, 61, 3, 62, 29, 42, 180, 0, 162]
abbrev dktX7_onTheWay_0 : List UInt8 := dkwX7_onTheWay_0 ++ dktX7_onTheWay_1
theorem dksX7_onTheWay_0 : cX7_onTheWay.data.toList.drop 0 = dktX7_onTheWay_0 := by decide +kernel
theorem dksX7_onTheWay_1 : cX7_onTheWay.data.toList.drop 22 = dktX7_onTheWay_1 := dk_seg dksX7_onTheWay_0 22 rfl rfl
theorem dksX7_onTheWay_2 : cX7_onTheWay.data.toList.drop 44 = dktX7_onTheWay_2 := dk_seg dksX7_onTheWay_1 22 rfl rfl
theorem dX7_onTheWay_0 : decode cX7_onTheWay 0 = .ok (.iload_n 1, 1) := dk_27 (dk_at dksX7_onTheWay_0 0 rfl rfl)
theorem dX7_onTheWay_1 : decode cX7_onTheWay 1 = .ok (.iconst 0, 1) := dk_3 (dk_at dksX7_onTheWay_0 1 rfl rfl)
theorem dX7_onTheWay_2 : decode cX7_onTheWay 2 = .ok (.sipush 1439, 3) := dk_17 5 159 (dk_at dksX7_onTheWay_0 2 rfl rfl)
theorem dX7_onTheWay_5 : decode cX7_onTheWay 5 = .ok (.invokestatic 154, 3) := dk_184 0 154 (dk_at dksX7_onTheWay_0 5 rfl rfl)
theorem dX7_onTheWay_8 : decode cX7_onTheWay 8 = .ok (.ifCond .ne 5, 3) := dk_154 0 5 (dk_at dksX7_onTheWay_0 8 rfl rfl)
theorem dX7_onTheWay_11 : decode cX7_onTheWay 11 = .ok (.iconst (-1), 1) := dk_2 (dk_at dksX7_onTheWay_0 11 rfl rfl)
theorem dX7_onTheWay_12 : decode cX7_onTheWay 12 = .ok (.ireturn, 1) := dk_172 (dk_at dksX7_onTheWay_0 12 rfl rfl)
theorem dX7_onTheWay_13 : decode cX7_onTheWay 13 = .ok (.iconst 0, 1) := dk_3 (dk_at dksX7_onTheWay_0 13 rfl rfl)
theorem dX7_onTheWay_14 : decode cX7_onTheWay 14 = .ok (.istore_n 2, 1) := dk_61 (dk_at dksX7_onTheWay_0 14 rfl rfl)
theorem dX7_onTheWay_15 : decode cX7_onTheWay 15 = .ok (.iconst 0, 1) := dk_3 (dk_at dksX7_onTheWay_0 15 rfl rfl)
theorem dX7_onTheWay_16 : decode cX7_onTheWay 16 = .ok (.istore_n 3, 1) := dk_62 (dk_at dksX7_onTheWay_0 16 rfl rfl)
theorem dX7_onTheWay_17 : decode cX7_onTheWay 17 = .ok (.iload_n 3, 1) := dk_29 (dk_at dksX7_onTheWay_0 17 rfl rfl)
theorem dX7_onTheWay_18 : decode cX7_onTheWay 18 = .ok (.aload_n 0, 1) := dk_42 (dk_at dksX7_onTheWay_0 18 rfl rfl)
theorem dX7_onTheWay_19 : decode cX7_onTheWay 19 = .ok (.getfield 162, 3) := dk_180 0 162 (dk_at dksX7_onTheWay_0 19 rfl rfl)
theorem dX7_onTheWay_22 : decode cX7_onTheWay 22 = .ok (.if_icmp .ge 41, 3) := dk_162 0 41 (dk_at dksX7_onTheWay_1 0 rfl rfl)
theorem dX7_onTheWay_25 : decode cX7_onTheWay 25 = .ok (.aload_n 0, 1) := dk_42 (dk_at dksX7_onTheWay_1 3 rfl rfl)
theorem dX7_onTheWay_26 : decode cX7_onTheWay 26 = .ok (.iload_n 3, 1) := dk_29 (dk_at dksX7_onTheWay_1 4 rfl rfl)
theorem dX7_onTheWay_27 : decode cX7_onTheWay 27 = .ok (.invokevirtual 169, 3) := dk_182 0 169 (dk_at dksX7_onTheWay_1 5 rfl rfl)
theorem dX7_onTheWay_30 : decode cX7_onTheWay 30 = .ok (.ifCond .eq 27, 3) := dk_153 0 27 (dk_at dksX7_onTheWay_1 8 rfl rfl)
theorem dX7_onTheWay_33 : decode cX7_onTheWay 33 = .ok (.iload_n 1, 1) := dk_27 (dk_at dksX7_onTheWay_1 11 rfl rfl)
theorem dX7_onTheWay_34 : decode cX7_onTheWay 34 = .ok (.aload_n 0, 1) := dk_42 (dk_at dksX7_onTheWay_1 12 rfl rfl)
theorem dX7_onTheWay_35 : decode cX7_onTheWay 35 = .ok (.iload_n 3, 1) := dk_29 (dk_at dksX7_onTheWay_1 13 rfl rfl)
theorem dX7_onTheWay_36 : decode cX7_onTheWay 36 = .ok (.iconst 5, 1) := dk_8 (dk_at dksX7_onTheWay_1 14 rfl rfl)
theorem dX7_onTheWay_37 : decode cX7_onTheWay 37 = .ok (.invokevirtual 402, 3) := dk_182 1 146 (dk_at dksX7_onTheWay_1 15 rfl rfl)
theorem dX7_onTheWay_40 : decode cX7_onTheWay 40 = .ok (.aload_n 0, 1) := dk_42 (dk_at dksX7_onTheWay_1 18 rfl rfl)
theorem dX7_onTheWay_41 : decode cX7_onTheWay 41 = .ok (.iload_n 3, 1) := dk_29 (dk_at dksX7_onTheWay_1 19 rfl rfl)
theorem dX7_onTheWay_42 : decode cX7_onTheWay 42 = .ok (.bipush 6, 2) := dk_16 6 (dk_at dksX7_onTheWay_1 20 rfl rfl)
theorem dX7_onTheWay_44 : decode cX7_onTheWay 44 = .ok (.invokevirtual 402, 3) := dk_182 1 146 (dk_at dksX7_onTheWay_2 0 rfl rfl)
theorem dX7_onTheWay_47 : decode cX7_onTheWay 47 = .ok (.invokestatic 154, 3) := dk_184 0 154 (dk_at dksX7_onTheWay_2 3 rfl rfl)
theorem dX7_onTheWay_50 : decode cX7_onTheWay 50 = .ok (.ifCond .eq 7, 3) := dk_153 0 7 (dk_at dksX7_onTheWay_2 6 rfl rfl)
theorem dX7_onTheWay_53 : decode cX7_onTheWay 53 = .ok (.iload_n 2, 1) := dk_28 (dk_at dksX7_onTheWay_2 9 rfl rfl)
theorem dX7_onTheWay_54 : decode cX7_onTheWay 54 = .ok (.iconst 1, 1) := dk_4 (dk_at dksX7_onTheWay_2 10 rfl rfl)
theorem dX7_onTheWay_55 : decode cX7_onTheWay 55 = .ok (.iadd, 1) := dk_96 (dk_at dksX7_onTheWay_2 11 rfl rfl)
theorem dX7_onTheWay_56 : decode cX7_onTheWay 56 = .ok (.istore_n 2, 1) := dk_61 (dk_at dksX7_onTheWay_2 12 rfl rfl)
theorem dX7_onTheWay_57 : decode cX7_onTheWay 57 = .ok (.iinc 3 1, 3) := dk_132 3 1 (dk_at dksX7_onTheWay_2 13 rfl rfl)
theorem dX7_onTheWay_60 : decode cX7_onTheWay 60 = .ok (.goto (-43), 3) := dk_167 255 213 (dk_at dksX7_onTheWay_2 16 rfl rfl)
theorem dX7_onTheWay_63 : decode cX7_onTheWay 63 = .ok (.iload_n 2, 1) := dk_28 (dk_at dksX7_onTheWay_2 19 rfl rfl)
theorem dX7_onTheWay_64 : decode cX7_onTheWay 64 = .ok (.ireturn, 1) := dk_172 (dk_at dksX7_onTheWay_2 20 rfl rfl)
abbrev cX7_regular : ByteArray := prog_21_method_93_code
def yX7_regular : MethodName := ⟨RX7, "regular", "(II)I"⟩
def dkwX7_regular_6 : List UInt8 := [167, 0, 5, 21, 5, 172]
abbrev dktX7_regular_6 : List UInt8 := dkwX7_regular_6 ++ []
def dkwX7_regular_5 : List UInt8 := [54, 4, 132, 6, 1, 167, 255, 167, 28, 154, 0, 7, 29, 167, 0, 15, 28, 4, 160, 0, 8, 21, 4]
abbrev dktX7_regular_5 : List UInt8 := dkwX7_regular_5 ++ dktX7_regular_6
def dkwX7_regular_4 : List UInt8 := [158, 0, 7, 29, 4, 96, 62, 21, 7, 21, 5, 163, 0, 6, 167, 0, 11, 21, 7, 54, 5, 21, 6]
abbrev dktX7_regular_4 : List UInt8 := dkwX7_regular_4 ++ dktX7_regular_5
def dkwX7_regular_3 : List UInt8 := [16, 60, 112, 21, 6, 160, 0, 9, 21, 7, 4, 96, 54, 7, 132, 8, 1, 167, 255, 213, 21, 7]
abbrev dktX7_regular_3 : List UInt8 := dkwX7_regular_3 ++ dktX7_regular_4
def dkwX7_regular_2 : List UInt8 := [180, 0, 162, 162, 0, 40, 42, 21, 8, 27, 182, 1, 125, 153, 0, 24, 42, 21, 8, 27, 182, 1, 128]
abbrev dktX7_regular_2 : List UInt8 := dkwX7_regular_2 ++ dktX7_regular_3
def dkwX7_regular_1 : List UInt8 := [3, 54, 5, 3, 54, 6, 21, 6, 16, 60, 162, 0, 88, 3, 54, 7, 3, 54, 8, 21, 8, 42]
abbrev dktX7_regular_1 : List UInt8 := dkwX7_regular_1 ++ dktX7_regular_2
def dkwX7_regular_0 : List UInt8 := [27, 184, 0, 158, 153, 0, 12, 28, 3, 5, 184, 0, 154, 154, 0, 5, 2, 172, 3, 62, 16, 254, 54, 4]
abbrev dktX7_regular_0 : List UInt8 := dkwX7_regular_0 ++ dktX7_regular_1
theorem dksX7_regular_0 : cX7_regular.data.toList.drop 0 = dktX7_regular_0 := by decide +kernel
theorem dksX7_regular_1 : cX7_regular.data.toList.drop 24 = dktX7_regular_1 := dk_seg dksX7_regular_0 24 rfl rfl
theorem dksX7_regular_2 : cX7_regular.data.toList.drop 46 = dktX7_regular_2 := dk_seg dksX7_regular_1 22 rfl rfl
theorem dksX7_regular_3 : cX7_regular.data.toList.drop 69 = dktX7_regular_3 := dk_seg dksX7_regular_2 23 rfl rfl
theorem dksX7_regular_4 : cX7_regular.data.toList.drop 91 = dktX7_regular_4 := dk_seg dksX7_regular_3 22 rfl rfl
theorem dksX7_regular_5 : cX7_regular.data.toList.drop 114 = dktX7_regular_5 := dk_seg dksX7_regular_4 23 rfl rfl
theorem dksX7_regular_6 : cX7_regular.data.toList.drop 137 = dktX7_regular_6 := dk_seg dksX7_regular_5 23 rfl rfl
theorem dX7_regular_0 : decode cX7_regular 0 = .ok (.iload_n 1, 1) := dk_27 (dk_at dksX7_regular_0 0 rfl rfl)
theorem dX7_regular_1 : decode cX7_regular 1 = .ok (.invokestatic 158, 3) := dk_184 0 158 (dk_at dksX7_regular_0 1 rfl rfl)
theorem dX7_regular_4 : decode cX7_regular 4 = .ok (.ifCond .eq 12, 3) := dk_153 0 12 (dk_at dksX7_regular_0 4 rfl rfl)
theorem dX7_regular_7 : decode cX7_regular 7 = .ok (.iload_n 2, 1) := dk_28 (dk_at dksX7_regular_0 7 rfl rfl)
theorem dX7_regular_8 : decode cX7_regular 8 = .ok (.iconst 0, 1) := dk_3 (dk_at dksX7_regular_0 8 rfl rfl)
theorem dX7_regular_9 : decode cX7_regular 9 = .ok (.iconst 2, 1) := dk_5 (dk_at dksX7_regular_0 9 rfl rfl)
theorem dX7_regular_10 : decode cX7_regular 10 = .ok (.invokestatic 154, 3) := dk_184 0 154 (dk_at dksX7_regular_0 10 rfl rfl)
theorem dX7_regular_13 : decode cX7_regular 13 = .ok (.ifCond .ne 5, 3) := dk_154 0 5 (dk_at dksX7_regular_0 13 rfl rfl)
theorem dX7_regular_16 : decode cX7_regular 16 = .ok (.iconst (-1), 1) := dk_2 (dk_at dksX7_regular_0 16 rfl rfl)
theorem dX7_regular_17 : decode cX7_regular 17 = .ok (.ireturn, 1) := dk_172 (dk_at dksX7_regular_0 17 rfl rfl)
theorem dX7_regular_18 : decode cX7_regular 18 = .ok (.iconst 0, 1) := dk_3 (dk_at dksX7_regular_0 18 rfl rfl)
theorem dX7_regular_19 : decode cX7_regular 19 = .ok (.istore_n 3, 1) := dk_62 (dk_at dksX7_regular_0 19 rfl rfl)
theorem dX7_regular_20 : decode cX7_regular 20 = .ok (.bipush (-2), 2) := dk_16 254 (dk_at dksX7_regular_0 20 rfl rfl)
theorem dX7_regular_22 : decode cX7_regular 22 = .ok (.istore 4, 2) := dk_54 4 (dk_at dksX7_regular_0 22 rfl rfl)
theorem dX7_regular_24 : decode cX7_regular 24 = .ok (.iconst 0, 1) := dk_3 (dk_at dksX7_regular_1 0 rfl rfl)
theorem dX7_regular_25 : decode cX7_regular 25 = .ok (.istore 5, 2) := dk_54 5 (dk_at dksX7_regular_1 1 rfl rfl)
theorem dX7_regular_27 : decode cX7_regular 27 = .ok (.iconst 0, 1) := dk_3 (dk_at dksX7_regular_1 3 rfl rfl)
theorem dX7_regular_28 : decode cX7_regular 28 = .ok (.istore 6, 2) := dk_54 6 (dk_at dksX7_regular_1 4 rfl rfl)
theorem dX7_regular_30 : decode cX7_regular 30 = .ok (.iload 6, 2) := dk_21 6 (dk_at dksX7_regular_1 6 rfl rfl)
theorem dX7_regular_32 : decode cX7_regular 32 = .ok (.bipush 60, 2) := dk_16 60 (dk_at dksX7_regular_1 8 rfl rfl)
theorem dX7_regular_34 : decode cX7_regular 34 = .ok (.if_icmp .ge 88, 3) := dk_162 0 88 (dk_at dksX7_regular_1 10 rfl rfl)
theorem dX7_regular_37 : decode cX7_regular 37 = .ok (.iconst 0, 1) := dk_3 (dk_at dksX7_regular_1 13 rfl rfl)
theorem dX7_regular_38 : decode cX7_regular 38 = .ok (.istore 7, 2) := dk_54 7 (dk_at dksX7_regular_1 14 rfl rfl)
theorem dX7_regular_40 : decode cX7_regular 40 = .ok (.iconst 0, 1) := dk_3 (dk_at dksX7_regular_1 16 rfl rfl)
theorem dX7_regular_41 : decode cX7_regular 41 = .ok (.istore 8, 2) := dk_54 8 (dk_at dksX7_regular_1 17 rfl rfl)
theorem dX7_regular_43 : decode cX7_regular 43 = .ok (.iload 8, 2) := dk_21 8 (dk_at dksX7_regular_1 19 rfl rfl)
theorem dX7_regular_45 : decode cX7_regular 45 = .ok (.aload_n 0, 1) := dk_42 (dk_at dksX7_regular_1 21 rfl rfl)
theorem dX7_regular_46 : decode cX7_regular 46 = .ok (.getfield 162, 3) := dk_180 0 162 (dk_at dksX7_regular_2 0 rfl rfl)
theorem dX7_regular_49 : decode cX7_regular 49 = .ok (.if_icmp .ge 40, 3) := dk_162 0 40 (dk_at dksX7_regular_2 3 rfl rfl)
theorem dX7_regular_52 : decode cX7_regular 52 = .ok (.aload_n 0, 1) := dk_42 (dk_at dksX7_regular_2 6 rfl rfl)
theorem dX7_regular_53 : decode cX7_regular 53 = .ok (.iload 8, 2) := dk_21 8 (dk_at dksX7_regular_2 7 rfl rfl)
theorem dX7_regular_55 : decode cX7_regular 55 = .ok (.iload_n 1, 1) := dk_27 (dk_at dksX7_regular_2 9 rfl rfl)
theorem dX7_regular_56 : decode cX7_regular 56 = .ok (.invokevirtual 381, 3) := dk_182 1 125 (dk_at dksX7_regular_2 10 rfl rfl)
theorem dX7_regular_59 : decode cX7_regular 59 = .ok (.ifCond .eq 24, 3) := dk_153 0 24 (dk_at dksX7_regular_2 13 rfl rfl)
theorem dX7_regular_62 : decode cX7_regular 62 = .ok (.aload_n 0, 1) := dk_42 (dk_at dksX7_regular_2 16 rfl rfl)
theorem dX7_regular_63 : decode cX7_regular 63 = .ok (.iload 8, 2) := dk_21 8 (dk_at dksX7_regular_2 17 rfl rfl)
theorem dX7_regular_65 : decode cX7_regular 65 = .ok (.iload_n 1, 1) := dk_27 (dk_at dksX7_regular_2 19 rfl rfl)
theorem dX7_regular_66 : decode cX7_regular 66 = .ok (.invokevirtual 384, 3) := dk_182 1 128 (dk_at dksX7_regular_2 20 rfl rfl)
theorem dX7_regular_69 : decode cX7_regular 69 = .ok (.bipush 60, 2) := dk_16 60 (dk_at dksX7_regular_3 0 rfl rfl)
theorem dX7_regular_71 : decode cX7_regular 71 = .ok (.irem, 1) := dk_112 (dk_at dksX7_regular_3 2 rfl rfl)
theorem dX7_regular_72 : decode cX7_regular 72 = .ok (.iload 6, 2) := dk_21 6 (dk_at dksX7_regular_3 3 rfl rfl)
theorem dX7_regular_74 : decode cX7_regular 74 = .ok (.if_icmp .ne 9, 3) := dk_160 0 9 (dk_at dksX7_regular_3 5 rfl rfl)
theorem dX7_regular_77 : decode cX7_regular 77 = .ok (.iload 7, 2) := dk_21 7 (dk_at dksX7_regular_3 8 rfl rfl)
theorem dX7_regular_79 : decode cX7_regular 79 = .ok (.iconst 1, 1) := dk_4 (dk_at dksX7_regular_3 10 rfl rfl)
theorem dX7_regular_80 : decode cX7_regular 80 = .ok (.iadd, 1) := dk_96 (dk_at dksX7_regular_3 11 rfl rfl)
theorem dX7_regular_81 : decode cX7_regular 81 = .ok (.istore 7, 2) := dk_54 7 (dk_at dksX7_regular_3 12 rfl rfl)
theorem dX7_regular_83 : decode cX7_regular 83 = .ok (.iinc 8 1, 3) := dk_132 8 1 (dk_at dksX7_regular_3 14 rfl rfl)
theorem dX7_regular_86 : decode cX7_regular 86 = .ok (.goto (-43), 3) := dk_167 255 213 (dk_at dksX7_regular_3 17 rfl rfl)
theorem dX7_regular_89 : decode cX7_regular 89 = .ok (.iload 7, 2) := dk_21 7 (dk_at dksX7_regular_3 20 rfl rfl)
theorem dX7_regular_91 : decode cX7_regular 91 = .ok (.ifCond .le 7, 3) := dk_158 0 7 (dk_at dksX7_regular_4 0 rfl rfl)
theorem dX7_regular_94 : decode cX7_regular 94 = .ok (.iload_n 3, 1) := dk_29 (dk_at dksX7_regular_4 3 rfl rfl)
theorem dX7_regular_95 : decode cX7_regular 95 = .ok (.iconst 1, 1) := dk_4 (dk_at dksX7_regular_4 4 rfl rfl)
theorem dX7_regular_96 : decode cX7_regular 96 = .ok (.iadd, 1) := dk_96 (dk_at dksX7_regular_4 5 rfl rfl)
theorem dX7_regular_97 : decode cX7_regular 97 = .ok (.istore_n 3, 1) := dk_62 (dk_at dksX7_regular_4 6 rfl rfl)
theorem dX7_regular_98 : decode cX7_regular 98 = .ok (.iload 7, 2) := dk_21 7 (dk_at dksX7_regular_4 7 rfl rfl)
theorem dX7_regular_100 : decode cX7_regular 100 = .ok (.iload 5, 2) := dk_21 5 (dk_at dksX7_regular_4 9 rfl rfl)
theorem dX7_regular_102 : decode cX7_regular 102 = .ok (.if_icmp .gt 6, 3) := dk_163 0 6 (dk_at dksX7_regular_4 11 rfl rfl)
theorem dX7_regular_105 : decode cX7_regular 105 = .ok (.goto 11, 3) := dk_167 0 11 (dk_at dksX7_regular_4 14 rfl rfl)
theorem dX7_regular_108 : decode cX7_regular 108 = .ok (.iload 7, 2) := dk_21 7 (dk_at dksX7_regular_4 17 rfl rfl)
theorem dX7_regular_110 : decode cX7_regular 110 = .ok (.istore 5, 2) := dk_54 5 (dk_at dksX7_regular_4 19 rfl rfl)
theorem dX7_regular_112 : decode cX7_regular 112 = .ok (.iload 6, 2) := dk_21 6 (dk_at dksX7_regular_4 21 rfl rfl)
theorem dX7_regular_114 : decode cX7_regular 114 = .ok (.istore 4, 2) := dk_54 4 (dk_at dksX7_regular_5 0 rfl rfl)
theorem dX7_regular_116 : decode cX7_regular 116 = .ok (.iinc 6 1, 3) := dk_132 6 1 (dk_at dksX7_regular_5 2 rfl rfl)
theorem dX7_regular_119 : decode cX7_regular 119 = .ok (.goto (-89), 3) := dk_167 255 167 (dk_at dksX7_regular_5 5 rfl rfl)
theorem dX7_regular_122 : decode cX7_regular 122 = .ok (.iload_n 2, 1) := dk_28 (dk_at dksX7_regular_5 8 rfl rfl)
theorem dX7_regular_123 : decode cX7_regular 123 = .ok (.ifCond .ne 7, 3) := dk_154 0 7 (dk_at dksX7_regular_5 9 rfl rfl)
theorem dX7_regular_126 : decode cX7_regular 126 = .ok (.iload_n 3, 1) := dk_29 (dk_at dksX7_regular_5 12 rfl rfl)
theorem dX7_regular_127 : decode cX7_regular 127 = .ok (.goto 15, 3) := dk_167 0 15 (dk_at dksX7_regular_5 13 rfl rfl)
theorem dX7_regular_130 : decode cX7_regular 130 = .ok (.iload_n 2, 1) := dk_28 (dk_at dksX7_regular_5 16 rfl rfl)
theorem dX7_regular_131 : decode cX7_regular 131 = .ok (.iconst 1, 1) := dk_4 (dk_at dksX7_regular_5 17 rfl rfl)
theorem dX7_regular_132 : decode cX7_regular 132 = .ok (.if_icmp .ne 8, 3) := dk_160 0 8 (dk_at dksX7_regular_5 18 rfl rfl)
theorem dX7_regular_135 : decode cX7_regular 135 = .ok (.iload 4, 2) := dk_21 4 (dk_at dksX7_regular_5 21 rfl rfl)
theorem dX7_regular_137 : decode cX7_regular 137 = .ok (.goto 5, 3) := dk_167 0 5 (dk_at dksX7_regular_6 0 rfl rfl)
theorem dX7_regular_140 : decode cX7_regular 140 = .ok (.iload 5, 2) := dk_21 5 (dk_at dksX7_regular_6 3 rfl rfl)
theorem dX7_regular_142 : decode cX7_regular 142 = .ok (.ireturn, 1) := dk_172 (dk_at dksX7_regular_6 5 rfl rfl)
abbrev cX7_fares : ByteArray := prog_21_method_94_code
def yX7_fares : MethodName := ⟨RX7, "fares", "(II)I"⟩
def dkwX7_fares_8 : List UInt8 := [132, 4, 1, 167, 255, 206, 132, 3, 255, 167, 255, 146, 42, 180, 0, 147, 3, 46, 172]
abbrev dktX7_fares_8 : List UInt8 := dkwX7_fares_8 ++ []
def dkwX7_fares_7 : List UInt8 := [182, 1, 165, 42, 180, 0, 147, 29, 42, 5, 21, 4, 104, 182, 1, 165, 96, 46, 96, 184, 1, 66, 79]
abbrev dktX7_fares_7 : List UInt8 := dkwX7_fares_7 ++ dktX7_fares_8
def dkwX7_fares_6 : List UInt8 := [21, 4, 27, 162, 0, 50, 42, 180, 0, 147, 29, 42, 180, 0, 147, 29, 46, 42, 5, 21, 4, 104, 4, 96]
abbrev dktX7_fares_6 : List UInt8 := dkwX7_fares_6 ++ dktX7_fares_7
def dkwX7_fares_5 : List UInt8 := [184, 1, 168, 154, 0, 17, 42, 180, 0, 147, 29, 42, 180, 0, 147, 29, 4, 96, 46, 79, 3, 54, 4]
abbrev dktX7_fares_5 : List UInt8 := dkwX7_fares_5 ++ dktX7_fares_6
def dkwX7_fares_4 : List UInt8 := [3, 79, 29, 16, 30, 161, 0, 6, 167, 0, 90, 42, 180, 0, 147, 29, 19, 1, 115, 79, 28, 29]
abbrev dktX7_fares_4 : List UInt8 := dkwX7_fares_4 ++ dktX7_fares_5
def dkwX7_fares_3 : List UInt8 := [154, 0, 6, 16, 254, 172, 132, 3, 1, 167, 255, 217, 16, 60, 62, 29, 155, 0, 112, 42, 180, 0, 147, 29]
abbrev dktX7_fares_3 : List UInt8 := dkwX7_fares_3 ++ dktX7_fares_4
def dkwX7_fares_2 : List UInt8 := [104, 182, 1, 165, 4, 16, 30, 184, 0, 154, 153, 0, 15, 42, 5, 29, 104, 4, 96, 182, 1, 165]
abbrev dktX7_fares_2 : List UInt8 := dkwX7_fares_2 ++ dktX7_fares_3
def dkwX7_fares_1 : List UInt8 := [42, 180, 0, 179, 164, 0, 5, 2, 172, 42, 3, 181, 0, 179, 3, 62, 29, 27, 162, 0, 40, 42, 5, 29]
abbrev dktX7_fares_1 : List UInt8 := dkwX7_fares_1 ++ dktX7_fares_2
def dkwX7_fares_0 : List UInt8 := [27, 4, 16, 8, 184, 0, 154, 153, 0, 24, 28, 3, 19, 1, 164, 184, 0, 154, 153, 0, 13, 5, 27, 104]
abbrev dktX7_fares_0 : List UInt8 := dkwX7_fares_0 ++ dktX7_fares_1
theorem dksX7_fares_0 : cX7_fares.data.toList.drop 0 = dktX7_fares_0 := by decide +kernel
theorem dksX7_fares_1 : cX7_fares.data.toList.drop 24 = dktX7_fares_1 := dk_seg dksX7_fares_0 24 rfl rfl
theorem dksX7_fares_2 : cX7_fares.data.toList.drop 48 = dktX7_fares_2 := dk_seg dksX7_fares_1 24 rfl rfl
theorem dksX7_fares_3 : cX7_fares.data.toList.drop 70 = dktX7_fares_3 := dk_seg dksX7_fares_2 22 rfl rfl
theorem dksX7_fares_4 : cX7_fares.data.toList.drop 94 = dktX7_fares_4 := dk_seg dksX7_fares_3 24 rfl rfl
theorem dksX7_fares_5 : cX7_fares.data.toList.drop 116 = dktX7_fares_5 := dk_seg dksX7_fares_4 22 rfl rfl
theorem dksX7_fares_6 : cX7_fares.data.toList.drop 139 = dktX7_fares_6 := dk_seg dksX7_fares_5 23 rfl rfl
theorem dksX7_fares_7 : cX7_fares.data.toList.drop 163 = dktX7_fares_7 := dk_seg dksX7_fares_6 24 rfl rfl
theorem dksX7_fares_8 : cX7_fares.data.toList.drop 186 = dktX7_fares_8 := dk_seg dksX7_fares_7 23 rfl rfl
theorem dX7_fares_0 : decode cX7_fares 0 = .ok (.iload_n 1, 1) := dk_27 (dk_at dksX7_fares_0 0 rfl rfl)
theorem dX7_fares_1 : decode cX7_fares 1 = .ok (.iconst 1, 1) := dk_4 (dk_at dksX7_fares_0 1 rfl rfl)
theorem dX7_fares_2 : decode cX7_fares 2 = .ok (.bipush 8, 2) := dk_16 8 (dk_at dksX7_fares_0 2 rfl rfl)
theorem dX7_fares_4 : decode cX7_fares 4 = .ok (.invokestatic 154, 3) := dk_184 0 154 (dk_at dksX7_fares_0 4 rfl rfl)
theorem dX7_fares_7 : decode cX7_fares 7 = .ok (.ifCond .eq 24, 3) := dk_153 0 24 (dk_at dksX7_fares_0 7 rfl rfl)
theorem dX7_fares_10 : decode cX7_fares 10 = .ok (.iload_n 2, 1) := dk_28 (dk_at dksX7_fares_0 10 rfl rfl)
theorem dX7_fares_11 : decode cX7_fares 11 = .ok (.iconst 0, 1) := dk_3 (dk_at dksX7_fares_0 11 rfl rfl)
theorem dX7_fares_12 : decode cX7_fares 12 = .ok (.ldc_w 420, 3) := dk_19 1 164 (dk_at dksX7_fares_0 12 rfl rfl)
theorem dX7_fares_15 : decode cX7_fares 15 = .ok (.invokestatic 154, 3) := dk_184 0 154 (dk_at dksX7_fares_0 15 rfl rfl)
theorem dX7_fares_18 : decode cX7_fares 18 = .ok (.ifCond .eq 13, 3) := dk_153 0 13 (dk_at dksX7_fares_0 18 rfl rfl)
theorem dX7_fares_21 : decode cX7_fares 21 = .ok (.iconst 2, 1) := dk_5 (dk_at dksX7_fares_0 21 rfl rfl)
theorem dX7_fares_22 : decode cX7_fares 22 = .ok (.iload_n 1, 1) := dk_27 (dk_at dksX7_fares_0 22 rfl rfl)
theorem dX7_fares_23 : decode cX7_fares 23 = .ok (.imul, 1) := dk_104 (dk_at dksX7_fares_0 23 rfl rfl)
theorem dX7_fares_24 : decode cX7_fares 24 = .ok (.aload_n 0, 1) := dk_42 (dk_at dksX7_fares_1 0 rfl rfl)
theorem dX7_fares_25 : decode cX7_fares 25 = .ok (.getfield 179, 3) := dk_180 0 179 (dk_at dksX7_fares_1 1 rfl rfl)
theorem dX7_fares_28 : decode cX7_fares 28 = .ok (.if_icmp .le 5, 3) := dk_164 0 5 (dk_at dksX7_fares_1 4 rfl rfl)
theorem dX7_fares_31 : decode cX7_fares 31 = .ok (.iconst (-1), 1) := dk_2 (dk_at dksX7_fares_1 7 rfl rfl)
theorem dX7_fares_32 : decode cX7_fares 32 = .ok (.ireturn, 1) := dk_172 (dk_at dksX7_fares_1 8 rfl rfl)
theorem dX7_fares_33 : decode cX7_fares 33 = .ok (.aload_n 0, 1) := dk_42 (dk_at dksX7_fares_1 9 rfl rfl)
theorem dX7_fares_34 : decode cX7_fares 34 = .ok (.iconst 0, 1) := dk_3 (dk_at dksX7_fares_1 10 rfl rfl)
theorem dX7_fares_35 : decode cX7_fares 35 = .ok (.putfield 179, 3) := dk_181 0 179 (dk_at dksX7_fares_1 11 rfl rfl)
theorem dX7_fares_38 : decode cX7_fares 38 = .ok (.iconst 0, 1) := dk_3 (dk_at dksX7_fares_1 14 rfl rfl)
theorem dX7_fares_39 : decode cX7_fares 39 = .ok (.istore_n 3, 1) := dk_62 (dk_at dksX7_fares_1 15 rfl rfl)
theorem dX7_fares_40 : decode cX7_fares 40 = .ok (.iload_n 3, 1) := dk_29 (dk_at dksX7_fares_1 16 rfl rfl)
theorem dX7_fares_41 : decode cX7_fares 41 = .ok (.iload_n 1, 1) := dk_27 (dk_at dksX7_fares_1 17 rfl rfl)
theorem dX7_fares_42 : decode cX7_fares 42 = .ok (.if_icmp .ge 40, 3) := dk_162 0 40 (dk_at dksX7_fares_1 18 rfl rfl)
theorem dX7_fares_45 : decode cX7_fares 45 = .ok (.aload_n 0, 1) := dk_42 (dk_at dksX7_fares_1 21 rfl rfl)
theorem dX7_fares_46 : decode cX7_fares 46 = .ok (.iconst 2, 1) := dk_5 (dk_at dksX7_fares_1 22 rfl rfl)
theorem dX7_fares_47 : decode cX7_fares 47 = .ok (.iload_n 3, 1) := dk_29 (dk_at dksX7_fares_1 23 rfl rfl)
theorem dX7_fares_48 : decode cX7_fares 48 = .ok (.imul, 1) := dk_104 (dk_at dksX7_fares_2 0 rfl rfl)
theorem dX7_fares_49 : decode cX7_fares 49 = .ok (.invokevirtual 421, 3) := dk_182 1 165 (dk_at dksX7_fares_2 1 rfl rfl)
theorem dX7_fares_52 : decode cX7_fares 52 = .ok (.iconst 1, 1) := dk_4 (dk_at dksX7_fares_2 4 rfl rfl)
theorem dX7_fares_53 : decode cX7_fares 53 = .ok (.bipush 30, 2) := dk_16 30 (dk_at dksX7_fares_2 5 rfl rfl)
theorem dX7_fares_55 : decode cX7_fares 55 = .ok (.invokestatic 154, 3) := dk_184 0 154 (dk_at dksX7_fares_2 7 rfl rfl)
theorem dX7_fares_58 : decode cX7_fares 58 = .ok (.ifCond .eq 15, 3) := dk_153 0 15 (dk_at dksX7_fares_2 10 rfl rfl)
theorem dX7_fares_61 : decode cX7_fares 61 = .ok (.aload_n 0, 1) := dk_42 (dk_at dksX7_fares_2 13 rfl rfl)
theorem dX7_fares_62 : decode cX7_fares 62 = .ok (.iconst 2, 1) := dk_5 (dk_at dksX7_fares_2 14 rfl rfl)
theorem dX7_fares_63 : decode cX7_fares 63 = .ok (.iload_n 3, 1) := dk_29 (dk_at dksX7_fares_2 15 rfl rfl)
theorem dX7_fares_64 : decode cX7_fares 64 = .ok (.imul, 1) := dk_104 (dk_at dksX7_fares_2 16 rfl rfl)
theorem dX7_fares_65 : decode cX7_fares 65 = .ok (.iconst 1, 1) := dk_4 (dk_at dksX7_fares_2 17 rfl rfl)
theorem dX7_fares_66 : decode cX7_fares 66 = .ok (.iadd, 1) := dk_96 (dk_at dksX7_fares_2 18 rfl rfl)
theorem dX7_fares_67 : decode cX7_fares 67 = .ok (.invokevirtual 421, 3) := dk_182 1 165 (dk_at dksX7_fares_2 19 rfl rfl)
theorem dX7_fares_70 : decode cX7_fares 70 = .ok (.ifCond .ne 6, 3) := dk_154 0 6 (dk_at dksX7_fares_3 0 rfl rfl)
theorem dX7_fares_73 : decode cX7_fares 73 = .ok (.bipush (-2), 2) := dk_16 254 (dk_at dksX7_fares_3 3 rfl rfl)
theorem dX7_fares_75 : decode cX7_fares 75 = .ok (.ireturn, 1) := dk_172 (dk_at dksX7_fares_3 5 rfl rfl)
theorem dX7_fares_76 : decode cX7_fares 76 = .ok (.iinc 3 1, 3) := dk_132 3 1 (dk_at dksX7_fares_3 6 rfl rfl)
theorem dX7_fares_79 : decode cX7_fares 79 = .ok (.goto (-39), 3) := dk_167 255 217 (dk_at dksX7_fares_3 9 rfl rfl)
theorem dX7_fares_82 : decode cX7_fares 82 = .ok (.bipush 60, 2) := dk_16 60 (dk_at dksX7_fares_3 12 rfl rfl)
theorem dX7_fares_84 : decode cX7_fares 84 = .ok (.istore_n 3, 1) := dk_62 (dk_at dksX7_fares_3 14 rfl rfl)
theorem dX7_fares_85 : decode cX7_fares 85 = .ok (.iload_n 3, 1) := dk_29 (dk_at dksX7_fares_3 15 rfl rfl)
theorem dX7_fares_86 : decode cX7_fares 86 = .ok (.ifCond .lt 112, 3) := dk_155 0 112 (dk_at dksX7_fares_3 16 rfl rfl)
theorem dX7_fares_89 : decode cX7_fares 89 = .ok (.aload_n 0, 1) := dk_42 (dk_at dksX7_fares_3 19 rfl rfl)
theorem dX7_fares_90 : decode cX7_fares 90 = .ok (.getfield 147, 3) := dk_180 0 147 (dk_at dksX7_fares_3 20 rfl rfl)
theorem dX7_fares_93 : decode cX7_fares 93 = .ok (.iload_n 3, 1) := dk_29 (dk_at dksX7_fares_3 23 rfl rfl)
theorem dX7_fares_94 : decode cX7_fares 94 = .ok (.iconst 0, 1) := dk_3 (dk_at dksX7_fares_4 0 rfl rfl)
theorem dX7_fares_95 : decode cX7_fares 95 = .ok (.iastore, 1) := dk_79 (dk_at dksX7_fares_4 1 rfl rfl)
theorem dX7_fares_96 : decode cX7_fares 96 = .ok (.iload_n 3, 1) := dk_29 (dk_at dksX7_fares_4 2 rfl rfl)
theorem dX7_fares_97 : decode cX7_fares 97 = .ok (.bipush 30, 2) := dk_16 30 (dk_at dksX7_fares_4 3 rfl rfl)
theorem dX7_fares_99 : decode cX7_fares 99 = .ok (.if_icmp .lt 6, 3) := dk_161 0 6 (dk_at dksX7_fares_4 5 rfl rfl)
theorem dX7_fares_102 : decode cX7_fares 102 = .ok (.goto 90, 3) := dk_167 0 90 (dk_at dksX7_fares_4 8 rfl rfl)
theorem dX7_fares_105 : decode cX7_fares 105 = .ok (.aload_n 0, 1) := dk_42 (dk_at dksX7_fares_4 11 rfl rfl)
theorem dX7_fares_106 : decode cX7_fares 106 = .ok (.getfield 147, 3) := dk_180 0 147 (dk_at dksX7_fares_4 12 rfl rfl)
theorem dX7_fares_109 : decode cX7_fares 109 = .ok (.iload_n 3, 1) := dk_29 (dk_at dksX7_fares_4 15 rfl rfl)
theorem dX7_fares_110 : decode cX7_fares 110 = .ok (.ldc_w 371, 3) := dk_19 1 115 (dk_at dksX7_fares_4 16 rfl rfl)
theorem dX7_fares_113 : decode cX7_fares 113 = .ok (.iastore, 1) := dk_79 (dk_at dksX7_fares_4 19 rfl rfl)
theorem dX7_fares_114 : decode cX7_fares 114 = .ok (.iload_n 2, 1) := dk_28 (dk_at dksX7_fares_4 20 rfl rfl)
theorem dX7_fares_115 : decode cX7_fares 115 = .ok (.iload_n 3, 1) := dk_29 (dk_at dksX7_fares_4 21 rfl rfl)
theorem dX7_fares_116 : decode cX7_fares 116 = .ok (.invokestatic 424, 3) := dk_184 1 168 (dk_at dksX7_fares_5 0 rfl rfl)
theorem dX7_fares_119 : decode cX7_fares 119 = .ok (.ifCond .ne 17, 3) := dk_154 0 17 (dk_at dksX7_fares_5 3 rfl rfl)
theorem dX7_fares_122 : decode cX7_fares 122 = .ok (.aload_n 0, 1) := dk_42 (dk_at dksX7_fares_5 6 rfl rfl)
theorem dX7_fares_123 : decode cX7_fares 123 = .ok (.getfield 147, 3) := dk_180 0 147 (dk_at dksX7_fares_5 7 rfl rfl)
theorem dX7_fares_126 : decode cX7_fares 126 = .ok (.iload_n 3, 1) := dk_29 (dk_at dksX7_fares_5 10 rfl rfl)
theorem dX7_fares_127 : decode cX7_fares 127 = .ok (.aload_n 0, 1) := dk_42 (dk_at dksX7_fares_5 11 rfl rfl)
theorem dX7_fares_128 : decode cX7_fares 128 = .ok (.getfield 147, 3) := dk_180 0 147 (dk_at dksX7_fares_5 12 rfl rfl)
theorem dX7_fares_131 : decode cX7_fares 131 = .ok (.iload_n 3, 1) := dk_29 (dk_at dksX7_fares_5 15 rfl rfl)
theorem dX7_fares_132 : decode cX7_fares 132 = .ok (.iconst 1, 1) := dk_4 (dk_at dksX7_fares_5 16 rfl rfl)
theorem dX7_fares_133 : decode cX7_fares 133 = .ok (.iadd, 1) := dk_96 (dk_at dksX7_fares_5 17 rfl rfl)
theorem dX7_fares_134 : decode cX7_fares 134 = .ok (.iaload, 1) := dk_46 (dk_at dksX7_fares_5 18 rfl rfl)
theorem dX7_fares_135 : decode cX7_fares 135 = .ok (.iastore, 1) := dk_79 (dk_at dksX7_fares_5 19 rfl rfl)
theorem dX7_fares_136 : decode cX7_fares 136 = .ok (.iconst 0, 1) := dk_3 (dk_at dksX7_fares_5 20 rfl rfl)
theorem dX7_fares_137 : decode cX7_fares 137 = .ok (.istore 4, 2) := dk_54 4 (dk_at dksX7_fares_5 21 rfl rfl)
theorem dX7_fares_139 : decode cX7_fares 139 = .ok (.iload 4, 2) := dk_21 4 (dk_at dksX7_fares_6 0 rfl rfl)
theorem dX7_fares_141 : decode cX7_fares 141 = .ok (.iload_n 1, 1) := dk_27 (dk_at dksX7_fares_6 2 rfl rfl)
theorem dX7_fares_142 : decode cX7_fares 142 = .ok (.if_icmp .ge 50, 3) := dk_162 0 50 (dk_at dksX7_fares_6 3 rfl rfl)
theorem dX7_fares_145 : decode cX7_fares 145 = .ok (.aload_n 0, 1) := dk_42 (dk_at dksX7_fares_6 6 rfl rfl)
theorem dX7_fares_146 : decode cX7_fares 146 = .ok (.getfield 147, 3) := dk_180 0 147 (dk_at dksX7_fares_6 7 rfl rfl)
theorem dX7_fares_149 : decode cX7_fares 149 = .ok (.iload_n 3, 1) := dk_29 (dk_at dksX7_fares_6 10 rfl rfl)
theorem dX7_fares_150 : decode cX7_fares 150 = .ok (.aload_n 0, 1) := dk_42 (dk_at dksX7_fares_6 11 rfl rfl)
theorem dX7_fares_151 : decode cX7_fares 151 = .ok (.getfield 147, 3) := dk_180 0 147 (dk_at dksX7_fares_6 12 rfl rfl)
theorem dX7_fares_154 : decode cX7_fares 154 = .ok (.iload_n 3, 1) := dk_29 (dk_at dksX7_fares_6 15 rfl rfl)
theorem dX7_fares_155 : decode cX7_fares 155 = .ok (.iaload, 1) := dk_46 (dk_at dksX7_fares_6 16 rfl rfl)
theorem dX7_fares_156 : decode cX7_fares 156 = .ok (.aload_n 0, 1) := dk_42 (dk_at dksX7_fares_6 17 rfl rfl)
theorem dX7_fares_157 : decode cX7_fares 157 = .ok (.iconst 2, 1) := dk_5 (dk_at dksX7_fares_6 18 rfl rfl)
theorem dX7_fares_158 : decode cX7_fares 158 = .ok (.iload 4, 2) := dk_21 4 (dk_at dksX7_fares_6 19 rfl rfl)
theorem dX7_fares_160 : decode cX7_fares 160 = .ok (.imul, 1) := dk_104 (dk_at dksX7_fares_6 21 rfl rfl)
theorem dX7_fares_161 : decode cX7_fares 161 = .ok (.iconst 1, 1) := dk_4 (dk_at dksX7_fares_6 22 rfl rfl)
theorem dX7_fares_162 : decode cX7_fares 162 = .ok (.iadd, 1) := dk_96 (dk_at dksX7_fares_6 23 rfl rfl)
theorem dX7_fares_163 : decode cX7_fares 163 = .ok (.invokevirtual 421, 3) := dk_182 1 165 (dk_at dksX7_fares_7 0 rfl rfl)
theorem dX7_fares_166 : decode cX7_fares 166 = .ok (.aload_n 0, 1) := dk_42 (dk_at dksX7_fares_7 3 rfl rfl)
theorem dX7_fares_167 : decode cX7_fares 167 = .ok (.getfield 147, 3) := dk_180 0 147 (dk_at dksX7_fares_7 4 rfl rfl)
theorem dX7_fares_170 : decode cX7_fares 170 = .ok (.iload_n 3, 1) := dk_29 (dk_at dksX7_fares_7 7 rfl rfl)
theorem dX7_fares_171 : decode cX7_fares 171 = .ok (.aload_n 0, 1) := dk_42 (dk_at dksX7_fares_7 8 rfl rfl)
theorem dX7_fares_172 : decode cX7_fares 172 = .ok (.iconst 2, 1) := dk_5 (dk_at dksX7_fares_7 9 rfl rfl)
theorem dX7_fares_173 : decode cX7_fares 173 = .ok (.iload 4, 2) := dk_21 4 (dk_at dksX7_fares_7 10 rfl rfl)
theorem dX7_fares_175 : decode cX7_fares 175 = .ok (.imul, 1) := dk_104 (dk_at dksX7_fares_7 12 rfl rfl)
theorem dX7_fares_176 : decode cX7_fares 176 = .ok (.invokevirtual 421, 3) := dk_182 1 165 (dk_at dksX7_fares_7 13 rfl rfl)
theorem dX7_fares_179 : decode cX7_fares 179 = .ok (.iadd, 1) := dk_96 (dk_at dksX7_fares_7 16 rfl rfl)
theorem dX7_fares_180 : decode cX7_fares 180 = .ok (.iaload, 1) := dk_46 (dk_at dksX7_fares_7 17 rfl rfl)
theorem dX7_fares_181 : decode cX7_fares 181 = .ok (.iadd, 1) := dk_96 (dk_at dksX7_fares_7 18 rfl rfl)
theorem dX7_fares_182 : decode cX7_fares 182 = .ok (.invokestatic 322, 3) := dk_184 1 66 (dk_at dksX7_fares_7 19 rfl rfl)
theorem dX7_fares_185 : decode cX7_fares 185 = .ok (.iastore, 1) := dk_79 (dk_at dksX7_fares_7 22 rfl rfl)
theorem dX7_fares_186 : decode cX7_fares 186 = .ok (.iinc 4 1, 3) := dk_132 4 1 (dk_at dksX7_fares_8 0 rfl rfl)
theorem dX7_fares_189 : decode cX7_fares 189 = .ok (.goto (-50), 3) := dk_167 255 206 (dk_at dksX7_fares_8 3 rfl rfl)
theorem dX7_fares_192 : decode cX7_fares 192 = .ok (.iinc 3 (-1), 3) := dk_132 3 255 (dk_at dksX7_fares_8 6 rfl rfl)
theorem dX7_fares_195 : decode cX7_fares 195 = .ok (.goto (-110), 3) := dk_167 255 146 (dk_at dksX7_fares_8 9 rfl rfl)
theorem dX7_fares_198 : decode cX7_fares 198 = .ok (.aload_n 0, 1) := dk_42 (dk_at dksX7_fares_8 12 rfl rfl)
theorem dX7_fares_199 : decode cX7_fares 199 = .ok (.getfield 147, 3) := dk_180 0 147 (dk_at dksX7_fares_8 13 rfl rfl)
theorem dX7_fares_202 : decode cX7_fares 202 = .ok (.iconst 0, 1) := dk_3 (dk_at dksX7_fares_8 16 rfl rfl)
theorem dX7_fares_203 : decode cX7_fares 203 = .ok (.iaload, 1) := dk_46 (dk_at dksX7_fares_8 17 rfl rfl)
theorem dX7_fares_204 : decode cX7_fares 204 = .ok (.ireturn, 1) := dk_172 (dk_at dksX7_fares_8 18 rfl rfl)
abbrev cX7_octet : ByteArray := prog_21_method_20_code
def yX7_octet : MethodName := ⟨RX7, "octet", "(I)I"⟩
def dkwX7_octet_0 : List UInt8 := [42, 180, 0, 50, 27, 51, 17, 0, 255, 126, 172]
abbrev dktX7_octet_0 : List UInt8 := dkwX7_octet_0 ++ []
theorem dksX7_octet_0 : cX7_octet.data.toList.drop 0 = dktX7_octet_0 := by decide +kernel
theorem dX7_octet_0 : decode cX7_octet 0 = .ok (.aload_n 0, 1) := dk_42 (dk_at dksX7_octet_0 0 rfl rfl)
theorem dX7_octet_1 : decode cX7_octet 1 = .ok (.getfield 50, 3) := dk_180 0 50 (dk_at dksX7_octet_0 1 rfl rfl)
theorem dX7_octet_4 : decode cX7_octet 4 = .ok (.iload_n 1, 1) := dk_27 (dk_at dksX7_octet_0 4 rfl rfl)
theorem dX7_octet_5 : decode cX7_octet 5 = .ok (.baload, 1) := dk_51 (dk_at dksX7_octet_0 5 rfl rfl)
theorem dX7_octet_6 : decode cX7_octet 6 = .ok (.sipush 255, 3) := dk_17 0 255 (dk_at dksX7_octet_0 6 rfl rfl)
theorem dX7_octet_9 : decode cX7_octet 9 = .ok (.iand, 1) := dk_126 (dk_at dksX7_octet_0 9 rfl rfl)
theorem dX7_octet_10 : decode cX7_octet 10 = .ok (.ireturn, 1) := dk_172 (dk_at dksX7_octet_0 10 rfl rfl)
abbrev cX7_has : ByteArray := prog_21_method_5_code
def yX7_has : MethodName := ⟨RX7, "has", "(II)Z"⟩
def dkwX7_has_0 : List UInt8 := [26, 27, 122, 4, 126, 4, 160, 0, 7, 4, 167, 0, 4, 3, 172]
abbrev dktX7_has_0 : List UInt8 := dkwX7_has_0 ++ []
theorem dksX7_has_0 : cX7_has.data.toList.drop 0 = dktX7_has_0 := by decide +kernel
theorem dX7_has_0 : decode cX7_has 0 = .ok (.iload_n 0, 1) := dk_26 (dk_at dksX7_has_0 0 rfl rfl)
theorem dX7_has_1 : decode cX7_has 1 = .ok (.iload_n 1, 1) := dk_27 (dk_at dksX7_has_0 1 rfl rfl)
theorem dX7_has_2 : decode cX7_has 2 = .ok (.ishr, 1) := dk_122 (dk_at dksX7_has_0 2 rfl rfl)
theorem dX7_has_3 : decode cX7_has 3 = .ok (.iconst 1, 1) := dk_4 (dk_at dksX7_has_0 3 rfl rfl)
theorem dX7_has_4 : decode cX7_has 4 = .ok (.iand, 1) := dk_126 (dk_at dksX7_has_0 4 rfl rfl)
theorem dX7_has_5 : decode cX7_has 5 = .ok (.iconst 1, 1) := dk_4 (dk_at dksX7_has_0 5 rfl rfl)
theorem dX7_has_6 : decode cX7_has 6 = .ok (.if_icmp .ne 7, 3) := dk_160 0 7 (dk_at dksX7_has_0 6 rfl rfl)
theorem dX7_has_9 : decode cX7_has 9 = .ok (.iconst 1, 1) := dk_4 (dk_at dksX7_has_0 9 rfl rfl)
theorem dX7_has_10 : decode cX7_has 10 = .ok (.goto 4, 3) := dk_167 0 4 (dk_at dksX7_has_0 10 rfl rfl)
theorem dX7_has_13 : decode cX7_has 13 = .ok (.iconst 0, 1) := dk_3 (dk_at dksX7_has_0 13 rfl rfl)
theorem dX7_has_14 : decode cX7_has 14 = .ok (.ireturn, 1) := dk_172 (dk_at dksX7_has_0 14 rfl rfl)
abbrev cX7_seed : ByteArray := prog_21_method_95_code
def yX7_seed : MethodName := ⟨RX7, "seed", "(I)Z"⟩
def dkwX7_seed_0 : List UInt8 := [27, 3, 19, 1, 171, 184, 0, 154, 154, 0, 5, 3, 172, 42, 180, 0, 7, 16, 25, 27, 79, 4, 172]
abbrev dktX7_seed_0 : List UInt8 := dkwX7_seed_0 ++ []
theorem dksX7_seed_0 : cX7_seed.data.toList.drop 0 = dktX7_seed_0 := by decide +kernel
theorem dX7_seed_0 : decode cX7_seed 0 = .ok (.iload_n 1, 1) := dk_27 (dk_at dksX7_seed_0 0 rfl rfl)
theorem dX7_seed_1 : decode cX7_seed 1 = .ok (.iconst 0, 1) := dk_3 (dk_at dksX7_seed_0 1 rfl rfl)
theorem dX7_seed_2 : decode cX7_seed 2 = .ok (.ldc_w 427, 3) := dk_19 1 171 (dk_at dksX7_seed_0 2 rfl rfl)
theorem dX7_seed_5 : decode cX7_seed 5 = .ok (.invokestatic 154, 3) := dk_184 0 154 (dk_at dksX7_seed_0 5 rfl rfl)
theorem dX7_seed_8 : decode cX7_seed 8 = .ok (.ifCond .ne 5, 3) := dk_154 0 5 (dk_at dksX7_seed_0 8 rfl rfl)
theorem dX7_seed_11 : decode cX7_seed 11 = .ok (.iconst 0, 1) := dk_3 (dk_at dksX7_seed_0 11 rfl rfl)
theorem dX7_seed_12 : decode cX7_seed 12 = .ok (.ireturn, 1) := dk_172 (dk_at dksX7_seed_0 12 rfl rfl)
theorem dX7_seed_13 : decode cX7_seed 13 = .ok (.aload_n 0, 1) := dk_42 (dk_at dksX7_seed_0 13 rfl rfl)
theorem dX7_seed_14 : decode cX7_seed 14 = .ok (.getfield 7, 3) := dk_180 0 7 (dk_at dksX7_seed_0 14 rfl rfl)
theorem dX7_seed_17 : decode cX7_seed 17 = .ok (.bipush 25, 2) := dk_16 25 (dk_at dksX7_seed_0 17 rfl rfl)
theorem dX7_seed_19 : decode cX7_seed 19 = .ok (.iload_n 1, 1) := dk_27 (dk_at dksX7_seed_0 19 rfl rfl)
theorem dX7_seed_20 : decode cX7_seed 20 = .ok (.iastore, 1) := dk_79 (dk_at dksX7_seed_0 20 rfl rfl)
theorem dX7_seed_21 : decode cX7_seed 21 = .ok (.iconst 1, 1) := dk_4 (dk_at dksX7_seed_0 21 rfl rfl)
theorem dX7_seed_22 : decode cX7_seed 22 = .ok (.ireturn, 1) := dk_172 (dk_at dksX7_seed_0 22 rfl rfl)
abbrev cX7_keep : ByteArray := prog_21_method_96_code
def yX7_keep : MethodName := ⟨RX7, "keep", "()I"⟩
def dkwX7_keep_0 : List UInt8 := [42, 4, 181, 1, 172, 42, 180, 0, 7, 42, 180, 0, 16, 184, 1, 111, 42, 180, 0, 7, 16, 24, 46, 172]
abbrev dktX7_keep_0 : List UInt8 := dkwX7_keep_0 ++ []
theorem dksX7_keep_0 : cX7_keep.data.toList.drop 0 = dktX7_keep_0 := by decide +kernel
theorem dX7_keep_0 : decode cX7_keep 0 = .ok (.aload_n 0, 1) := dk_42 (dk_at dksX7_keep_0 0 rfl rfl)
theorem dX7_keep_1 : decode cX7_keep 1 = .ok (.iconst 1, 1) := dk_4 (dk_at dksX7_keep_0 1 rfl rfl)
theorem dX7_keep_2 : decode cX7_keep 2 = .ok (.putfield 428, 3) := dk_181 1 172 (dk_at dksX7_keep_0 2 rfl rfl)
theorem dX7_keep_5 : decode cX7_keep 5 = .ok (.aload_n 0, 1) := dk_42 (dk_at dksX7_keep_0 5 rfl rfl)
theorem dX7_keep_6 : decode cX7_keep 6 = .ok (.getfield 7, 3) := dk_180 0 7 (dk_at dksX7_keep_0 6 rfl rfl)
theorem dX7_keep_9 : decode cX7_keep 9 = .ok (.aload_n 0, 1) := dk_42 (dk_at dksX7_keep_0 9 rfl rfl)
theorem dX7_keep_10 : decode cX7_keep 10 = .ok (.getfield 16, 3) := dk_180 0 16 (dk_at dksX7_keep_0 10 rfl rfl)
theorem dX7_keep_13 : decode cX7_keep 13 = .ok (.invokestatic 367, 3) := dk_184 1 111 (dk_at dksX7_keep_0 13 rfl rfl)
theorem dX7_keep_16 : decode cX7_keep 16 = .ok (.aload_n 0, 1) := dk_42 (dk_at dksX7_keep_0 16 rfl rfl)
theorem dX7_keep_17 : decode cX7_keep 17 = .ok (.getfield 7, 3) := dk_180 0 7 (dk_at dksX7_keep_0 17 rfl rfl)
theorem dX7_keep_20 : decode cX7_keep 20 = .ok (.bipush 24, 2) := dk_16 24 (dk_at dksX7_keep_0 20 rfl rfl)
theorem dX7_keep_22 : decode cX7_keep 22 = .ok (.iaload, 1) := dk_46 (dk_at dksX7_keep_0 22 rfl rfl)
theorem dX7_keep_23 : decode cX7_keep 23 = .ok (.ireturn, 1) := dk_172 (dk_at dksX7_keep_0 23 rfl rfl)
abbrev cX7_undo : ByteArray := prog_21_method_97_code
def yX7_undo : MethodName := ⟨RX7, "undo", "()Z"⟩
def dkwX7_undo_0 : List UInt8 := [42, 180, 1, 172, 154, 0, 5, 3, 172, 42, 180, 0, 16, 42, 180, 0, 7, 184, 1, 111, 4, 172]
abbrev dktX7_undo_0 : List UInt8 := dkwX7_undo_0 ++ []
theorem dksX7_undo_0 : cX7_undo.data.toList.drop 0 = dktX7_undo_0 := by decide +kernel
theorem dX7_undo_0 : decode cX7_undo 0 = .ok (.aload_n 0, 1) := dk_42 (dk_at dksX7_undo_0 0 rfl rfl)
theorem dX7_undo_1 : decode cX7_undo 1 = .ok (.getfield 428, 3) := dk_180 1 172 (dk_at dksX7_undo_0 1 rfl rfl)
theorem dX7_undo_4 : decode cX7_undo 4 = .ok (.ifCond .ne 5, 3) := dk_154 0 5 (dk_at dksX7_undo_0 4 rfl rfl)
theorem dX7_undo_7 : decode cX7_undo 7 = .ok (.iconst 0, 1) := dk_3 (dk_at dksX7_undo_0 7 rfl rfl)
theorem dX7_undo_8 : decode cX7_undo 8 = .ok (.ireturn, 1) := dk_172 (dk_at dksX7_undo_0 8 rfl rfl)
theorem dX7_undo_9 : decode cX7_undo 9 = .ok (.aload_n 0, 1) := dk_42 (dk_at dksX7_undo_0 9 rfl rfl)
theorem dX7_undo_10 : decode cX7_undo 10 = .ok (.getfield 16, 3) := dk_180 0 16 (dk_at dksX7_undo_0 10 rfl rfl)
theorem dX7_undo_13 : decode cX7_undo 13 = .ok (.aload_n 0, 1) := dk_42 (dk_at dksX7_undo_0 13 rfl rfl)
theorem dX7_undo_14 : decode cX7_undo 14 = .ok (.getfield 7, 3) := dk_180 0 7 (dk_at dksX7_undo_0 14 rfl rfl)
theorem dX7_undo_17 : decode cX7_undo 17 = .ok (.invokestatic 367, 3) := dk_184 1 111 (dk_at dksX7_undo_0 17 rfl rfl)
theorem dX7_undo_20 : decode cX7_undo 20 = .ok (.iconst 1, 1) := dk_4 (dk_at dksX7_undo_0 20 rfl rfl)
theorem dX7_undo_21 : decode cX7_undo 21 = .ok (.ireturn, 1) := dk_172 (dk_at dksX7_undo_0 21 rfl rfl)
abbrev cX7_check : ByteArray := prog_21_method_98_code
def yX7_check : MethodName := ⟨RX7, "check", "(I)I"⟩
def dkwX7_check_3 : List UInt8 := [132, 2, 1, 167, 255, 212, 2, 172]
abbrev dktX7_check_3 : List UInt8 := dkwX7_check_3 ++ []
def dkwX7_check_2 : List UInt8 := [42, 180, 0, 7, 16, 12, 28, 96, 46, 17, 1, 0, 112, 167, 0, 4, 3, 159, 0, 5, 28, 172]
abbrev dktX7_check_2 : List UInt8 := dkwX7_check_2 ++ dktX7_check_3
def dkwX7_check_1 : List UInt8 := [181, 0, 179, 3, 61, 28, 27, 162, 0, 45, 42, 28, 182, 1, 165, 42, 180, 0, 43, 28, 51, 153, 0, 19]
abbrev dktX7_check_1 : List UInt8 := dkwX7_check_1 ++ dktX7_check_2
def dkwX7_check_0 : List UInt8 := [27, 3, 16, 12, 184, 0, 154, 153, 0, 11, 27, 42, 180, 0, 179, 164, 0, 6, 16, 254, 172, 42, 3]
abbrev dktX7_check_0 : List UInt8 := dkwX7_check_0 ++ dktX7_check_1
theorem dksX7_check_0 : cX7_check.data.toList.drop 0 = dktX7_check_0 := by decide +kernel
theorem dksX7_check_1 : cX7_check.data.toList.drop 23 = dktX7_check_1 := dk_seg dksX7_check_0 23 rfl rfl
theorem dksX7_check_2 : cX7_check.data.toList.drop 47 = dktX7_check_2 := dk_seg dksX7_check_1 24 rfl rfl
theorem dksX7_check_3 : cX7_check.data.toList.drop 69 = dktX7_check_3 := dk_seg dksX7_check_2 22 rfl rfl
theorem dX7_check_0 : decode cX7_check 0 = .ok (.iload_n 1, 1) := dk_27 (dk_at dksX7_check_0 0 rfl rfl)
theorem dX7_check_1 : decode cX7_check 1 = .ok (.iconst 0, 1) := dk_3 (dk_at dksX7_check_0 1 rfl rfl)
theorem dX7_check_2 : decode cX7_check 2 = .ok (.bipush 12, 2) := dk_16 12 (dk_at dksX7_check_0 2 rfl rfl)
theorem dX7_check_4 : decode cX7_check 4 = .ok (.invokestatic 154, 3) := dk_184 0 154 (dk_at dksX7_check_0 4 rfl rfl)
theorem dX7_check_7 : decode cX7_check 7 = .ok (.ifCond .eq 11, 3) := dk_153 0 11 (dk_at dksX7_check_0 7 rfl rfl)
theorem dX7_check_10 : decode cX7_check 10 = .ok (.iload_n 1, 1) := dk_27 (dk_at dksX7_check_0 10 rfl rfl)
theorem dX7_check_11 : decode cX7_check 11 = .ok (.aload_n 0, 1) := dk_42 (dk_at dksX7_check_0 11 rfl rfl)
theorem dX7_check_12 : decode cX7_check 12 = .ok (.getfield 179, 3) := dk_180 0 179 (dk_at dksX7_check_0 12 rfl rfl)
theorem dX7_check_15 : decode cX7_check 15 = .ok (.if_icmp .le 6, 3) := dk_164 0 6 (dk_at dksX7_check_0 15 rfl rfl)
theorem dX7_check_18 : decode cX7_check 18 = .ok (.bipush (-2), 2) := dk_16 254 (dk_at dksX7_check_0 18 rfl rfl)
theorem dX7_check_20 : decode cX7_check 20 = .ok (.ireturn, 1) := dk_172 (dk_at dksX7_check_0 20 rfl rfl)
theorem dX7_check_21 : decode cX7_check 21 = .ok (.aload_n 0, 1) := dk_42 (dk_at dksX7_check_0 21 rfl rfl)
theorem dX7_check_22 : decode cX7_check 22 = .ok (.iconst 0, 1) := dk_3 (dk_at dksX7_check_0 22 rfl rfl)
theorem dX7_check_23 : decode cX7_check 23 = .ok (.putfield 179, 3) := dk_181 0 179 (dk_at dksX7_check_1 0 rfl rfl)
theorem dX7_check_26 : decode cX7_check 26 = .ok (.iconst 0, 1) := dk_3 (dk_at dksX7_check_1 3 rfl rfl)
theorem dX7_check_27 : decode cX7_check 27 = .ok (.istore_n 2, 1) := dk_61 (dk_at dksX7_check_1 4 rfl rfl)
theorem dX7_check_28 : decode cX7_check 28 = .ok (.iload_n 2, 1) := dk_28 (dk_at dksX7_check_1 5 rfl rfl)
theorem dX7_check_29 : decode cX7_check 29 = .ok (.iload_n 1, 1) := dk_27 (dk_at dksX7_check_1 6 rfl rfl)
theorem dX7_check_30 : decode cX7_check 30 = .ok (.if_icmp .ge 45, 3) := dk_162 0 45 (dk_at dksX7_check_1 7 rfl rfl)
theorem dX7_check_33 : decode cX7_check 33 = .ok (.aload_n 0, 1) := dk_42 (dk_at dksX7_check_1 10 rfl rfl)
theorem dX7_check_34 : decode cX7_check 34 = .ok (.iload_n 2, 1) := dk_28 (dk_at dksX7_check_1 11 rfl rfl)
theorem dX7_check_35 : decode cX7_check 35 = .ok (.invokevirtual 421, 3) := dk_182 1 165 (dk_at dksX7_check_1 12 rfl rfl)
theorem dX7_check_38 : decode cX7_check 38 = .ok (.aload_n 0, 1) := dk_42 (dk_at dksX7_check_1 15 rfl rfl)
theorem dX7_check_39 : decode cX7_check 39 = .ok (.getfield 43, 3) := dk_180 0 43 (dk_at dksX7_check_1 16 rfl rfl)
theorem dX7_check_42 : decode cX7_check 42 = .ok (.iload_n 2, 1) := dk_28 (dk_at dksX7_check_1 19 rfl rfl)
theorem dX7_check_43 : decode cX7_check 43 = .ok (.baload, 1) := dk_51 (dk_at dksX7_check_1 20 rfl rfl)
theorem dX7_check_44 : decode cX7_check 44 = .ok (.ifCond .eq 19, 3) := dk_153 0 19 (dk_at dksX7_check_1 21 rfl rfl)
theorem dX7_check_47 : decode cX7_check 47 = .ok (.aload_n 0, 1) := dk_42 (dk_at dksX7_check_2 0 rfl rfl)
theorem dX7_check_48 : decode cX7_check 48 = .ok (.getfield 7, 3) := dk_180 0 7 (dk_at dksX7_check_2 1 rfl rfl)
theorem dX7_check_51 : decode cX7_check 51 = .ok (.bipush 12, 2) := dk_16 12 (dk_at dksX7_check_2 4 rfl rfl)
theorem dX7_check_53 : decode cX7_check 53 = .ok (.iload_n 2, 1) := dk_28 (dk_at dksX7_check_2 6 rfl rfl)
theorem dX7_check_54 : decode cX7_check 54 = .ok (.iadd, 1) := dk_96 (dk_at dksX7_check_2 7 rfl rfl)
theorem dX7_check_55 : decode cX7_check 55 = .ok (.iaload, 1) := dk_46 (dk_at dksX7_check_2 8 rfl rfl)
theorem dX7_check_56 : decode cX7_check 56 = .ok (.sipush 256, 3) := dk_17 1 0 (dk_at dksX7_check_2 9 rfl rfl)
theorem dX7_check_59 : decode cX7_check 59 = .ok (.irem, 1) := dk_112 (dk_at dksX7_check_2 12 rfl rfl)
theorem dX7_check_60 : decode cX7_check 60 = .ok (.goto 4, 3) := dk_167 0 4 (dk_at dksX7_check_2 13 rfl rfl)
theorem dX7_check_63 : decode cX7_check 63 = .ok (.iconst 0, 1) := dk_3 (dk_at dksX7_check_2 16 rfl rfl)
theorem dX7_check_64 : decode cX7_check 64 = .ok (.if_icmp .eq 5, 3) := dk_159 0 5 (dk_at dksX7_check_2 17 rfl rfl)
theorem dX7_check_67 : decode cX7_check 67 = .ok (.iload_n 2, 1) := dk_28 (dk_at dksX7_check_2 20 rfl rfl)
theorem dX7_check_68 : decode cX7_check 68 = .ok (.ireturn, 1) := dk_172 (dk_at dksX7_check_2 21 rfl rfl)
theorem dX7_check_69 : decode cX7_check 69 = .ok (.iinc 2 1, 3) := dk_132 2 1 (dk_at dksX7_check_3 0 rfl rfl)
theorem dX7_check_72 : decode cX7_check 72 = .ok (.goto (-44), 3) := dk_167 255 212 (dk_at dksX7_check_3 3 rfl rfl)
theorem dX7_check_75 : decode cX7_check 75 = .ok (.iconst (-1), 1) := dk_2 (dk_at dksX7_check_3 6 rfl rfl)
theorem dX7_check_76 : decode cX7_check 76 = .ok (.ireturn, 1) := dk_172 (dk_at dksX7_check_3 7 rfl rfl)
abbrev cX7_count : ByteArray := prog_21_method_102_code
def yX7_count : MethodName := ⟨RX7, "count", "(I)I"⟩
def dkwX7_count_5 : List UInt8 := [16, 254, 167, 0, 19, 42, 180, 0, 34, 42, 180, 0, 40, 42, 180, 1, 48, 4, 100, 46, 46, 172, 2, 172]
abbrev dktX7_count_5 : List UInt8 := dkwX7_count_5 ++ []
def dkwX7_count_4 : List UInt8 := [182, 1, 182, 172, 42, 16, 12, 182, 1, 182, 172, 42, 180, 1, 48, 172, 42, 180, 1, 48, 154, 0, 8]
abbrev dktX7_count_4 : List UInt8 := dkwX7_count_4 ++ dktX7_count_5
def dkwX7_count_3 : List UInt8 := [180, 0, 150, 172, 42, 180, 1, 23, 172, 42, 180, 0, 179, 172, 42, 180, 0, 7, 16, 25, 46, 172, 42, 3]
abbrev dktX7_count_3 : List UInt8 := dkwX7_count_3 ++ dktX7_count_4
def dkwX7_count_2 : List UInt8 := [42, 180, 0, 7, 16, 24, 46, 172, 42, 182, 1, 176, 172, 42, 180, 0, 162, 172, 42, 182, 1, 179, 172, 42]
abbrev dktX7_count_2 : List UInt8 := dkwX7_count_2 ++ dktX7_count_3
def dkwX7_count_1 : List UInt8 := [170, 0, 0, 0, 0, 0, 156, 0, 0, 0, 0, 0, 0, 0, 11, 0, 0, 0, 63, 0, 0, 0, 71, 0, 0, 0, 76, 0, 0, 0, 81, 0, 0, 0, 86, 0, 0, 0, 91, 0, 0, 0, 96, 0, 0, 0, 101, 0, 0, 0, 109, 0, 0, 0, 115, 0, 0, 0, 122, 0, 0, 0, 127]
abbrev dktX7_count_1 : List UInt8 := dkwX7_count_1 ++ dktX7_count_2
def dkwX7_count_0 : List UInt8 := [27]
abbrev dktX7_count_0 : List UInt8 := dkwX7_count_0 ++ dktX7_count_1
theorem dksX7_count_0 : cX7_count.data.toList.drop 0 = dktX7_count_0 := by decide +kernel
theorem dksX7_count_1 : cX7_count.data.toList.drop 1 = dktX7_count_1 := dk_seg dksX7_count_0 1 rfl rfl
theorem dksX7_count_2 : cX7_count.data.toList.drop 64 = dktX7_count_2 := dk_seg dksX7_count_1 63 rfl rfl
theorem dksX7_count_3 : cX7_count.data.toList.drop 88 = dktX7_count_3 := dk_seg dksX7_count_2 24 rfl rfl
theorem dksX7_count_4 : cX7_count.data.toList.drop 112 = dktX7_count_4 := dk_seg dksX7_count_3 24 rfl rfl
theorem dksX7_count_5 : cX7_count.data.toList.drop 135 = dktX7_count_5 := dk_seg dksX7_count_4 23 rfl rfl
theorem dX7_count_0 : decode cX7_count 0 = .ok (.iload_n 1, 1) := dk_27 (dk_at dksX7_count_0 0 rfl rfl)
theorem dX7_count_1 : decode cX7_count 1 = .ok (.tableswitch 156 0 11 #[63, 71, 76, 81, 86, 91, 96, 101, 109, 115, 122, 127], 63) := by decide +kernel
theorem dX7_count_64 : decode cX7_count 64 = .ok (.aload_n 0, 1) := dk_42 (dk_at dksX7_count_2 0 rfl rfl)
theorem dX7_count_65 : decode cX7_count 65 = .ok (.getfield 7, 3) := dk_180 0 7 (dk_at dksX7_count_2 1 rfl rfl)
theorem dX7_count_68 : decode cX7_count 68 = .ok (.bipush 24, 2) := dk_16 24 (dk_at dksX7_count_2 4 rfl rfl)
theorem dX7_count_70 : decode cX7_count 70 = .ok (.iaload, 1) := dk_46 (dk_at dksX7_count_2 6 rfl rfl)
theorem dX7_count_71 : decode cX7_count 71 = .ok (.ireturn, 1) := dk_172 (dk_at dksX7_count_2 7 rfl rfl)
theorem dX7_count_72 : decode cX7_count 72 = .ok (.aload_n 0, 1) := dk_42 (dk_at dksX7_count_2 8 rfl rfl)
theorem dX7_count_73 : decode cX7_count 73 = .ok (.invokevirtual 432, 3) := dk_182 1 176 (dk_at dksX7_count_2 9 rfl rfl)
theorem dX7_count_76 : decode cX7_count 76 = .ok (.ireturn, 1) := dk_172 (dk_at dksX7_count_2 12 rfl rfl)
theorem dX7_count_77 : decode cX7_count 77 = .ok (.aload_n 0, 1) := dk_42 (dk_at dksX7_count_2 13 rfl rfl)
theorem dX7_count_78 : decode cX7_count 78 = .ok (.getfield 162, 3) := dk_180 0 162 (dk_at dksX7_count_2 14 rfl rfl)
theorem dX7_count_81 : decode cX7_count 81 = .ok (.ireturn, 1) := dk_172 (dk_at dksX7_count_2 17 rfl rfl)
theorem dX7_count_82 : decode cX7_count 82 = .ok (.aload_n 0, 1) := dk_42 (dk_at dksX7_count_2 18 rfl rfl)
theorem dX7_count_83 : decode cX7_count 83 = .ok (.invokevirtual 435, 3) := dk_182 1 179 (dk_at dksX7_count_2 19 rfl rfl)
theorem dX7_count_86 : decode cX7_count 86 = .ok (.ireturn, 1) := dk_172 (dk_at dksX7_count_2 22 rfl rfl)
theorem dX7_count_87 : decode cX7_count 87 = .ok (.aload_n 0, 1) := dk_42 (dk_at dksX7_count_2 23 rfl rfl)
theorem dX7_count_88 : decode cX7_count 88 = .ok (.getfield 150, 3) := dk_180 0 150 (dk_at dksX7_count_3 0 rfl rfl)
theorem dX7_count_91 : decode cX7_count 91 = .ok (.ireturn, 1) := dk_172 (dk_at dksX7_count_3 3 rfl rfl)
theorem dX7_count_92 : decode cX7_count 92 = .ok (.aload_n 0, 1) := dk_42 (dk_at dksX7_count_3 4 rfl rfl)
theorem dX7_count_93 : decode cX7_count 93 = .ok (.getfield 279, 3) := dk_180 1 23 (dk_at dksX7_count_3 5 rfl rfl)
theorem dX7_count_96 : decode cX7_count 96 = .ok (.ireturn, 1) := dk_172 (dk_at dksX7_count_3 8 rfl rfl)
theorem dX7_count_97 : decode cX7_count 97 = .ok (.aload_n 0, 1) := dk_42 (dk_at dksX7_count_3 9 rfl rfl)
theorem dX7_count_98 : decode cX7_count 98 = .ok (.getfield 179, 3) := dk_180 0 179 (dk_at dksX7_count_3 10 rfl rfl)
theorem dX7_count_101 : decode cX7_count 101 = .ok (.ireturn, 1) := dk_172 (dk_at dksX7_count_3 13 rfl rfl)
theorem dX7_count_102 : decode cX7_count 102 = .ok (.aload_n 0, 1) := dk_42 (dk_at dksX7_count_3 14 rfl rfl)
theorem dX7_count_103 : decode cX7_count 103 = .ok (.getfield 7, 3) := dk_180 0 7 (dk_at dksX7_count_3 15 rfl rfl)
theorem dX7_count_106 : decode cX7_count 106 = .ok (.bipush 25, 2) := dk_16 25 (dk_at dksX7_count_3 18 rfl rfl)
theorem dX7_count_108 : decode cX7_count 108 = .ok (.iaload, 1) := dk_46 (dk_at dksX7_count_3 20 rfl rfl)
theorem dX7_count_109 : decode cX7_count 109 = .ok (.ireturn, 1) := dk_172 (dk_at dksX7_count_3 21 rfl rfl)
theorem dX7_count_110 : decode cX7_count 110 = .ok (.aload_n 0, 1) := dk_42 (dk_at dksX7_count_3 22 rfl rfl)
theorem dX7_count_111 : decode cX7_count 111 = .ok (.iconst 0, 1) := dk_3 (dk_at dksX7_count_3 23 rfl rfl)
theorem dX7_count_112 : decode cX7_count 112 = .ok (.invokevirtual 438, 3) := dk_182 1 182 (dk_at dksX7_count_4 0 rfl rfl)
theorem dX7_count_115 : decode cX7_count 115 = .ok (.ireturn, 1) := dk_172 (dk_at dksX7_count_4 3 rfl rfl)
theorem dX7_count_116 : decode cX7_count 116 = .ok (.aload_n 0, 1) := dk_42 (dk_at dksX7_count_4 4 rfl rfl)
theorem dX7_count_117 : decode cX7_count 117 = .ok (.bipush 12, 2) := dk_16 12 (dk_at dksX7_count_4 5 rfl rfl)
theorem dX7_count_119 : decode cX7_count 119 = .ok (.invokevirtual 438, 3) := dk_182 1 182 (dk_at dksX7_count_4 7 rfl rfl)
theorem dX7_count_122 : decode cX7_count 122 = .ok (.ireturn, 1) := dk_172 (dk_at dksX7_count_4 10 rfl rfl)
theorem dX7_count_123 : decode cX7_count 123 = .ok (.aload_n 0, 1) := dk_42 (dk_at dksX7_count_4 11 rfl rfl)
theorem dX7_count_124 : decode cX7_count 124 = .ok (.getfield 304, 3) := dk_180 1 48 (dk_at dksX7_count_4 12 rfl rfl)
theorem dX7_count_127 : decode cX7_count 127 = .ok (.ireturn, 1) := dk_172 (dk_at dksX7_count_4 15 rfl rfl)
theorem dX7_count_128 : decode cX7_count 128 = .ok (.aload_n 0, 1) := dk_42 (dk_at dksX7_count_4 16 rfl rfl)
theorem dX7_count_129 : decode cX7_count 129 = .ok (.getfield 304, 3) := dk_180 1 48 (dk_at dksX7_count_4 17 rfl rfl)
theorem dX7_count_132 : decode cX7_count 132 = .ok (.ifCond .ne 8, 3) := dk_154 0 8 (dk_at dksX7_count_4 20 rfl rfl)
theorem dX7_count_135 : decode cX7_count 135 = .ok (.bipush (-2), 2) := dk_16 254 (dk_at dksX7_count_5 0 rfl rfl)
theorem dX7_count_137 : decode cX7_count 137 = .ok (.goto 19, 3) := dk_167 0 19 (dk_at dksX7_count_5 2 rfl rfl)
theorem dX7_count_140 : decode cX7_count 140 = .ok (.aload_n 0, 1) := dk_42 (dk_at dksX7_count_5 5 rfl rfl)
theorem dX7_count_141 : decode cX7_count 141 = .ok (.getfield 34, 3) := dk_180 0 34 (dk_at dksX7_count_5 6 rfl rfl)
theorem dX7_count_144 : decode cX7_count 144 = .ok (.aload_n 0, 1) := dk_42 (dk_at dksX7_count_5 9 rfl rfl)
theorem dX7_count_145 : decode cX7_count 145 = .ok (.getfield 40, 3) := dk_180 0 40 (dk_at dksX7_count_5 10 rfl rfl)
theorem dX7_count_148 : decode cX7_count 148 = .ok (.aload_n 0, 1) := dk_42 (dk_at dksX7_count_5 13 rfl rfl)
theorem dX7_count_149 : decode cX7_count 149 = .ok (.getfield 304, 3) := dk_180 1 48 (dk_at dksX7_count_5 14 rfl rfl)
theorem dX7_count_152 : decode cX7_count 152 = .ok (.iconst 1, 1) := dk_4 (dk_at dksX7_count_5 17 rfl rfl)
theorem dX7_count_153 : decode cX7_count 153 = .ok (.isub, 1) := dk_100 (dk_at dksX7_count_5 18 rfl rfl)
theorem dX7_count_154 : decode cX7_count 154 = .ok (.iaload, 1) := dk_46 (dk_at dksX7_count_5 19 rfl rfl)
theorem dX7_count_155 : decode cX7_count 155 = .ok (.iaload, 1) := dk_46 (dk_at dksX7_count_5 20 rfl rfl)
theorem dX7_count_156 : decode cX7_count 156 = .ok (.ireturn, 1) := dk_172 (dk_at dksX7_count_5 21 rfl rfl)
theorem dX7_count_157 : decode cX7_count 157 = .ok (.iconst (-1), 1) := dk_2 (dk_at dksX7_count_5 22 rfl rfl)
theorem dX7_count_158 : decode cX7_count 158 = .ok (.ireturn, 1) := dk_172 (dk_at dksX7_count_5 23 rfl rfl)
abbrev cX7_toldSet : ByteArray := prog_21_method_100_code
def yX7_toldSet : MethodName := ⟨RX7, "toldSet", "()I"⟩
def dkwX7_toldSet_1 : List UInt8 := [60, 132, 2, 1, 167, 255, 232, 27, 172]
abbrev dktX7_toldSet_1 : List UInt8 := dkwX7_toldSet_1 ++ []
def dkwX7_toldSet_0 : List UInt8 := [3, 60, 3, 61, 28, 16, 12, 162, 0, 24, 42, 180, 0, 43, 28, 51, 153, 0, 9, 27, 4, 28, 120, 128]
abbrev dktX7_toldSet_0 : List UInt8 := dkwX7_toldSet_0 ++ dktX7_toldSet_1
theorem dksX7_toldSet_0 : cX7_toldSet.data.toList.drop 0 = dktX7_toldSet_0 := by decide +kernel
theorem dksX7_toldSet_1 : cX7_toldSet.data.toList.drop 24 = dktX7_toldSet_1 := dk_seg dksX7_toldSet_0 24 rfl rfl
theorem dX7_toldSet_0 : decode cX7_toldSet 0 = .ok (.iconst 0, 1) := dk_3 (dk_at dksX7_toldSet_0 0 rfl rfl)
theorem dX7_toldSet_1 : decode cX7_toldSet 1 = .ok (.istore_n 1, 1) := dk_60 (dk_at dksX7_toldSet_0 1 rfl rfl)
theorem dX7_toldSet_2 : decode cX7_toldSet 2 = .ok (.iconst 0, 1) := dk_3 (dk_at dksX7_toldSet_0 2 rfl rfl)
theorem dX7_toldSet_3 : decode cX7_toldSet 3 = .ok (.istore_n 2, 1) := dk_61 (dk_at dksX7_toldSet_0 3 rfl rfl)
theorem dX7_toldSet_4 : decode cX7_toldSet 4 = .ok (.iload_n 2, 1) := dk_28 (dk_at dksX7_toldSet_0 4 rfl rfl)
theorem dX7_toldSet_5 : decode cX7_toldSet 5 = .ok (.bipush 12, 2) := dk_16 12 (dk_at dksX7_toldSet_0 5 rfl rfl)
theorem dX7_toldSet_7 : decode cX7_toldSet 7 = .ok (.if_icmp .ge 24, 3) := dk_162 0 24 (dk_at dksX7_toldSet_0 7 rfl rfl)
theorem dX7_toldSet_10 : decode cX7_toldSet 10 = .ok (.aload_n 0, 1) := dk_42 (dk_at dksX7_toldSet_0 10 rfl rfl)
theorem dX7_toldSet_11 : decode cX7_toldSet 11 = .ok (.getfield 43, 3) := dk_180 0 43 (dk_at dksX7_toldSet_0 11 rfl rfl)
theorem dX7_toldSet_14 : decode cX7_toldSet 14 = .ok (.iload_n 2, 1) := dk_28 (dk_at dksX7_toldSet_0 14 rfl rfl)
theorem dX7_toldSet_15 : decode cX7_toldSet 15 = .ok (.baload, 1) := dk_51 (dk_at dksX7_toldSet_0 15 rfl rfl)
theorem dX7_toldSet_16 : decode cX7_toldSet 16 = .ok (.ifCond .eq 9, 3) := dk_153 0 9 (dk_at dksX7_toldSet_0 16 rfl rfl)
theorem dX7_toldSet_19 : decode cX7_toldSet 19 = .ok (.iload_n 1, 1) := dk_27 (dk_at dksX7_toldSet_0 19 rfl rfl)
theorem dX7_toldSet_20 : decode cX7_toldSet 20 = .ok (.iconst 1, 1) := dk_4 (dk_at dksX7_toldSet_0 20 rfl rfl)
theorem dX7_toldSet_21 : decode cX7_toldSet 21 = .ok (.iload_n 2, 1) := dk_28 (dk_at dksX7_toldSet_0 21 rfl rfl)
theorem dX7_toldSet_22 : decode cX7_toldSet 22 = .ok (.ishl, 1) := dk_120 (dk_at dksX7_toldSet_0 22 rfl rfl)
theorem dX7_toldSet_23 : decode cX7_toldSet 23 = .ok (.ior, 1) := dk_128 (dk_at dksX7_toldSet_0 23 rfl rfl)
theorem dX7_toldSet_24 : decode cX7_toldSet 24 = .ok (.istore_n 1, 1) := dk_60 (dk_at dksX7_toldSet_1 0 rfl rfl)
theorem dX7_toldSet_25 : decode cX7_toldSet 25 = .ok (.iinc 2 1, 3) := dk_132 2 1 (dk_at dksX7_toldSet_1 1 rfl rfl)
theorem dX7_toldSet_28 : decode cX7_toldSet 28 = .ok (.goto (-24), 3) := dk_167 255 232 (dk_at dksX7_toldSet_1 4 rfl rfl)
theorem dX7_toldSet_31 : decode cX7_toldSet 31 = .ok (.iload_n 1, 1) := dk_27 (dk_at dksX7_toldSet_1 7 rfl rfl)
theorem dX7_toldSet_32 : decode cX7_toldSet 32 = .ok (.ireturn, 1) := dk_172 (dk_at dksX7_toldSet_1 8 rfl rfl)
abbrev cX7_running : ByteArray := prog_21_method_101_code
def yX7_running : MethodName := ⟨RX7, "running", "()I"⟩
def dkwX7_running_1 : List UInt8 := [132, 2, 1, 167, 255, 233, 27, 172]
abbrev dktX7_running_1 : List UInt8 := dkwX7_running_1 ++ []
def dkwX7_running_0 : List UInt8 := [3, 60, 3, 61, 28, 42, 180, 0, 162, 162, 0, 21, 42, 28, 182, 0, 169, 153, 0, 7, 27, 4, 96, 60]
abbrev dktX7_running_0 : List UInt8 := dkwX7_running_0 ++ dktX7_running_1
theorem dksX7_running_0 : cX7_running.data.toList.drop 0 = dktX7_running_0 := by decide +kernel
theorem dksX7_running_1 : cX7_running.data.toList.drop 24 = dktX7_running_1 := dk_seg dksX7_running_0 24 rfl rfl
theorem dX7_running_0 : decode cX7_running 0 = .ok (.iconst 0, 1) := dk_3 (dk_at dksX7_running_0 0 rfl rfl)
theorem dX7_running_1 : decode cX7_running 1 = .ok (.istore_n 1, 1) := dk_60 (dk_at dksX7_running_0 1 rfl rfl)
theorem dX7_running_2 : decode cX7_running 2 = .ok (.iconst 0, 1) := dk_3 (dk_at dksX7_running_0 2 rfl rfl)
theorem dX7_running_3 : decode cX7_running 3 = .ok (.istore_n 2, 1) := dk_61 (dk_at dksX7_running_0 3 rfl rfl)
theorem dX7_running_4 : decode cX7_running 4 = .ok (.iload_n 2, 1) := dk_28 (dk_at dksX7_running_0 4 rfl rfl)
theorem dX7_running_5 : decode cX7_running 5 = .ok (.aload_n 0, 1) := dk_42 (dk_at dksX7_running_0 5 rfl rfl)
theorem dX7_running_6 : decode cX7_running 6 = .ok (.getfield 162, 3) := dk_180 0 162 (dk_at dksX7_running_0 6 rfl rfl)
theorem dX7_running_9 : decode cX7_running 9 = .ok (.if_icmp .ge 21, 3) := dk_162 0 21 (dk_at dksX7_running_0 9 rfl rfl)
theorem dX7_running_12 : decode cX7_running 12 = .ok (.aload_n 0, 1) := dk_42 (dk_at dksX7_running_0 12 rfl rfl)
theorem dX7_running_13 : decode cX7_running 13 = .ok (.iload_n 2, 1) := dk_28 (dk_at dksX7_running_0 13 rfl rfl)
theorem dX7_running_14 : decode cX7_running 14 = .ok (.invokevirtual 169, 3) := dk_182 0 169 (dk_at dksX7_running_0 14 rfl rfl)
theorem dX7_running_17 : decode cX7_running 17 = .ok (.ifCond .eq 7, 3) := dk_153 0 7 (dk_at dksX7_running_0 17 rfl rfl)
theorem dX7_running_20 : decode cX7_running 20 = .ok (.iload_n 1, 1) := dk_27 (dk_at dksX7_running_0 20 rfl rfl)
theorem dX7_running_21 : decode cX7_running 21 = .ok (.iconst 1, 1) := dk_4 (dk_at dksX7_running_0 21 rfl rfl)
theorem dX7_running_22 : decode cX7_running 22 = .ok (.iadd, 1) := dk_96 (dk_at dksX7_running_0 22 rfl rfl)
theorem dX7_running_23 : decode cX7_running 23 = .ok (.istore_n 1, 1) := dk_60 (dk_at dksX7_running_0 23 rfl rfl)
theorem dX7_running_24 : decode cX7_running 24 = .ok (.iinc 2 1, 3) := dk_132 2 1 (dk_at dksX7_running_1 0 rfl rfl)
theorem dX7_running_27 : decode cX7_running 27 = .ok (.goto (-23), 3) := dk_167 255 233 (dk_at dksX7_running_1 3 rfl rfl)
theorem dX7_running_30 : decode cX7_running 30 = .ok (.iload_n 1, 1) := dk_27 (dk_at dksX7_running_1 6 rfl rfl)
theorem dX7_running_31 : decode cX7_running 31 = .ok (.ireturn, 1) := dk_172 (dk_at dksX7_running_1 7 rfl rfl)
abbrev cX7_allOf : ByteArray := prog_21_method_99_code
def yX7_allOf : MethodName := ⟨RX7, "allOf", "(I)I"⟩
def dkwX7_allOf_1 : List UInt8 := [27, 29, 96, 46, 96, 61, 132, 3, 1, 167, 255, 227, 28, 172]
abbrev dktX7_allOf_1 : List UInt8 := dkwX7_allOf_1 ++ []
def dkwX7_allOf_0 : List UInt8 := [3, 61, 3, 62, 29, 16, 12, 162, 0, 29, 42, 180, 0, 43, 29, 51, 153, 0, 14, 28, 42, 180, 0, 7]
abbrev dktX7_allOf_0 : List UInt8 := dkwX7_allOf_0 ++ dktX7_allOf_1
theorem dksX7_allOf_0 : cX7_allOf.data.toList.drop 0 = dktX7_allOf_0 := by decide +kernel
theorem dksX7_allOf_1 : cX7_allOf.data.toList.drop 24 = dktX7_allOf_1 := dk_seg dksX7_allOf_0 24 rfl rfl
theorem dX7_allOf_0 : decode cX7_allOf 0 = .ok (.iconst 0, 1) := dk_3 (dk_at dksX7_allOf_0 0 rfl rfl)
theorem dX7_allOf_1 : decode cX7_allOf 1 = .ok (.istore_n 2, 1) := dk_61 (dk_at dksX7_allOf_0 1 rfl rfl)
theorem dX7_allOf_2 : decode cX7_allOf 2 = .ok (.iconst 0, 1) := dk_3 (dk_at dksX7_allOf_0 2 rfl rfl)
theorem dX7_allOf_3 : decode cX7_allOf 3 = .ok (.istore_n 3, 1) := dk_62 (dk_at dksX7_allOf_0 3 rfl rfl)
theorem dX7_allOf_4 : decode cX7_allOf 4 = .ok (.iload_n 3, 1) := dk_29 (dk_at dksX7_allOf_0 4 rfl rfl)
theorem dX7_allOf_5 : decode cX7_allOf 5 = .ok (.bipush 12, 2) := dk_16 12 (dk_at dksX7_allOf_0 5 rfl rfl)
theorem dX7_allOf_7 : decode cX7_allOf 7 = .ok (.if_icmp .ge 29, 3) := dk_162 0 29 (dk_at dksX7_allOf_0 7 rfl rfl)
theorem dX7_allOf_10 : decode cX7_allOf 10 = .ok (.aload_n 0, 1) := dk_42 (dk_at dksX7_allOf_0 10 rfl rfl)
theorem dX7_allOf_11 : decode cX7_allOf 11 = .ok (.getfield 43, 3) := dk_180 0 43 (dk_at dksX7_allOf_0 11 rfl rfl)
theorem dX7_allOf_14 : decode cX7_allOf 14 = .ok (.iload_n 3, 1) := dk_29 (dk_at dksX7_allOf_0 14 rfl rfl)
theorem dX7_allOf_15 : decode cX7_allOf 15 = .ok (.baload, 1) := dk_51 (dk_at dksX7_allOf_0 15 rfl rfl)
theorem dX7_allOf_16 : decode cX7_allOf 16 = .ok (.ifCond .eq 14, 3) := dk_153 0 14 (dk_at dksX7_allOf_0 16 rfl rfl)
theorem dX7_allOf_19 : decode cX7_allOf 19 = .ok (.iload_n 2, 1) := dk_28 (dk_at dksX7_allOf_0 19 rfl rfl)
theorem dX7_allOf_20 : decode cX7_allOf 20 = .ok (.aload_n 0, 1) := dk_42 (dk_at dksX7_allOf_0 20 rfl rfl)
theorem dX7_allOf_21 : decode cX7_allOf 21 = .ok (.getfield 7, 3) := dk_180 0 7 (dk_at dksX7_allOf_0 21 rfl rfl)
theorem dX7_allOf_24 : decode cX7_allOf 24 = .ok (.iload_n 1, 1) := dk_27 (dk_at dksX7_allOf_1 0 rfl rfl)
theorem dX7_allOf_25 : decode cX7_allOf 25 = .ok (.iload_n 3, 1) := dk_29 (dk_at dksX7_allOf_1 1 rfl rfl)
theorem dX7_allOf_26 : decode cX7_allOf 26 = .ok (.iadd, 1) := dk_96 (dk_at dksX7_allOf_1 2 rfl rfl)
theorem dX7_allOf_27 : decode cX7_allOf 27 = .ok (.iaload, 1) := dk_46 (dk_at dksX7_allOf_1 3 rfl rfl)
theorem dX7_allOf_28 : decode cX7_allOf 28 = .ok (.iadd, 1) := dk_96 (dk_at dksX7_allOf_1 4 rfl rfl)
theorem dX7_allOf_29 : decode cX7_allOf 29 = .ok (.istore_n 2, 1) := dk_61 (dk_at dksX7_allOf_1 5 rfl rfl)
theorem dX7_allOf_30 : decode cX7_allOf 30 = .ok (.iinc 3 1, 3) := dk_132 3 1 (dk_at dksX7_allOf_1 6 rfl rfl)
theorem dX7_allOf_33 : decode cX7_allOf 33 = .ok (.goto (-29), 3) := dk_167 255 227 (dk_at dksX7_allOf_1 9 rfl rfl)
theorem dX7_allOf_36 : decode cX7_allOf 36 = .ok (.iload_n 2, 1) := dk_28 (dk_at dksX7_allOf_1 12 rfl rfl)
theorem dX7_allOf_37 : decode cX7_allOf 37 = .ok (.ireturn, 1) := dk_172 (dk_at dksX7_allOf_1 13 rfl rfl)
theorem q109 : (Jvm.Cond.initialized "MissedTrainsModel") ∈ lw_all := lw_g (lw_at lw_m1 8 rfl) rfl
theorem q1219 : (Jvm.Cond.instantiable "MissedTrainsModel" (66 : Nat)) ∈ lw_all := lw_g (lw_at lw_m5 158 rfl) rfl
theorem q1221 : (Jvm.Cond.instanceMethod ({ cls := "MissedTrainsModel", name := "<init>", desc := "()V" } : Jvm.MethodName)) ∈ lw_all := lw_g (lw_at lw_m5 160 rfl) rfl
theorem q1222 : (Jvm.Cond.code ({ cls := "MissedTrainsModel", name := "<init>", desc := "()V" } : Jvm.MethodName) prog_21_method_1_code (1 : Nat) (Option.none : Option Jvm.ClassFile.FieldType)) ∈ lw_all := lw_g (lw_at lw_m5 161 rfl) rfl
theorem q1223 : (Jvm.Cond.methodLink "MissedTrainsModel" (1 : Nat) ({ cls := "java/lang/Object", name := "<init>", desc := "()V" } : Jvm.MethodName)) ∈ lw_all := lw_g (lw_at lw_m5 162 rfl) rfl
theorem q1224 : (Jvm.Cond.fieldLink "MissedTrainsModel" (7 : Nat) "MissedTrainsModel" "now" "[I") ∈ lw_all := lw_g (lw_at lw_m5 163 rfl) rfl
theorem q1225 : (Jvm.Cond.fieldLink "MissedTrainsModel" (13 : Nat) "MissedTrainsModel" "aside" "[I") ∈ lw_all := lw_g (lw_at lw_m5 164 rfl) rfl
theorem q1226 : (Jvm.Cond.fieldLink "MissedTrainsModel" (16 : Nat) "MissedTrainsModel" "kept" "[I") ∈ lw_all := lw_g (lw_at lw_m5 165 rfl) rfl
theorem q1227 : (Jvm.Cond.fieldLink "MissedTrainsModel" (19 : Nat) "MissedTrainsModel" "fromOf" "[I") ∈ lw_all := lw_g (lw_at lw_m5 166 rfl) rfl
theorem q1228 : (Jvm.Cond.fieldLink "MissedTrainsModel" (22 : Nat) "MissedTrainsModel" "toOf" "[I") ∈ lw_all := lw_g (lw_at lw_m5 167 rfl) rfl
theorem q1229 : (Jvm.Cond.fieldLink "MissedTrainsModel" (25 : Nat) "MissedTrainsModel" "comesAt" "[I") ∈ lw_all := lw_g (lw_at lw_m5 168 rfl) rfl
theorem q1230 : (Jvm.Cond.fieldLink "MissedTrainsModel" (28 : Nat) "MissedTrainsModel" "stopMany" "[I") ∈ lw_all := lw_g (lw_at lw_m5 169 rfl) rfl
theorem q1231 : (Jvm.Cond.fieldLink "MissedTrainsModel" (31 : Nat) "MissedTrainsModel" "stationOf" "[I") ∈ lw_all := lw_g (lw_at lw_m5 170 rfl) rfl
theorem q1232 : (Jvm.Cond.fieldLink "MissedTrainsModel" (34 : Nat) "MissedTrainsModel" "minuteOf" "[I") ∈ lw_all := lw_g (lw_at lw_m5 171 rfl) rfl
theorem q1233 : (Jvm.Cond.fieldLink "MissedTrainsModel" (37 : Nat) "MissedTrainsModel" "putLate" "[I") ∈ lw_all := lw_g (lw_at lw_m5 172 rfl) rfl
theorem q1234 : (Jvm.Cond.fieldLink "MissedTrainsModel" (40 : Nat) "MissedTrainsModel" "eventOf" "[I") ∈ lw_all := lw_g (lw_at lw_m5 173 rfl) rfl
theorem q1235 : (Jvm.Cond.fieldLink "MissedTrainsModel" (43 : Nat) "MissedTrainsModel" "isTold" "[Z") ∈ lw_all := lw_g (lw_at lw_m5 174 rfl) rfl
theorem q1236 : (Jvm.Cond.fieldLink "MissedTrainsModel" (47 : Nat) "MissedTrainsModel" "isOut" "[Z") ∈ lw_all := lw_g (lw_at lw_m5 175 rfl) rfl
theorem q1237 : (Jvm.Cond.fieldLink "MissedTrainsModel" (150 : Nat) "MissedTrainsModel" "changingNow" "I") ∈ lw_all := lw_g (lw_at lw_m5 176 rfl) rfl
theorem q1238 : (Jvm.Cond.fieldLink "MissedTrainsModel" (162 : Nat) "MissedTrainsModel" "trainMany" "I") ∈ lw_all := lw_g (lw_at lw_m5 177 rfl) rfl
theorem q1239 : (Jvm.Cond.fieldLink "MissedTrainsModel" (304 : Nat) "MissedTrainsModel" "eventMany" "I") ∈ lw_all := lw_g (lw_at lw_m5 178 rfl) rfl
theorem q1240 : (Jvm.Cond.fieldLink "MissedTrainsModel" (50 : Nat) "MissedTrainsModel" "tape" "[B") ∈ lw_all := lw_g (lw_at lw_m5 179 rfl) rfl
theorem q1241 : (Jvm.Cond.fieldLink "MissedTrainsModel" (179 : Nat) "MissedTrainsModel" "taped" "I") ∈ lw_all := lw_g (lw_at lw_m5 180 rfl) rfl
theorem q1242 : (Jvm.Cond.fieldLink "MissedTrainsModel" (186 : Nat) "MissedTrainsModel" "place0" "I") ∈ lw_all := lw_g (lw_at lw_m5 181 rfl) rfl
theorem q1243 : (Jvm.Cond.fieldLink "MissedTrainsModel" (189 : Nat) "MissedTrainsModel" "length0" "I") ∈ lw_all := lw_g (lw_at lw_m5 182 rfl) rfl
theorem q1244 : (Jvm.Cond.fieldLink "MissedTrainsModel" (196 : Nat) "MissedTrainsModel" "fault" "I") ∈ lw_all := lw_g (lw_at lw_m5 183 rfl) rfl
theorem q1245 : (Jvm.Cond.fieldLink "MissedTrainsModel" (202 : Nat) "MissedTrainsModel" "number0" "I") ∈ lw_all := lw_g (lw_at lw_m5 184 rfl) rfl
theorem q1246 : (Jvm.Cond.fieldLink "MissedTrainsModel" (213 : Nat) "MissedTrainsModel" "open" "I") ∈ lw_all := lw_g (lw_at lw_m5 185 rfl) rfl
theorem q1247 : (Jvm.Cond.fieldLink "MissedTrainsModel" (209 : Nat) "MissedTrainsModel" "codeMany" "I") ∈ lw_all := lw_g (lw_at lw_m5 186 rfl) rfl
theorem q1248 : (Jvm.Cond.fieldLink "MissedTrainsModel" (216 : Nat) "MissedTrainsModel" "waiting" "I") ∈ lw_all := lw_g (lw_at lw_m5 187 rfl) rfl
theorem q1249 : (Jvm.Cond.fieldLink "MissedTrainsModel" (264 : Nat) "MissedTrainsModel" "saidMany" "I") ∈ lw_all := lw_g (lw_at lw_m5 188 rfl) rfl
theorem q1250 : (Jvm.Cond.fieldLink "MissedTrainsModel" (279 : Nat) "MissedTrainsModel" "clauses" "I") ∈ lw_all := lw_g (lw_at lw_m5 189 rfl) rfl
theorem q1251 : (Jvm.Cond.fieldLink "MissedTrainsModel" (54 : Nat) "MissedTrainsModel" "said" "[I") ∈ lw_all := lw_g (lw_at lw_m5 190 rfl) rfl
theorem q1252 : (Jvm.Cond.fieldLink "MissedTrainsModel" (57 : Nat) "MissedTrainsModel" "waitsAt" "[I") ∈ lw_all := lw_g (lw_at lw_m5 191 rfl) rfl
theorem q1253 : (Jvm.Cond.fieldLink "MissedTrainsModel" (60 : Nat) "MissedTrainsModel" "saidLetter" "[I") ∈ lw_all := lw_g (lw_at lw_m5 192 rfl) rfl
theorem q1254 : (Jvm.Cond.fieldLink "MissedTrainsModel" (63 : Nat) "MissedTrainsModel" "saidFrom" "[I") ∈ lw_all := lw_g (lw_at lw_m5 193 rfl) rfl
theorem q1255 : (Jvm.Cond.fieldLink "MissedTrainsModel" (66 : Nat) "MissedTrainsModel" "saidHalf" "[I") ∈ lw_all := lw_g (lw_at lw_m5 194 rfl) rfl
theorem q1256 : (Jvm.Cond.fieldLink "MissedTrainsModel" (69 : Nat) "MissedTrainsModel" "saidTo" "[I") ∈ lw_all := lw_g (lw_at lw_m5 195 rfl) rfl
theorem q1257 : (Jvm.Cond.fieldLink "MissedTrainsModel" (72 : Nat) "MissedTrainsModel" "codes" "[I") ∈ lw_all := lw_g (lw_at lw_m5 196 rfl) rfl
theorem q1258 : (Jvm.Cond.fieldLink "MissedTrainsModel" (75 : Nat) "MissedTrainsModel" "clauseOf" "[I") ∈ lw_all := lw_g (lw_at lw_m5 197 rfl) rfl
theorem q1259 : (Jvm.Cond.fieldLink "MissedTrainsModel" (78 : Nat) "MissedTrainsModel" "codeFrom" "[I") ∈ lw_all := lw_g (lw_at lw_m5 198 rfl) rfl
theorem q1260 : (Jvm.Cond.fieldLink "MissedTrainsModel" (81 : Nat) "MissedTrainsModel" "codeHalf" "[I") ∈ lw_all := lw_g (lw_at lw_m5 199 rfl) rfl
theorem q1261 : (Jvm.Cond.fieldLink "MissedTrainsModel" (84 : Nat) "MissedTrainsModel" "codeTo" "[I") ∈ lw_all := lw_g (lw_at lw_m5 200 rfl) rfl
theorem q1262 : (Jvm.Cond.fieldLink "MissedTrainsModel" (87 : Nat) "MissedTrainsModel" "stack" "[I") ∈ lw_all := lw_g (lw_at lw_m5 201 rfl) rfl
theorem q1263 : (Jvm.Cond.fieldLink "MissedTrainsModel" (90 : Nat) "MissedTrainsModel" "facts" "[I") ∈ lw_all := lw_g (lw_at lw_m5 202 rfl) rfl
theorem q1264 : (Jvm.Cond.fieldLink "MissedTrainsModel" (93 : Nat) "MissedTrainsModel" "newStops" "[I") ∈ lw_all := lw_g (lw_at lw_m5 203 rfl) rfl
theorem q1265 : (Jvm.Cond.fieldLink "MissedTrainsModel" (96 : Nat) "MissedTrainsModel" "newStation" "[I") ∈ lw_all := lw_g (lw_at lw_m5 204 rfl) rfl
theorem q1266 : (Jvm.Cond.fieldLink "MissedTrainsModel" (99 : Nat) "MissedTrainsModel" "newMinute" "[I") ∈ lw_all := lw_g (lw_at lw_m5 205 rfl) rfl
theorem q1267 : (Jvm.Cond.fieldLink "MissedTrainsModel" (301 : Nat) "MissedTrainsModel" "newTrains" "I") ∈ lw_all := lw_g (lw_at lw_m5 206 rfl) rfl
theorem q1268 : (Jvm.Cond.fieldLink "MissedTrainsModel" (295 : Nat) "MissedTrainsModel" "newServices" "I") ∈ lw_all := lw_g (lw_at lw_m5 207 rfl) rfl
theorem q1269 : (Jvm.Cond.fieldLink "MissedTrainsModel" (102 : Nat) "MissedTrainsModel" "rowStation" "[I") ∈ lw_all := lw_g (lw_at lw_m5 208 rfl) rfl
theorem q1270 : (Jvm.Cond.fieldLink "MissedTrainsModel" (105 : Nat) "MissedTrainsModel" "rowMinute" "[I") ∈ lw_all := lw_g (lw_at lw_m5 209 rfl) rfl
theorem q1271 : (Jvm.Cond.fieldLink "MissedTrainsModel" (108 : Nat) "MissedTrainsModel" "wasLate" "[I") ∈ lw_all := lw_g (lw_at lw_m5 210 rfl) rfl
theorem q1272 : (Jvm.Cond.fieldLink "MissedTrainsModel" (111 : Nat) "MissedTrainsModel" "wasOut" "[Z") ∈ lw_all := lw_g (lw_at lw_m5 211 rfl) rfl
theorem q1273 : (Jvm.Cond.fieldLink "MissedTrainsModel" (313 : Nat) "MissedTrainsModel" "lines" "I") ∈ lw_all := lw_g (lw_at lw_m5 212 rfl) rfl
theorem q1274 : (Jvm.Cond.fieldLink "MissedTrainsModel" (114 : Nat) "MissedTrainsModel" "ridesIn" "[I") ∈ lw_all := lw_g (lw_at lw_m5 213 rfl) rfl
theorem q1275 : (Jvm.Cond.fieldLink "MissedTrainsModel" (117 : Nat) "MissedTrainsModel" "lateNow" "[I") ∈ lw_all := lw_g (lw_at lw_m5 214 rfl) rfl
theorem q1276 : (Jvm.Cond.fieldLink "MissedTrainsModel" (325 : Nat) "MissedTrainsModel" "arrivedNow" "I") ∈ lw_all := lw_g (lw_at lw_m5 215 rfl) rfl
theorem q1277 : (Jvm.Cond.fieldLink "MissedTrainsModel" (335 : Nat) "MissedTrainsModel" "missedNow" "I") ∈ lw_all := lw_g (lw_at lw_m5 216 rfl) rfl
theorem q1278 : (Jvm.Cond.fieldLink "MissedTrainsModel" (345 : Nat) "MissedTrainsModel" "latestNow" "I") ∈ lw_all := lw_g (lw_at lw_m5 217 rfl) rfl
theorem q1279 : (Jvm.Cond.fieldLink "MissedTrainsModel" (120 : Nat) "MissedTrainsModel" "thereBy" "[I") ∈ lw_all := lw_g (lw_at lw_m5 218 rfl) rfl
theorem q1280 : (Jvm.Cond.fieldLink "MissedTrainsModel" (123 : Nat) "MissedTrainsModel" "thenBy" "[I") ∈ lw_all := lw_g (lw_at lw_m5 219 rfl) rfl
theorem q1281 : (Jvm.Cond.fieldLink "MissedTrainsModel" (126 : Nat) "MissedTrainsModel" "bestLeaves" "[I") ∈ lw_all := lw_g (lw_at lw_m5 220 rfl) rfl
theorem q1282 : (Jvm.Cond.fieldLink "MissedTrainsModel" (129 : Nat) "MissedTrainsModel" "bestThere" "[I") ∈ lw_all := lw_g (lw_at lw_m5 221 rfl) rfl
theorem q1283 : (Jvm.Cond.fieldLink "MissedTrainsModel" (132 : Nat) "MissedTrainsModel" "isMinute" "[Z") ∈ lw_all := lw_g (lw_at lw_m5 222 rfl) rfl
theorem q1284 : (Jvm.Cond.fieldLink "MissedTrainsModel" (135 : Nat) "MissedTrainsModel" "aheadOf" "[I") ∈ lw_all := lw_g (lw_at lw_m5 223 rfl) rfl
theorem q1285 : (Jvm.Cond.fieldLink "MissedTrainsModel" (138 : Nat) "MissedTrainsModel" "cameBy" "[I") ∈ lw_all := lw_g (lw_at lw_m5 224 rfl) rfl
theorem q1286 : (Jvm.Cond.fieldLink "MissedTrainsModel" (141 : Nat) "MissedTrainsModel" "queue" "[I") ∈ lw_all := lw_g (lw_at lw_m5 225 rfl) rfl
theorem q1287 : (Jvm.Cond.fieldLink "MissedTrainsModel" (144 : Nat) "MissedTrainsModel" "mostTo" "[I") ∈ lw_all := lw_g (lw_at lw_m5 226 rfl) rfl
theorem q1288 : (Jvm.Cond.fieldLink "MissedTrainsModel" (147 : Nat) "MissedTrainsModel" "leastFrom" "[I") ∈ lw_all := lw_g (lw_at lw_m5 227 rfl) rfl
theorem q1289 : (Jvm.Cond.fieldLink "MissedTrainsModel" (428 : Nat) "MissedTrainsModel" "isKept" "Z") ∈ lw_all := lw_g (lw_at lw_m5 228 rfl) rfl
theorem q1290 : (Jvm.Cond.laysFinal "MissedTrainsModel" "MissedTrainsModel" "now" "[I") ∈ lw_all := lw_g (lw_at lw_m5 229 rfl) rfl
theorem q1291 : (Jvm.Cond.soleField "MissedTrainsModel" "now") ∈ lw_all := lw_g (lw_at lw_m5 230 rfl) rfl
theorem q1292 : (Jvm.Cond.laysFinal "MissedTrainsModel" "MissedTrainsModel" "aside" "[I") ∈ lw_all := lw_g (lw_at lw_m5 231 rfl) rfl
theorem q1293 : (Jvm.Cond.soleField "MissedTrainsModel" "aside") ∈ lw_all := lw_g (lw_at lw_m5 232 rfl) rfl
theorem q1294 : (Jvm.Cond.laysFinal "MissedTrainsModel" "MissedTrainsModel" "kept" "[I") ∈ lw_all := lw_g (lw_at lw_m5 233 rfl) rfl
theorem q1295 : (Jvm.Cond.soleField "MissedTrainsModel" "kept") ∈ lw_all := lw_g (lw_at lw_m5 234 rfl) rfl
theorem q1296 : (Jvm.Cond.laysFinal "MissedTrainsModel" "MissedTrainsModel" "fromOf" "[I") ∈ lw_all := lw_g (lw_at lw_m5 235 rfl) rfl
theorem q1297 : (Jvm.Cond.soleField "MissedTrainsModel" "fromOf") ∈ lw_all := lw_g (lw_at lw_m5 236 rfl) rfl
theorem q1298 : (Jvm.Cond.laysFinal "MissedTrainsModel" "MissedTrainsModel" "toOf" "[I") ∈ lw_all := lw_g (lw_at lw_m5 237 rfl) rfl
theorem q1299 : (Jvm.Cond.soleField "MissedTrainsModel" "toOf") ∈ lw_all := lw_g (lw_at lw_m5 238 rfl) rfl
theorem q1300 : (Jvm.Cond.laysFinal "MissedTrainsModel" "MissedTrainsModel" "comesAt" "[I") ∈ lw_all := lw_g (lw_at lw_m5 239 rfl) rfl
theorem q1301 : (Jvm.Cond.soleField "MissedTrainsModel" "comesAt") ∈ lw_all := lw_g (lw_at lw_m6 0 rfl) rfl
theorem q1302 : (Jvm.Cond.laysFinal "MissedTrainsModel" "MissedTrainsModel" "stopMany" "[I") ∈ lw_all := lw_g (lw_at lw_m6 1 rfl) rfl
theorem q1303 : (Jvm.Cond.soleField "MissedTrainsModel" "stopMany") ∈ lw_all := lw_g (lw_at lw_m6 2 rfl) rfl
theorem q1304 : (Jvm.Cond.laysFinal "MissedTrainsModel" "MissedTrainsModel" "stationOf" "[I") ∈ lw_all := lw_g (lw_at lw_m6 3 rfl) rfl
theorem q1305 : (Jvm.Cond.soleField "MissedTrainsModel" "stationOf") ∈ lw_all := lw_g (lw_at lw_m6 4 rfl) rfl
theorem q1306 : (Jvm.Cond.laysFinal "MissedTrainsModel" "MissedTrainsModel" "minuteOf" "[I") ∈ lw_all := lw_g (lw_at lw_m6 5 rfl) rfl
theorem q1307 : (Jvm.Cond.soleField "MissedTrainsModel" "minuteOf") ∈ lw_all := lw_g (lw_at lw_m6 6 rfl) rfl
theorem q1308 : (Jvm.Cond.laysFinal "MissedTrainsModel" "MissedTrainsModel" "putLate" "[I") ∈ lw_all := lw_g (lw_at lw_m6 7 rfl) rfl
theorem q1309 : (Jvm.Cond.soleField "MissedTrainsModel" "putLate") ∈ lw_all := lw_g (lw_at lw_m6 8 rfl) rfl
theorem q1310 : (Jvm.Cond.laysFinal "MissedTrainsModel" "MissedTrainsModel" "eventOf" "[I") ∈ lw_all := lw_g (lw_at lw_m6 9 rfl) rfl
theorem q1311 : (Jvm.Cond.soleField "MissedTrainsModel" "eventOf") ∈ lw_all := lw_g (lw_at lw_m6 10 rfl) rfl
theorem q1312 : (Jvm.Cond.laysFinal "MissedTrainsModel" "MissedTrainsModel" "isTold" "[Z") ∈ lw_all := lw_g (lw_at lw_m6 11 rfl) rfl
theorem q1313 : (Jvm.Cond.soleField "MissedTrainsModel" "isTold") ∈ lw_all := lw_g (lw_at lw_m6 12 rfl) rfl
theorem q1314 : (Jvm.Cond.laysFinal "MissedTrainsModel" "MissedTrainsModel" "isOut" "[Z") ∈ lw_all := lw_g (lw_at lw_m6 13 rfl) rfl
theorem q1315 : (Jvm.Cond.soleField "MissedTrainsModel" "isOut") ∈ lw_all := lw_g (lw_at lw_m6 14 rfl) rfl
theorem q1316 : (Jvm.Cond.lays "MissedTrainsModel" "MissedTrainsModel" "changingNow" "I") ∈ lw_all := lw_g (lw_at lw_m6 15 rfl) rfl
theorem q1317 : (Jvm.Cond.soleField "MissedTrainsModel" "changingNow") ∈ lw_all := lw_g (lw_at lw_m6 16 rfl) rfl
theorem q1318 : (Jvm.Cond.lays "MissedTrainsModel" "MissedTrainsModel" "trainMany" "I") ∈ lw_all := lw_g (lw_at lw_m6 17 rfl) rfl
theorem q1319 : (Jvm.Cond.soleField "MissedTrainsModel" "trainMany") ∈ lw_all := lw_g (lw_at lw_m6 18 rfl) rfl
theorem q1320 : (Jvm.Cond.lays "MissedTrainsModel" "MissedTrainsModel" "eventMany" "I") ∈ lw_all := lw_g (lw_at lw_m6 19 rfl) rfl
theorem q1321 : (Jvm.Cond.soleField "MissedTrainsModel" "eventMany") ∈ lw_all := lw_g (lw_at lw_m6 20 rfl) rfl
theorem q1322 : (Jvm.Cond.laysFinal "MissedTrainsModel" "MissedTrainsModel" "tape" "[B") ∈ lw_all := lw_g (lw_at lw_m6 21 rfl) rfl
theorem q1323 : (Jvm.Cond.soleField "MissedTrainsModel" "tape") ∈ lw_all := lw_g (lw_at lw_m6 22 rfl) rfl
theorem q1324 : (Jvm.Cond.lays "MissedTrainsModel" "MissedTrainsModel" "taped" "I") ∈ lw_all := lw_g (lw_at lw_m6 23 rfl) rfl
theorem q1325 : (Jvm.Cond.soleField "MissedTrainsModel" "taped") ∈ lw_all := lw_g (lw_at lw_m6 24 rfl) rfl
theorem q1326 : (Jvm.Cond.lays "MissedTrainsModel" "MissedTrainsModel" "place0" "I") ∈ lw_all := lw_g (lw_at lw_m6 25 rfl) rfl
theorem q1327 : (Jvm.Cond.soleField "MissedTrainsModel" "place0") ∈ lw_all := lw_g (lw_at lw_m6 26 rfl) rfl
theorem q1328 : (Jvm.Cond.lays "MissedTrainsModel" "MissedTrainsModel" "length0" "I") ∈ lw_all := lw_g (lw_at lw_m6 27 rfl) rfl
theorem q1329 : (Jvm.Cond.soleField "MissedTrainsModel" "length0") ∈ lw_all := lw_g (lw_at lw_m6 28 rfl) rfl
theorem q1330 : (Jvm.Cond.lays "MissedTrainsModel" "MissedTrainsModel" "fault" "I") ∈ lw_all := lw_g (lw_at lw_m6 29 rfl) rfl
theorem q1331 : (Jvm.Cond.soleField "MissedTrainsModel" "fault") ∈ lw_all := lw_g (lw_at lw_m6 30 rfl) rfl
theorem q1332 : (Jvm.Cond.lays "MissedTrainsModel" "MissedTrainsModel" "number0" "I") ∈ lw_all := lw_g (lw_at lw_m6 31 rfl) rfl
theorem q1333 : (Jvm.Cond.soleField "MissedTrainsModel" "number0") ∈ lw_all := lw_g (lw_at lw_m6 32 rfl) rfl
theorem q1334 : (Jvm.Cond.lays "MissedTrainsModel" "MissedTrainsModel" "open" "I") ∈ lw_all := lw_g (lw_at lw_m6 33 rfl) rfl
theorem q1335 : (Jvm.Cond.soleField "MissedTrainsModel" "open") ∈ lw_all := lw_g (lw_at lw_m6 34 rfl) rfl
theorem q1336 : (Jvm.Cond.lays "MissedTrainsModel" "MissedTrainsModel" "codeMany" "I") ∈ lw_all := lw_g (lw_at lw_m6 35 rfl) rfl
theorem q1337 : (Jvm.Cond.soleField "MissedTrainsModel" "codeMany") ∈ lw_all := lw_g (lw_at lw_m6 36 rfl) rfl
theorem q1338 : (Jvm.Cond.lays "MissedTrainsModel" "MissedTrainsModel" "waiting" "I") ∈ lw_all := lw_g (lw_at lw_m6 37 rfl) rfl
theorem q1339 : (Jvm.Cond.soleField "MissedTrainsModel" "waiting") ∈ lw_all := lw_g (lw_at lw_m6 38 rfl) rfl
theorem q1340 : (Jvm.Cond.lays "MissedTrainsModel" "MissedTrainsModel" "saidMany" "I") ∈ lw_all := lw_g (lw_at lw_m6 39 rfl) rfl
theorem q1341 : (Jvm.Cond.soleField "MissedTrainsModel" "saidMany") ∈ lw_all := lw_g (lw_at lw_m6 40 rfl) rfl
theorem q1342 : (Jvm.Cond.lays "MissedTrainsModel" "MissedTrainsModel" "clauses" "I") ∈ lw_all := lw_g (lw_at lw_m6 41 rfl) rfl
theorem q1343 : (Jvm.Cond.soleField "MissedTrainsModel" "clauses") ∈ lw_all := lw_g (lw_at lw_m6 42 rfl) rfl
theorem q1344 : (Jvm.Cond.laysFinal "MissedTrainsModel" "MissedTrainsModel" "said" "[I") ∈ lw_all := lw_g (lw_at lw_m6 43 rfl) rfl
theorem q1345 : (Jvm.Cond.soleField "MissedTrainsModel" "said") ∈ lw_all := lw_g (lw_at lw_m6 44 rfl) rfl
theorem q1346 : (Jvm.Cond.laysFinal "MissedTrainsModel" "MissedTrainsModel" "waitsAt" "[I") ∈ lw_all := lw_g (lw_at lw_m6 45 rfl) rfl
theorem q1347 : (Jvm.Cond.soleField "MissedTrainsModel" "waitsAt") ∈ lw_all := lw_g (lw_at lw_m6 46 rfl) rfl
theorem q1348 : (Jvm.Cond.laysFinal "MissedTrainsModel" "MissedTrainsModel" "saidLetter" "[I") ∈ lw_all := lw_g (lw_at lw_m6 47 rfl) rfl
theorem q1349 : (Jvm.Cond.soleField "MissedTrainsModel" "saidLetter") ∈ lw_all := lw_g (lw_at lw_m6 48 rfl) rfl
theorem q1350 : (Jvm.Cond.laysFinal "MissedTrainsModel" "MissedTrainsModel" "saidFrom" "[I") ∈ lw_all := lw_g (lw_at lw_m6 49 rfl) rfl
theorem q1351 : (Jvm.Cond.soleField "MissedTrainsModel" "saidFrom") ∈ lw_all := lw_g (lw_at lw_m6 50 rfl) rfl
theorem q1352 : (Jvm.Cond.laysFinal "MissedTrainsModel" "MissedTrainsModel" "saidHalf" "[I") ∈ lw_all := lw_g (lw_at lw_m6 51 rfl) rfl
theorem q1353 : (Jvm.Cond.soleField "MissedTrainsModel" "saidHalf") ∈ lw_all := lw_g (lw_at lw_m6 52 rfl) rfl
theorem q1354 : (Jvm.Cond.laysFinal "MissedTrainsModel" "MissedTrainsModel" "saidTo" "[I") ∈ lw_all := lw_g (lw_at lw_m6 53 rfl) rfl
theorem q1355 : (Jvm.Cond.soleField "MissedTrainsModel" "saidTo") ∈ lw_all := lw_g (lw_at lw_m6 54 rfl) rfl
theorem q1356 : (Jvm.Cond.laysFinal "MissedTrainsModel" "MissedTrainsModel" "codes" "[I") ∈ lw_all := lw_g (lw_at lw_m6 55 rfl) rfl
theorem q1357 : (Jvm.Cond.soleField "MissedTrainsModel" "codes") ∈ lw_all := lw_g (lw_at lw_m6 56 rfl) rfl
theorem q1358 : (Jvm.Cond.laysFinal "MissedTrainsModel" "MissedTrainsModel" "clauseOf" "[I") ∈ lw_all := lw_g (lw_at lw_m6 57 rfl) rfl
theorem q1359 : (Jvm.Cond.soleField "MissedTrainsModel" "clauseOf") ∈ lw_all := lw_g (lw_at lw_m6 58 rfl) rfl
theorem q1360 : (Jvm.Cond.laysFinal "MissedTrainsModel" "MissedTrainsModel" "codeFrom" "[I") ∈ lw_all := lw_g (lw_at lw_m6 59 rfl) rfl
theorem q1361 : (Jvm.Cond.soleField "MissedTrainsModel" "codeFrom") ∈ lw_all := lw_g (lw_at lw_m6 60 rfl) rfl
theorem q1362 : (Jvm.Cond.laysFinal "MissedTrainsModel" "MissedTrainsModel" "codeHalf" "[I") ∈ lw_all := lw_g (lw_at lw_m6 61 rfl) rfl
theorem q1363 : (Jvm.Cond.soleField "MissedTrainsModel" "codeHalf") ∈ lw_all := lw_g (lw_at lw_m6 62 rfl) rfl
theorem q1364 : (Jvm.Cond.laysFinal "MissedTrainsModel" "MissedTrainsModel" "codeTo" "[I") ∈ lw_all := lw_g (lw_at lw_m6 63 rfl) rfl
theorem q1365 : (Jvm.Cond.soleField "MissedTrainsModel" "codeTo") ∈ lw_all := lw_g (lw_at lw_m6 64 rfl) rfl
theorem q1366 : (Jvm.Cond.laysFinal "MissedTrainsModel" "MissedTrainsModel" "stack" "[I") ∈ lw_all := lw_g (lw_at lw_m6 65 rfl) rfl
theorem q1367 : (Jvm.Cond.soleField "MissedTrainsModel" "stack") ∈ lw_all := lw_g (lw_at lw_m6 66 rfl) rfl
theorem q1368 : (Jvm.Cond.laysFinal "MissedTrainsModel" "MissedTrainsModel" "facts" "[I") ∈ lw_all := lw_g (lw_at lw_m6 67 rfl) rfl
theorem q1369 : (Jvm.Cond.soleField "MissedTrainsModel" "facts") ∈ lw_all := lw_g (lw_at lw_m6 68 rfl) rfl
theorem q1370 : (Jvm.Cond.laysFinal "MissedTrainsModel" "MissedTrainsModel" "newStops" "[I") ∈ lw_all := lw_g (lw_at lw_m6 69 rfl) rfl
theorem q1371 : (Jvm.Cond.soleField "MissedTrainsModel" "newStops") ∈ lw_all := lw_g (lw_at lw_m6 70 rfl) rfl
theorem q1372 : (Jvm.Cond.laysFinal "MissedTrainsModel" "MissedTrainsModel" "newStation" "[I") ∈ lw_all := lw_g (lw_at lw_m6 71 rfl) rfl
theorem q1373 : (Jvm.Cond.soleField "MissedTrainsModel" "newStation") ∈ lw_all := lw_g (lw_at lw_m6 72 rfl) rfl
theorem q1374 : (Jvm.Cond.laysFinal "MissedTrainsModel" "MissedTrainsModel" "newMinute" "[I") ∈ lw_all := lw_g (lw_at lw_m6 73 rfl) rfl
theorem q1375 : (Jvm.Cond.soleField "MissedTrainsModel" "newMinute") ∈ lw_all := lw_g (lw_at lw_m6 74 rfl) rfl
theorem q1376 : (Jvm.Cond.lays "MissedTrainsModel" "MissedTrainsModel" "newTrains" "I") ∈ lw_all := lw_g (lw_at lw_m6 75 rfl) rfl
theorem q1377 : (Jvm.Cond.soleField "MissedTrainsModel" "newTrains") ∈ lw_all := lw_g (lw_at lw_m6 76 rfl) rfl
theorem q1378 : (Jvm.Cond.lays "MissedTrainsModel" "MissedTrainsModel" "newServices" "I") ∈ lw_all := lw_g (lw_at lw_m6 77 rfl) rfl
theorem q1379 : (Jvm.Cond.soleField "MissedTrainsModel" "newServices") ∈ lw_all := lw_g (lw_at lw_m6 78 rfl) rfl
theorem q1380 : (Jvm.Cond.laysFinal "MissedTrainsModel" "MissedTrainsModel" "rowStation" "[I") ∈ lw_all := lw_g (lw_at lw_m6 79 rfl) rfl
theorem q1381 : (Jvm.Cond.soleField "MissedTrainsModel" "rowStation") ∈ lw_all := lw_g (lw_at lw_m6 80 rfl) rfl
theorem q1382 : (Jvm.Cond.laysFinal "MissedTrainsModel" "MissedTrainsModel" "rowMinute" "[I") ∈ lw_all := lw_g (lw_at lw_m6 81 rfl) rfl
theorem q1383 : (Jvm.Cond.soleField "MissedTrainsModel" "rowMinute") ∈ lw_all := lw_g (lw_at lw_m6 82 rfl) rfl
theorem q1384 : (Jvm.Cond.laysFinal "MissedTrainsModel" "MissedTrainsModel" "wasLate" "[I") ∈ lw_all := lw_g (lw_at lw_m6 83 rfl) rfl
theorem q1385 : (Jvm.Cond.soleField "MissedTrainsModel" "wasLate") ∈ lw_all := lw_g (lw_at lw_m6 84 rfl) rfl
theorem q1386 : (Jvm.Cond.laysFinal "MissedTrainsModel" "MissedTrainsModel" "wasOut" "[Z") ∈ lw_all := lw_g (lw_at lw_m6 85 rfl) rfl
theorem q1387 : (Jvm.Cond.soleField "MissedTrainsModel" "wasOut") ∈ lw_all := lw_g (lw_at lw_m6 86 rfl) rfl
theorem q1388 : (Jvm.Cond.lays "MissedTrainsModel" "MissedTrainsModel" "lines" "I") ∈ lw_all := lw_g (lw_at lw_m6 87 rfl) rfl
theorem q1389 : (Jvm.Cond.soleField "MissedTrainsModel" "lines") ∈ lw_all := lw_g (lw_at lw_m6 88 rfl) rfl
theorem q1390 : (Jvm.Cond.laysFinal "MissedTrainsModel" "MissedTrainsModel" "ridesIn" "[I") ∈ lw_all := lw_g (lw_at lw_m6 89 rfl) rfl
theorem q1391 : (Jvm.Cond.soleField "MissedTrainsModel" "ridesIn") ∈ lw_all := lw_g (lw_at lw_m6 90 rfl) rfl
theorem q1392 : (Jvm.Cond.laysFinal "MissedTrainsModel" "MissedTrainsModel" "lateNow" "[I") ∈ lw_all := lw_g (lw_at lw_m6 91 rfl) rfl
theorem q1393 : (Jvm.Cond.soleField "MissedTrainsModel" "lateNow") ∈ lw_all := lw_g (lw_at lw_m6 92 rfl) rfl
theorem q1394 : (Jvm.Cond.lays "MissedTrainsModel" "MissedTrainsModel" "arrivedNow" "I") ∈ lw_all := lw_g (lw_at lw_m6 93 rfl) rfl
theorem q1395 : (Jvm.Cond.soleField "MissedTrainsModel" "arrivedNow") ∈ lw_all := lw_g (lw_at lw_m6 94 rfl) rfl
theorem q1396 : (Jvm.Cond.lays "MissedTrainsModel" "MissedTrainsModel" "missedNow" "I") ∈ lw_all := lw_g (lw_at lw_m6 95 rfl) rfl
theorem q1397 : (Jvm.Cond.soleField "MissedTrainsModel" "missedNow") ∈ lw_all := lw_g (lw_at lw_m6 96 rfl) rfl
theorem q1398 : (Jvm.Cond.lays "MissedTrainsModel" "MissedTrainsModel" "latestNow" "I") ∈ lw_all := lw_g (lw_at lw_m6 97 rfl) rfl
theorem q1399 : (Jvm.Cond.soleField "MissedTrainsModel" "latestNow") ∈ lw_all := lw_g (lw_at lw_m6 98 rfl) rfl
theorem q1400 : (Jvm.Cond.laysFinal "MissedTrainsModel" "MissedTrainsModel" "thereBy" "[I") ∈ lw_all := lw_g (lw_at lw_m6 99 rfl) rfl
theorem q1401 : (Jvm.Cond.soleField "MissedTrainsModel" "thereBy") ∈ lw_all := lw_g (lw_at lw_m6 100 rfl) rfl
theorem q1402 : (Jvm.Cond.laysFinal "MissedTrainsModel" "MissedTrainsModel" "thenBy" "[I") ∈ lw_all := lw_g (lw_at lw_m6 101 rfl) rfl
theorem q1403 : (Jvm.Cond.soleField "MissedTrainsModel" "thenBy") ∈ lw_all := lw_g (lw_at lw_m6 102 rfl) rfl
theorem q1404 : (Jvm.Cond.laysFinal "MissedTrainsModel" "MissedTrainsModel" "bestLeaves" "[I") ∈ lw_all := lw_g (lw_at lw_m6 103 rfl) rfl
theorem q1405 : (Jvm.Cond.soleField "MissedTrainsModel" "bestLeaves") ∈ lw_all := lw_g (lw_at lw_m6 104 rfl) rfl
theorem q1406 : (Jvm.Cond.laysFinal "MissedTrainsModel" "MissedTrainsModel" "bestThere" "[I") ∈ lw_all := lw_g (lw_at lw_m6 105 rfl) rfl
theorem q1407 : (Jvm.Cond.soleField "MissedTrainsModel" "bestThere") ∈ lw_all := lw_g (lw_at lw_m6 106 rfl) rfl
theorem q1408 : (Jvm.Cond.laysFinal "MissedTrainsModel" "MissedTrainsModel" "isMinute" "[Z") ∈ lw_all := lw_g (lw_at lw_m6 107 rfl) rfl
theorem q1409 : (Jvm.Cond.soleField "MissedTrainsModel" "isMinute") ∈ lw_all := lw_g (lw_at lw_m6 108 rfl) rfl
theorem q1410 : (Jvm.Cond.laysFinal "MissedTrainsModel" "MissedTrainsModel" "aheadOf" "[I") ∈ lw_all := lw_g (lw_at lw_m6 109 rfl) rfl
theorem q1411 : (Jvm.Cond.soleField "MissedTrainsModel" "aheadOf") ∈ lw_all := lw_g (lw_at lw_m6 110 rfl) rfl
theorem q1412 : (Jvm.Cond.laysFinal "MissedTrainsModel" "MissedTrainsModel" "cameBy" "[I") ∈ lw_all := lw_g (lw_at lw_m6 111 rfl) rfl
theorem q1413 : (Jvm.Cond.soleField "MissedTrainsModel" "cameBy") ∈ lw_all := lw_g (lw_at lw_m6 112 rfl) rfl
theorem q1414 : (Jvm.Cond.laysFinal "MissedTrainsModel" "MissedTrainsModel" "queue" "[I") ∈ lw_all := lw_g (lw_at lw_m6 113 rfl) rfl
theorem q1415 : (Jvm.Cond.soleField "MissedTrainsModel" "queue") ∈ lw_all := lw_g (lw_at lw_m6 114 rfl) rfl
theorem q1416 : (Jvm.Cond.laysFinal "MissedTrainsModel" "MissedTrainsModel" "mostTo" "[I") ∈ lw_all := lw_g (lw_at lw_m6 115 rfl) rfl
theorem q1417 : (Jvm.Cond.soleField "MissedTrainsModel" "mostTo") ∈ lw_all := lw_g (lw_at lw_m6 116 rfl) rfl
theorem q1418 : (Jvm.Cond.laysFinal "MissedTrainsModel" "MissedTrainsModel" "leastFrom" "[I") ∈ lw_all := lw_g (lw_at lw_m6 117 rfl) rfl
theorem q1419 : (Jvm.Cond.soleField "MissedTrainsModel" "leastFrom") ∈ lw_all := lw_g (lw_at lw_m6 118 rfl) rfl
theorem q1420 : (Jvm.Cond.lays "MissedTrainsModel" "MissedTrainsModel" "isKept" "Z") ∈ lw_all := lw_g (lw_at lw_m6 119 rfl) rfl
theorem q1421 : (Jvm.Cond.soleField "MissedTrainsModel" "isKept") ∈ lw_all := lw_g (lw_at lw_m6 120 rfl) rfl
theorem q1422 : (Jvm.Cond.superclass "MissedTrainsModel" "java/lang/Object") ∈ lw_all := lw_g (lw_at lw_m6 121 rfl) rfl
theorem q1424 : (Jvm.Cond.instanceMethod ({ cls := "MissedTrainsModel", name := "person", desc := "(IIII)Z" } : Jvm.MethodName)) ∈ lw_all := lw_g (lw_at lw_m6 123 rfl) rfl
theorem q1425 : (Jvm.Cond.selects "MissedTrainsModel" ({ cls := "MissedTrainsModel", name := "person", desc := "(IIII)Z" } : Jvm.MethodName) ({ cls := "MissedTrainsModel", name := "person", desc := "(IIII)Z" } : Jvm.MethodName)) ∈ lw_all := lw_g (lw_at lw_m6 124 rfl) rfl
theorem q1426 : (Jvm.Cond.code ({ cls := "MissedTrainsModel", name := "person", desc := "(IIII)Z" } : Jvm.MethodName) prog_21_method_16_code (5 : Nat) (Option.some Jvm.ClassFile.FieldType.boolean)) ∈ lw_all := lw_g (lw_at lw_m6 125 rfl) rfl
theorem q1427 : (Jvm.Cond.methodLink "MissedTrainsModel" (154 : Nat) ({ cls := "MissedTrainsModel", name := "in", desc := "(III)Z" } : Jvm.MethodName)) ∈ lw_all := lw_g (lw_at lw_m6 126 rfl) rfl
theorem q1428 : (Jvm.Cond.static ({ cls := "MissedTrainsModel", name := "in", desc := "(III)Z" } : Jvm.MethodName)) ∈ lw_all := lw_g (lw_at lw_m6 127 rfl) rfl
theorem q1429 : (Jvm.Cond.code ({ cls := "MissedTrainsModel", name := "in", desc := "(III)Z" } : Jvm.MethodName) prog_21_method_2_code (3 : Nat) (Option.some Jvm.ClassFile.FieldType.boolean)) ∈ lw_all := lw_g (lw_at lw_m6 128 rfl) rfl
theorem q1430 : (Jvm.Cond.methodLink "MissedTrainsModel" (175 : Nat) ({ cls := "MissedTrainsModel", name := "areTwo", desc := "(II)Z" } : Jvm.MethodName)) ∈ lw_all := lw_g (lw_at lw_m6 129 rfl) rfl
theorem q1431 : (Jvm.Cond.static ({ cls := "MissedTrainsModel", name := "areTwo", desc := "(II)Z" } : Jvm.MethodName)) ∈ lw_all := lw_g (lw_at lw_m6 130 rfl) rfl
theorem q1432 : (Jvm.Cond.code ({ cls := "MissedTrainsModel", name := "areTwo", desc := "(II)Z" } : Jvm.MethodName) prog_21_method_9_code (2 : Nat) (Option.some Jvm.ClassFile.FieldType.boolean)) ∈ lw_all := lw_g (lw_at lw_m6 131 rfl) rfl
theorem q1433 : (Jvm.Cond.methodLink "MissedTrainsModel" (158 : Nat) ({ cls := "MissedTrainsModel", name := "isStation", desc := "(I)Z" } : Jvm.MethodName)) ∈ lw_all := lw_g (lw_at lw_m6 132 rfl) rfl
theorem q1434 : (Jvm.Cond.static ({ cls := "MissedTrainsModel", name := "isStation", desc := "(I)Z" } : Jvm.MethodName)) ∈ lw_all := lw_g (lw_at lw_m6 133 rfl) rfl
theorem q1435 : (Jvm.Cond.code ({ cls := "MissedTrainsModel", name := "isStation", desc := "(I)Z" } : Jvm.MethodName) prog_21_method_8_code (1 : Nat) (Option.some Jvm.ClassFile.FieldType.boolean)) ∈ lw_all := lw_g (lw_at lw_m6 134 rfl) rfl
theorem q1437 : (Jvm.Cond.instanceMethod ({ cls := "MissedTrainsModel", name := "changing", desc := "(I)Z" } : Jvm.MethodName)) ∈ lw_all := lw_g (lw_at lw_m6 136 rfl) rfl
theorem q1438 : (Jvm.Cond.selects "MissedTrainsModel" ({ cls := "MissedTrainsModel", name := "changing", desc := "(I)Z" } : Jvm.MethodName) ({ cls := "MissedTrainsModel", name := "changing", desc := "(I)Z" } : Jvm.MethodName)) ∈ lw_all := lw_g (lw_at lw_m6 137 rfl) rfl
theorem q1439 : (Jvm.Cond.code ({ cls := "MissedTrainsModel", name := "changing", desc := "(I)Z" } : Jvm.MethodName) prog_21_method_17_code (2 : Nat) (Option.some Jvm.ClassFile.FieldType.boolean)) ∈ lw_all := lw_g (lw_at lw_m6 138 rfl) rfl
theorem q1441 : (Jvm.Cond.instanceMethod ({ cls := "MissedTrainsModel", name := "feed", desc := "(IIIII)I" } : Jvm.MethodName)) ∈ lw_all := lw_g (lw_at lw_m6 140 rfl) rfl
theorem q1442 : (Jvm.Cond.selects "MissedTrainsModel" ({ cls := "MissedTrainsModel", name := "feed", desc := "(IIIII)I" } : Jvm.MethodName) ({ cls := "MissedTrainsModel", name := "feed", desc := "(IIIII)I" } : Jvm.MethodName)) ∈ lw_all := lw_g (lw_at lw_m6 141 rfl) rfl
theorem q1443 : (Jvm.Cond.code ({ cls := "MissedTrainsModel", name := "feed", desc := "(IIIII)I" } : Jvm.MethodName) prog_21_method_19_code (6 : Nat) (Option.some Jvm.ClassFile.FieldType.int)) ∈ lw_all := lw_g (lw_at lw_m6 142 rfl) rfl
theorem q1444 : (Jvm.Cond.methodLink "MissedTrainsModel" (182 : Nat) ({ cls := "MissedTrainsModel", name := "types", desc := "(I)V" } : Jvm.MethodName)) ∈ lw_all := lw_g (lw_at lw_m6 143 rfl) rfl
theorem q1445 : (Jvm.Cond.privateMethod ({ cls := "MissedTrainsModel", name := "types", desc := "(I)V" } : Jvm.MethodName)) ∈ lw_tbl := lw_at lw_m6 144 rfl
theorem q1446 : (Jvm.Cond.instanceMethod ({ cls := "MissedTrainsModel", name := "types", desc := "(I)V" } : Jvm.MethodName)) ∈ lw_all := lw_g (lw_at lw_m6 145 rfl) rfl
theorem q1447 : (Jvm.Cond.code ({ cls := "MissedTrainsModel", name := "types", desc := "(I)V" } : Jvm.MethodName) prog_21_method_18_code (3 : Nat) (Option.none : Option Jvm.ClassFile.FieldType)) ∈ lw_all := lw_g (lw_at lw_m6 146 rfl) rfl
theorem q1449 : (Jvm.Cond.instanceMethod ({ cls := "MissedTrainsModel", name := "law", desc := "(I)I" } : Jvm.MethodName)) ∈ lw_all := lw_g (lw_at lw_m6 148 rfl) rfl
theorem q1450 : (Jvm.Cond.selects "MissedTrainsModel" ({ cls := "MissedTrainsModel", name := "law", desc := "(I)I" } : Jvm.MethodName) ({ cls := "MissedTrainsModel", name := "law", desc := "(I)I" } : Jvm.MethodName)) ∈ lw_all := lw_g (lw_at lw_m6 149 rfl) rfl
theorem q1451 : (Jvm.Cond.code ({ cls := "MissedTrainsModel", name := "law", desc := "(I)I" } : Jvm.MethodName) prog_21_method_42_code (4 : Nat) (Option.some Jvm.ClassFile.FieldType.int)) ∈ lw_all := lw_g (lw_at lw_m6 150 rfl) rfl
theorem q1452 : (Jvm.Cond.methodLink "MissedTrainsModel" (270 : Nat) ({ cls := "MissedTrainsModel", name := "beginsText", desc := "(I)V" } : Jvm.MethodName)) ∈ lw_all := lw_g (lw_at lw_m6 151 rfl) rfl
theorem q1453 : (Jvm.Cond.privateMethod ({ cls := "MissedTrainsModel", name := "beginsText", desc := "(I)V" } : Jvm.MethodName)) ∈ lw_tbl := lw_at lw_m6 152 rfl
theorem q1454 : (Jvm.Cond.instanceMethod ({ cls := "MissedTrainsModel", name := "beginsText", desc := "(I)V" } : Jvm.MethodName)) ∈ lw_all := lw_g (lw_at lw_m6 153 rfl) rfl
theorem q1455 : (Jvm.Cond.code ({ cls := "MissedTrainsModel", name := "beginsText", desc := "(I)V" } : Jvm.MethodName) prog_21_method_41_code (2 : Nat) (Option.none : Option Jvm.ClassFile.FieldType)) ∈ lw_all := lw_g (lw_at lw_m6 154 rfl) rfl
theorem q1456 : (Jvm.Cond.methodLink "MissedTrainsModel" (273 : Nat) ({ cls := "MissedTrainsModel", name := "readsRule", desc := "()Z" } : Jvm.MethodName)) ∈ lw_all := lw_g (lw_at lw_m6 155 rfl) rfl
theorem q1457 : (Jvm.Cond.privateMethod ({ cls := "MissedTrainsModel", name := "readsRule", desc := "()Z" } : Jvm.MethodName)) ∈ lw_tbl := lw_at lw_m6 156 rfl
theorem q1458 : (Jvm.Cond.instanceMethod ({ cls := "MissedTrainsModel", name := "readsRule", desc := "()Z" } : Jvm.MethodName)) ∈ lw_all := lw_g (lw_at lw_m6 157 rfl) rfl
theorem q1459 : (Jvm.Cond.code ({ cls := "MissedTrainsModel", name := "readsRule", desc := "()Z" } : Jvm.MethodName) prog_21_method_40_code (2 : Nat) (Option.some Jvm.ClassFile.FieldType.boolean)) ∈ lw_all := lw_g (lw_at lw_m6 158 rfl) rfl
theorem q1460 : (Jvm.Cond.methodLink "MissedTrainsModel" (192 : Nat) ({ cls := "MissedTrainsModel", name := "here", desc := "()I" } : Jvm.MethodName)) ∈ lw_all := lw_g (lw_at lw_m6 159 rfl) rfl
theorem q1461 : (Jvm.Cond.privateMethod ({ cls := "MissedTrainsModel", name := "here", desc := "()I" } : Jvm.MethodName)) ∈ lw_tbl := lw_at lw_m6 160 rfl
theorem q1462 : (Jvm.Cond.instanceMethod ({ cls := "MissedTrainsModel", name := "here", desc := "()I" } : Jvm.MethodName)) ∈ lw_all := lw_g (lw_at lw_m6 161 rfl) rfl
theorem q1463 : (Jvm.Cond.code ({ cls := "MissedTrainsModel", name := "here", desc := "()I" } : Jvm.MethodName) prog_21_method_21_code (1 : Nat) (Option.some Jvm.ClassFile.FieldType.int)) ∈ lw_all := lw_g (lw_at lw_m6 162 rfl) rfl
theorem q1464 : (Jvm.Cond.methodLink "MissedTrainsModel" (199 : Nat) ({ cls := "MissedTrainsModel", name := "wrongAt", desc := "(II)Z" } : Jvm.MethodName)) ∈ lw_all := lw_g (lw_at lw_m6 163 rfl) rfl
theorem q1465 : (Jvm.Cond.privateMethod ({ cls := "MissedTrainsModel", name := "wrongAt", desc := "(II)Z" } : Jvm.MethodName)) ∈ lw_tbl := lw_at lw_m6 164 rfl
theorem q1466 : (Jvm.Cond.instanceMethod ({ cls := "MissedTrainsModel", name := "wrongAt", desc := "(II)Z" } : Jvm.MethodName)) ∈ lw_all := lw_g (lw_at lw_m6 165 rfl) rfl
theorem q1467 : (Jvm.Cond.code ({ cls := "MissedTrainsModel", name := "wrongAt", desc := "(II)Z" } : Jvm.MethodName) prog_21_method_23_code (3 : Nat) (Option.some Jvm.ClassFile.FieldType.boolean)) ∈ lw_all := lw_g (lw_at lw_m6 166 rfl) rfl
theorem q1468 : (Jvm.Cond.methodLink "MissedTrainsModel" (249 : Nat) ({ cls := "MissedTrainsModel", name := "readsSum", desc := "()Z" } : Jvm.MethodName)) ∈ lw_all := lw_g (lw_at lw_m6 167 rfl) rfl
theorem q1469 : (Jvm.Cond.privateMethod ({ cls := "MissedTrainsModel", name := "readsSum", desc := "()Z" } : Jvm.MethodName)) ∈ lw_tbl := lw_at lw_m6 168 rfl
theorem q1470 : (Jvm.Cond.instanceMethod ({ cls := "MissedTrainsModel", name := "readsSum", desc := "()Z" } : Jvm.MethodName)) ∈ lw_all := lw_g (lw_at lw_m6 169 rfl) rfl
theorem q1471 : (Jvm.Cond.code ({ cls := "MissedTrainsModel", name := "readsSum", desc := "()Z" } : Jvm.MethodName) prog_21_method_34_code (3 : Nat) (Option.some Jvm.ClassFile.FieldType.boolean)) ∈ lw_all := lw_g (lw_at lw_m6 170 rfl) rfl
theorem q1472 : (Jvm.Cond.methodLink "MissedTrainsModel" (236 : Nat) ({ cls := "MissedTrainsModel", name := "readsFactor", desc := "()Z" } : Jvm.MethodName)) ∈ lw_all := lw_g (lw_at lw_m6 171 rfl) rfl
theorem q1473 : (Jvm.Cond.privateMethod ({ cls := "MissedTrainsModel", name := "readsFactor", desc := "()Z" } : Jvm.MethodName)) ∈ lw_tbl := lw_at lw_m6 172 rfl
theorem q1474 : (Jvm.Cond.instanceMethod ({ cls := "MissedTrainsModel", name := "readsFactor", desc := "()Z" } : Jvm.MethodName)) ∈ lw_all := lw_g (lw_at lw_m6 173 rfl) rfl
theorem q1475 : (Jvm.Cond.code ({ cls := "MissedTrainsModel", name := "readsFactor", desc := "()Z" } : Jvm.MethodName) prog_21_method_32_code (2 : Nat) (Option.some Jvm.ClassFile.FieldType.boolean)) ∈ lw_all := lw_g (lw_at lw_m6 174 rfl) rfl
theorem q1476 : (Jvm.Cond.methodLink "MissedTrainsModel" (226 : Nat) ({ cls := "MissedTrainsModel", name := "opens", desc := "(I)Z" } : Jvm.MethodName)) ∈ lw_all := lw_g (lw_at lw_m6 175 rfl) rfl
theorem q1477 : (Jvm.Cond.privateMethod ({ cls := "MissedTrainsModel", name := "opens", desc := "(I)Z" } : Jvm.MethodName)) ∈ lw_tbl := lw_at lw_m6 176 rfl
theorem q1478 : (Jvm.Cond.instanceMethod ({ cls := "MissedTrainsModel", name := "opens", desc := "(I)Z" } : Jvm.MethodName)) ∈ lw_all := lw_g (lw_at lw_m6 177 rfl) rfl
theorem q1479 : (Jvm.Cond.code ({ cls := "MissedTrainsModel", name := "opens", desc := "(I)Z" } : Jvm.MethodName) prog_21_method_27_code (2 : Nat) (Option.some Jvm.ClassFile.FieldType.boolean)) ∈ lw_all := lw_g (lw_at lw_m6 178 rfl) rfl
theorem q1480 : (Jvm.Cond.constant "MissedTrainsModel" (212 : Nat) (1048576 : Int32)) ∈ lw_all := lw_g (lw_at lw_m6 179 rfl) rfl
theorem q1481 : (Jvm.Cond.methodLink "MissedTrainsModel" (205 : Nat) ({ cls := "MissedTrainsModel", name := "isDigit", desc := "()Z" } : Jvm.MethodName)) ∈ lw_all := lw_g (lw_at lw_m6 180 rfl) rfl
theorem q1482 : (Jvm.Cond.privateMethod ({ cls := "MissedTrainsModel", name := "isDigit", desc := "()Z" } : Jvm.MethodName)) ∈ lw_tbl := lw_at lw_m6 181 rfl
theorem q1483 : (Jvm.Cond.instanceMethod ({ cls := "MissedTrainsModel", name := "isDigit", desc := "()Z" } : Jvm.MethodName)) ∈ lw_all := lw_g (lw_at lw_m6 182 rfl) rfl
theorem q1484 : (Jvm.Cond.code ({ cls := "MissedTrainsModel", name := "isDigit", desc := "()Z" } : Jvm.MethodName) prog_21_method_22_code (1 : Nat) (Option.some Jvm.ClassFile.FieldType.boolean)) ∈ lw_all := lw_g (lw_at lw_m6 183 rfl) rfl
theorem q1485 : (Jvm.Cond.methodLink "MissedTrainsModel" (229 : Nat) ({ cls := "MissedTrainsModel", name := "readsNumber", desc := "()Z" } : Jvm.MethodName)) ∈ lw_all := lw_g (lw_at lw_m6 184 rfl) rfl
theorem q1486 : (Jvm.Cond.privateMethod ({ cls := "MissedTrainsModel", name := "readsNumber", desc := "()Z" } : Jvm.MethodName)) ∈ lw_tbl := lw_at lw_m6 185 rfl
theorem q1487 : (Jvm.Cond.instanceMethod ({ cls := "MissedTrainsModel", name := "readsNumber", desc := "()Z" } : Jvm.MethodName)) ∈ lw_all := lw_g (lw_at lw_m6 186 rfl) rfl
theorem q1488 : (Jvm.Cond.code ({ cls := "MissedTrainsModel", name := "readsNumber", desc := "()Z" } : Jvm.MethodName) prog_21_method_25_code (2 : Nat) (Option.some Jvm.ClassFile.FieldType.boolean)) ∈ lw_all := lw_g (lw_at lw_m6 187 rfl) rfl
theorem q1489 : (Jvm.Cond.methodLink "MissedTrainsModel" (222 : Nat) ({ cls := "MissedTrainsModel", name := "notes", desc := "(II)V" } : Jvm.MethodName)) ∈ lw_all := lw_g (lw_at lw_m6 188 rfl) rfl
theorem q1490 : (Jvm.Cond.privateMethod ({ cls := "MissedTrainsModel", name := "notes", desc := "(II)V" } : Jvm.MethodName)) ∈ lw_tbl := lw_at lw_m6 189 rfl
theorem q1491 : (Jvm.Cond.instanceMethod ({ cls := "MissedTrainsModel", name := "notes", desc := "(II)V" } : Jvm.MethodName)) ∈ lw_all := lw_g (lw_at lw_m6 190 rfl) rfl
theorem q1492 : (Jvm.Cond.code ({ cls := "MissedTrainsModel", name := "notes", desc := "(II)V" } : Jvm.MethodName) prog_21_method_26_code (3 : Nat) (Option.none : Option Jvm.ClassFile.FieldType)) ∈ lw_all := lw_g (lw_at lw_m6 191 rfl) rfl
theorem q1493 : (Jvm.Cond.methodLink "MissedTrainsModel" (232 : Nat) ({ cls := "MissedTrainsModel", name := "factOf", desc := "(I)I" } : Jvm.MethodName)) ∈ lw_all := lw_g (lw_at lw_m6 192 rfl) rfl
theorem q1494 : (Jvm.Cond.static ({ cls := "MissedTrainsModel", name := "factOf", desc := "(I)I" } : Jvm.MethodName)) ∈ lw_all := lw_g (lw_at lw_m6 193 rfl) rfl
theorem q1495 : (Jvm.Cond.code ({ cls := "MissedTrainsModel", name := "factOf", desc := "(I)I" } : Jvm.MethodName) prog_21_method_29_code (1 : Nat) (Option.some Jvm.ClassFile.FieldType.int)) ∈ lw_all := lw_g (lw_at lw_m6 194 rfl) rfl
theorem q1496 : (Jvm.Cond.methodLink "MissedTrainsModel" (239 : Nat) ({ cls := "MissedTrainsModel", name := "sumSign", desc := "(I)I" } : Jvm.MethodName)) ∈ lw_all := lw_g (lw_at lw_m6 195 rfl) rfl
theorem q1497 : (Jvm.Cond.static ({ cls := "MissedTrainsModel", name := "sumSign", desc := "(I)I" } : Jvm.MethodName)) ∈ lw_all := lw_g (lw_at lw_m6 196 rfl) rfl
theorem q1498 : (Jvm.Cond.code ({ cls := "MissedTrainsModel", name := "sumSign", desc := "(I)I" } : Jvm.MethodName) prog_21_method_30_code (1 : Nat) (Option.some Jvm.ClassFile.FieldType.int)) ∈ lw_all := lw_g (lw_at lw_m6 197 rfl) rfl
theorem q1499 : (Jvm.Cond.methodLink "MissedTrainsModel" (242 : Nat) ({ cls := "MissedTrainsModel", name := "closesSums", desc := "(Z)V" } : Jvm.MethodName)) ∈ lw_all := lw_g (lw_at lw_m6 198 rfl) rfl
theorem q1500 : (Jvm.Cond.privateMethod ({ cls := "MissedTrainsModel", name := "closesSums", desc := "(Z)V" } : Jvm.MethodName)) ∈ lw_tbl := lw_at lw_m6 199 rfl
theorem q1501 : (Jvm.Cond.instanceMethod ({ cls := "MissedTrainsModel", name := "closesSums", desc := "(Z)V" } : Jvm.MethodName)) ∈ lw_all := lw_g (lw_at lw_m6 200 rfl) rfl
theorem q1502 : (Jvm.Cond.code ({ cls := "MissedTrainsModel", name := "closesSums", desc := "(Z)V" } : Jvm.MethodName) prog_21_method_31_code (2 : Nat) (Option.none : Option Jvm.ClassFile.FieldType)) ∈ lw_all := lw_g (lw_at lw_m6 201 rfl) rfl
theorem q1503 : (Jvm.Cond.methodLink "MissedTrainsModel" (219 : Nat) ({ cls := "MissedTrainsModel", name := "waitTop", desc := "()I" } : Jvm.MethodName)) ∈ lw_all := lw_g (lw_at lw_m6 202 rfl) rfl
theorem q1504 : (Jvm.Cond.privateMethod ({ cls := "MissedTrainsModel", name := "waitTop", desc := "()I" } : Jvm.MethodName)) ∈ lw_tbl := lw_at lw_m6 203 rfl
theorem q1505 : (Jvm.Cond.instanceMethod ({ cls := "MissedTrainsModel", name := "waitTop", desc := "()I" } : Jvm.MethodName)) ∈ lw_all := lw_g (lw_at lw_m6 204 rfl) rfl
theorem q1506 : (Jvm.Cond.code ({ cls := "MissedTrainsModel", name := "waitTop", desc := "()I" } : Jvm.MethodName) prog_21_method_28_code (1 : Nat) (Option.some Jvm.ClassFile.FieldType.int)) ∈ lw_all := lw_g (lw_at lw_m6 205 rfl) rfl
theorem q1507 : (Jvm.Cond.methodLink "MissedTrainsModel" (246 : Nat) ({ cls := "MissedTrainsModel", name := "hasOpenSum", desc := "(I)Z" } : Jvm.MethodName)) ∈ lw_all := lw_g (lw_at lw_m6 206 rfl) rfl
theorem q1508 : (Jvm.Cond.privateMethod ({ cls := "MissedTrainsModel", name := "hasOpenSum", desc := "(I)Z" } : Jvm.MethodName)) ∈ lw_tbl := lw_at lw_m6 207 rfl
theorem q1509 : (Jvm.Cond.instanceMethod ({ cls := "MissedTrainsModel", name := "hasOpenSum", desc := "(I)Z" } : Jvm.MethodName)) ∈ lw_all := lw_g (lw_at lw_m6 208 rfl) rfl
theorem q1510 : (Jvm.Cond.code ({ cls := "MissedTrainsModel", name := "hasOpenSum", desc := "(I)Z" } : Jvm.MethodName) prog_21_method_33_code (3 : Nat) (Option.some Jvm.ClassFile.FieldType.boolean)) ∈ lw_all := lw_g (lw_at lw_m6 209 rfl) rfl
theorem q1511 : (Jvm.Cond.methodLink "MissedTrainsModel" (267 : Nat) ({ cls := "MissedTrainsModel", name := "readsCondition", desc := "()Z" } : Jvm.MethodName)) ∈ lw_all := lw_g (lw_at lw_m6 210 rfl) rfl
theorem q1512 : (Jvm.Cond.privateMethod ({ cls := "MissedTrainsModel", name := "readsCondition", desc := "()Z" } : Jvm.MethodName)) ∈ lw_tbl := lw_at lw_m6 211 rfl
theorem q1513 : (Jvm.Cond.instanceMethod ({ cls := "MissedTrainsModel", name := "readsCondition", desc := "()Z" } : Jvm.MethodName)) ∈ lw_all := lw_g (lw_at lw_m6 212 rfl) rfl
theorem q1514 : (Jvm.Cond.code ({ cls := "MissedTrainsModel", name := "readsCondition", desc := "()Z" } : Jvm.MethodName) prog_21_method_39_code (1 : Nat) (Option.some Jvm.ClassFile.FieldType.boolean)) ∈ lw_all := lw_g (lw_at lw_m6 213 rfl) rfl
theorem q1515 : (Jvm.Cond.methodLink "MissedTrainsModel" (255 : Nat) ({ cls := "MissedTrainsModel", name := "readsCompared", desc := "()Z" } : Jvm.MethodName)) ∈ lw_all := lw_g (lw_at lw_m6 214 rfl) rfl
theorem q1516 : (Jvm.Cond.privateMethod ({ cls := "MissedTrainsModel", name := "readsCompared", desc := "()Z" } : Jvm.MethodName)) ∈ lw_tbl := lw_at lw_m6 215 rfl
theorem q1517 : (Jvm.Cond.instanceMethod ({ cls := "MissedTrainsModel", name := "readsCompared", desc := "()Z" } : Jvm.MethodName)) ∈ lw_all := lw_g (lw_at lw_m6 216 rfl) rfl
theorem q1518 : (Jvm.Cond.code ({ cls := "MissedTrainsModel", name := "readsCompared", desc := "()Z" } : Jvm.MethodName) prog_21_method_38_code (2 : Nat) (Option.some Jvm.ClassFile.FieldType.boolean)) ∈ lw_all := lw_g (lw_at lw_m6 217 rfl) rfl
theorem q1519 : (Jvm.Cond.methodLink "MissedTrainsModel" (252 : Nat) ({ cls := "MissedTrainsModel", name := "endsPiece", desc := "()V" } : Jvm.MethodName)) ∈ lw_all := lw_g (lw_at lw_m6 218 rfl) rfl
theorem q1520 : (Jvm.Cond.privateMethod ({ cls := "MissedTrainsModel", name := "endsPiece", desc := "()V" } : Jvm.MethodName)) ∈ lw_tbl := lw_at lw_m6 219 rfl
theorem q1521 : (Jvm.Cond.instanceMethod ({ cls := "MissedTrainsModel", name := "endsPiece", desc := "()V" } : Jvm.MethodName)) ∈ lw_all := lw_g (lw_at lw_m6 220 rfl) rfl
theorem q1522 : (Jvm.Cond.code ({ cls := "MissedTrainsModel", name := "endsPiece", desc := "()V" } : Jvm.MethodName) prog_21_method_35_code (1 : Nat) (Option.none : Option Jvm.ClassFile.FieldType)) ∈ lw_all := lw_g (lw_at lw_m6 221 rfl) rfl
theorem q1523 : (Jvm.Cond.methodLink "MissedTrainsModel" (258 : Nat) ({ cls := "MissedTrainsModel", name := "lands", desc := "(Z)V" } : Jvm.MethodName)) ∈ lw_all := lw_g (lw_at lw_m6 222 rfl) rfl
theorem q1524 : (Jvm.Cond.privateMethod ({ cls := "MissedTrainsModel", name := "lands", desc := "(Z)V" } : Jvm.MethodName)) ∈ lw_tbl := lw_at lw_m6 223 rfl
theorem q1525 : (Jvm.Cond.instanceMethod ({ cls := "MissedTrainsModel", name := "lands", desc := "(Z)V" } : Jvm.MethodName)) ∈ lw_all := lw_g (lw_at lw_m6 224 rfl) rfl
theorem q1526 : (Jvm.Cond.code ({ cls := "MissedTrainsModel", name := "lands", desc := "(Z)V" } : Jvm.MethodName) prog_21_method_36_code (3 : Nat) (Option.none : Option Jvm.ClassFile.FieldType)) ∈ lw_all := lw_g (lw_at lw_m6 225 rfl) rfl
theorem q1527 : (Jvm.Cond.methodLink "MissedTrainsModel" (261 : Nat) ({ cls := "MissedTrainsModel", name := "jumps", desc := "(I)V" } : Jvm.MethodName)) ∈ lw_all := lw_g (lw_at lw_m6 226 rfl) rfl
theorem q1528 : (Jvm.Cond.privateMethod ({ cls := "MissedTrainsModel", name := "jumps", desc := "(I)V" } : Jvm.MethodName)) ∈ lw_tbl := lw_at lw_m6 227 rfl
theorem q1529 : (Jvm.Cond.instanceMethod ({ cls := "MissedTrainsModel", name := "jumps", desc := "(I)V" } : Jvm.MethodName)) ∈ lw_all := lw_g (lw_at lw_m6 228 rfl) rfl
theorem q1530 : (Jvm.Cond.code ({ cls := "MissedTrainsModel", name := "jumps", desc := "(I)V" } : Jvm.MethodName) prog_21_method_37_code (2 : Nat) (Option.none : Option Jvm.ClassFile.FieldType)) ∈ lw_all := lw_g (lw_at lw_m6 229 rfl) rfl
theorem q1531 : (Jvm.Cond.methodLink "MissedTrainsModel" (276 : Nat) ({ cls := "MissedTrainsModel", name := "takes", desc := "(I)Z" } : Jvm.MethodName)) ∈ lw_all := lw_g (lw_at lw_m6 230 rfl) rfl
theorem q1532 : (Jvm.Cond.privateMethod ({ cls := "MissedTrainsModel", name := "takes", desc := "(I)Z" } : Jvm.MethodName)) ∈ lw_tbl := lw_at lw_m6 231 rfl
theorem q1533 : (Jvm.Cond.instanceMethod ({ cls := "MissedTrainsModel", name := "takes", desc := "(I)Z" } : Jvm.MethodName)) ∈ lw_all := lw_g (lw_at lw_m6 232 rfl) rfl
theorem q1534 : (Jvm.Cond.code ({ cls := "MissedTrainsModel", name := "takes", desc := "(I)Z" } : Jvm.MethodName) prog_21_method_24_code (2 : Nat) (Option.some Jvm.ClassFile.FieldType.boolean)) ∈ lw_all := lw_g (lw_at lw_m6 233 rfl) rfl
theorem q1536 : (Jvm.Cond.instanceMethod ({ cls := "MissedTrainsModel", name := "timetable", desc := "(I)I" } : Jvm.MethodName)) ∈ lw_all := lw_g (lw_at lw_m6 235 rfl) rfl
theorem q1537 : (Jvm.Cond.selects "MissedTrainsModel" ({ cls := "MissedTrainsModel", name := "timetable", desc := "(I)I" } : Jvm.MethodName) ({ cls := "MissedTrainsModel", name := "timetable", desc := "(I)I" } : Jvm.MethodName)) ∈ lw_all := lw_g (lw_at lw_m6 236 rfl) rfl
theorem q1538 : (Jvm.Cond.code ({ cls := "MissedTrainsModel", name := "timetable", desc := "(I)I" } : Jvm.MethodName) prog_21_method_52_code (4 : Nat) (Option.some Jvm.ClassFile.FieldType.int)) ∈ lw_all := lw_g (lw_at lw_m6 237 rfl) rfl
theorem q1539 : (Jvm.Cond.methodLink "MissedTrainsModel" (307 : Nat) ({ cls := "MissedTrainsModel", name := "readsService", desc := "()Z" } : Jvm.MethodName)) ∈ lw_all := lw_g (lw_at lw_m6 238 rfl) rfl
theorem q1540 : (Jvm.Cond.privateMethod ({ cls := "MissedTrainsModel", name := "readsService", desc := "()Z" } : Jvm.MethodName)) ∈ lw_tbl := lw_at lw_m6 239 rfl
theorem q1541 : (Jvm.Cond.instanceMethod ({ cls := "MissedTrainsModel", name := "readsService", desc := "()Z" } : Jvm.MethodName)) ∈ lw_all := lw_g (lw_at lw_m7 0 rfl) rfl
theorem q1542 : (Jvm.Cond.code ({ cls := "MissedTrainsModel", name := "readsService", desc := "()Z" } : Jvm.MethodName) prog_21_method_50_code (7 : Nat) (Option.some Jvm.ClassFile.FieldType.boolean)) ∈ lw_all := lw_g (lw_at lw_m7 1 rfl) rfl
theorem q1543 : (Jvm.Cond.methodLink "MissedTrainsModel" (289 : Nat) ({ cls := "MissedTrainsModel", name := "isLetter", desc := "()Z" } : Jvm.MethodName)) ∈ lw_all := lw_g (lw_at lw_m7 2 rfl) rfl
theorem q1544 : (Jvm.Cond.privateMethod ({ cls := "MissedTrainsModel", name := "isLetter", desc := "()Z" } : Jvm.MethodName)) ∈ lw_tbl := lw_at lw_m7 3 rfl
theorem q1545 : (Jvm.Cond.instanceMethod ({ cls := "MissedTrainsModel", name := "isLetter", desc := "()Z" } : Jvm.MethodName)) ∈ lw_all := lw_g (lw_at lw_m7 4 rfl) rfl
theorem q1546 : (Jvm.Cond.code ({ cls := "MissedTrainsModel", name := "isLetter", desc := "()Z" } : Jvm.MethodName) prog_21_method_47_code (1 : Nat) (Option.some Jvm.ClassFile.FieldType.boolean)) ∈ lw_all := lw_g (lw_at lw_m7 5 rfl) rfl
theorem q1547 : (Jvm.Cond.methodLink "MissedTrainsModel" (298 : Nat) ({ cls := "MissedTrainsModel", name := "readsStop", desc := "(I)Z" } : Jvm.MethodName)) ∈ lw_all := lw_g (lw_at lw_m7 6 rfl) rfl
theorem q1548 : (Jvm.Cond.privateMethod ({ cls := "MissedTrainsModel", name := "readsStop", desc := "(I)Z" } : Jvm.MethodName)) ∈ lw_tbl := lw_at lw_m7 7 rfl
theorem q1549 : (Jvm.Cond.instanceMethod ({ cls := "MissedTrainsModel", name := "readsStop", desc := "(I)Z" } : Jvm.MethodName)) ∈ lw_all := lw_g (lw_at lw_m7 8 rfl) rfl
theorem q1550 : (Jvm.Cond.code ({ cls := "MissedTrainsModel", name := "readsStop", desc := "(I)Z" } : Jvm.MethodName) prog_21_method_49_code (4 : Nat) (Option.some Jvm.ClassFile.FieldType.boolean)) ∈ lw_all := lw_g (lw_at lw_m7 9 rfl) rfl
theorem q1551 : (Jvm.Cond.methodLink "MissedTrainsModel" (292 : Nat) ({ cls := "MissedTrainsModel", name := "readsWithin", desc := "(III)Z" } : Jvm.MethodName)) ∈ lw_all := lw_g (lw_at lw_m7 10 rfl) rfl
theorem q1552 : (Jvm.Cond.privateMethod ({ cls := "MissedTrainsModel", name := "readsWithin", desc := "(III)Z" } : Jvm.MethodName)) ∈ lw_tbl := lw_at lw_m7 11 rfl
theorem q1553 : (Jvm.Cond.instanceMethod ({ cls := "MissedTrainsModel", name := "readsWithin", desc := "(III)Z" } : Jvm.MethodName)) ∈ lw_all := lw_g (lw_at lw_m7 12 rfl) rfl
theorem q1554 : (Jvm.Cond.code ({ cls := "MissedTrainsModel", name := "readsWithin", desc := "(III)Z" } : Jvm.MethodName) prog_21_method_48_code (5 : Nat) (Option.some Jvm.ClassFile.FieldType.boolean)) ∈ lw_all := lw_g (lw_at lw_m7 13 rfl) rfl
theorem q1555 : (Jvm.Cond.methodLink "MissedTrainsModel" (165 : Nat) ({ cls := "MissedTrainsModel", name := "at", desc := "(II)I" } : Jvm.MethodName)) ∈ lw_all := lw_g (lw_at lw_m7 14 rfl) rfl
theorem q1556 : (Jvm.Cond.static ({ cls := "MissedTrainsModel", name := "at", desc := "(II)I" } : Jvm.MethodName)) ∈ lw_all := lw_g (lw_at lw_m7 15 rfl) rfl
theorem q1557 : (Jvm.Cond.code ({ cls := "MissedTrainsModel", name := "at", desc := "(II)I" } : Jvm.MethodName) prog_21_method_11_code (2 : Nat) (Option.some Jvm.ClassFile.FieldType.int)) ∈ lw_all := lw_g (lw_at lw_m7 16 rfl) rfl
theorem q1558 : (Jvm.Cond.methodLink "MissedTrainsModel" (310 : Nat) ({ cls := "MissedTrainsModel", name := "sortsEvents", desc := "()V" } : Jvm.MethodName)) ∈ lw_all := lw_g (lw_at lw_m7 17 rfl) rfl
theorem q1559 : (Jvm.Cond.privateMethod ({ cls := "MissedTrainsModel", name := "sortsEvents", desc := "()V" } : Jvm.MethodName)) ∈ lw_tbl := lw_at lw_m7 18 rfl
theorem q1560 : (Jvm.Cond.instanceMethod ({ cls := "MissedTrainsModel", name := "sortsEvents", desc := "()V" } : Jvm.MethodName)) ∈ lw_all := lw_g (lw_at lw_m7 19 rfl) rfl
theorem q1561 : (Jvm.Cond.code ({ cls := "MissedTrainsModel", name := "sortsEvents", desc := "()V" } : Jvm.MethodName) prog_21_method_51_code (4 : Nat) (Option.none : Option Jvm.ClassFile.FieldType)) ∈ lw_all := lw_g (lw_at lw_m7 20 rfl) rfl
theorem q1563 : (Jvm.Cond.instanceMethod ({ cls := "MissedTrainsModel", name := "orders", desc := "(I)I" } : Jvm.MethodName)) ∈ lw_all := lw_g (lw_at lw_m7 22 rfl) rfl
theorem q1564 : (Jvm.Cond.selects "MissedTrainsModel" ({ cls := "MissedTrainsModel", name := "orders", desc := "(I)I" } : Jvm.MethodName) ({ cls := "MissedTrainsModel", name := "orders", desc := "(I)I" } : Jvm.MethodName)) ∈ lw_all := lw_g (lw_at lw_m7 23 rfl) rfl
theorem q1565 : (Jvm.Cond.code ({ cls := "MissedTrainsModel", name := "orders", desc := "(I)I" } : Jvm.MethodName) prog_21_method_54_code (4 : Nat) (Option.some Jvm.ClassFile.FieldType.int)) ∈ lw_all := lw_g (lw_at lw_m7 24 rfl) rfl
theorem q1566 : (Jvm.Cond.methodLink "MissedTrainsModel" (316 : Nat) ({ cls := "MissedTrainsModel", name := "readsOrder", desc := "()Z" } : Jvm.MethodName)) ∈ lw_all := lw_g (lw_at lw_m7 25 rfl) rfl
theorem q1567 : (Jvm.Cond.privateMethod ({ cls := "MissedTrainsModel", name := "readsOrder", desc := "()Z" } : Jvm.MethodName)) ∈ lw_tbl := lw_at lw_m7 26 rfl
theorem q1568 : (Jvm.Cond.instanceMethod ({ cls := "MissedTrainsModel", name := "readsOrder", desc := "()Z" } : Jvm.MethodName)) ∈ lw_all := lw_g (lw_at lw_m7 27 rfl) rfl
theorem q1569 : (Jvm.Cond.code ({ cls := "MissedTrainsModel", name := "readsOrder", desc := "()Z" } : Jvm.MethodName) prog_21_method_53_code (4 : Nat) (Option.some Jvm.ClassFile.FieldType.boolean)) ∈ lw_all := lw_g (lw_at lw_m7 28 rfl) rfl
theorem q1571 : (Jvm.Cond.instanceMethod ({ cls := "MissedTrainsModel", name := "days", desc := "(I)I" } : Jvm.MethodName)) ∈ lw_all := lw_g (lw_at lw_m7 30 rfl) rfl
theorem q1572 : (Jvm.Cond.selects "MissedTrainsModel" ({ cls := "MissedTrainsModel", name := "days", desc := "(I)I" } : Jvm.MethodName) ({ cls := "MissedTrainsModel", name := "days", desc := "(I)I" } : Jvm.MethodName)) ∈ lw_all := lw_g (lw_at lw_m7 31 rfl) rfl
theorem q1573 : (Jvm.Cond.code ({ cls := "MissedTrainsModel", name := "days", desc := "(I)I" } : Jvm.MethodName) prog_21_method_62_code (2 : Nat) (Option.some Jvm.ClassFile.FieldType.int)) ∈ lw_all := lw_g (lw_at lw_m7 32 rfl) rfl
theorem q1574 : (Jvm.Cond.methodLink "MissedTrainsModel" (361 : Nat) ({ cls := "MissedTrainsModel", name := "daysGo", desc := "(I)V" } : Jvm.MethodName)) ∈ lw_all := lw_g (lw_at lw_m7 33 rfl) rfl
theorem q1575 : (Jvm.Cond.privateMethod ({ cls := "MissedTrainsModel", name := "daysGo", desc := "(I)V" } : Jvm.MethodName)) ∈ lw_tbl := lw_at lw_m7 34 rfl
theorem q1576 : (Jvm.Cond.instanceMethod ({ cls := "MissedTrainsModel", name := "daysGo", desc := "(I)V" } : Jvm.MethodName)) ∈ lw_all := lw_g (lw_at lw_m7 35 rfl) rfl
theorem q1577 : (Jvm.Cond.code ({ cls := "MissedTrainsModel", name := "daysGo", desc := "(I)V" } : Jvm.MethodName) prog_21_method_61_code (3 : Nat) (Option.none : Option Jvm.ClassFile.FieldType)) ∈ lw_all := lw_g (lw_at lw_m7 36 rfl) rfl
theorem q1578 : (Jvm.Cond.methodLink "MissedTrainsModel" (358 : Nat) ({ cls := "MissedTrainsModel", name := "dayGoes", desc := "()V" } : Jvm.MethodName)) ∈ lw_all := lw_g (lw_at lw_m7 37 rfl) rfl
theorem q1579 : (Jvm.Cond.privateMethod ({ cls := "MissedTrainsModel", name := "dayGoes", desc := "()V" } : Jvm.MethodName)) ∈ lw_tbl := lw_at lw_m7 38 rfl
theorem q1580 : (Jvm.Cond.instanceMethod ({ cls := "MissedTrainsModel", name := "dayGoes", desc := "()V" } : Jvm.MethodName)) ∈ lw_all := lw_g (lw_at lw_m7 39 rfl) rfl
theorem q1581 : (Jvm.Cond.code ({ cls := "MissedTrainsModel", name := "dayGoes", desc := "()V" } : Jvm.MethodName) prog_21_method_60_code (2 : Nat) (Option.none : Option Jvm.ClassFile.FieldType)) ∈ lw_all := lw_g (lw_at lw_m7 40 rfl) rfl
theorem q1582 : (Jvm.Cond.methodLink "MissedTrainsModel" (169 : Nat) ({ cls := "MissedTrainsModel", name := "runs", desc := "(I)Z" } : Jvm.MethodName)) ∈ lw_all := lw_g (lw_at lw_m7 41 rfl) rfl
theorem q1583 : (Jvm.Cond.privateMethod ({ cls := "MissedTrainsModel", name := "runs", desc := "(I)Z" } : Jvm.MethodName)) ∈ lw_tbl := lw_at lw_m7 42 rfl
theorem q1584 : (Jvm.Cond.instanceMethod ({ cls := "MissedTrainsModel", name := "runs", desc := "(I)Z" } : Jvm.MethodName)) ∈ lw_all := lw_g (lw_at lw_m7 43 rfl) rfl
theorem q1585 : (Jvm.Cond.code ({ cls := "MissedTrainsModel", name := "runs", desc := "(I)Z" } : Jvm.MethodName) prog_21_method_10_code (2 : Nat) (Option.some Jvm.ClassFile.FieldType.boolean)) ∈ lw_all := lw_g (lw_at lw_m7 44 rfl) rfl
theorem q1586 : (Jvm.Cond.methodLink "MissedTrainsModel" (355 : Nat) ({ cls := "MissedTrainsModel", name := "stops", desc := "(II)V" } : Jvm.MethodName)) ∈ lw_all := lw_g (lw_at lw_m7 45 rfl) rfl
theorem q1587 : (Jvm.Cond.privateMethod ({ cls := "MissedTrainsModel", name := "stops", desc := "(II)V" } : Jvm.MethodName)) ∈ lw_tbl := lw_at lw_m7 46 rfl
theorem q1588 : (Jvm.Cond.instanceMethod ({ cls := "MissedTrainsModel", name := "stops", desc := "(II)V" } : Jvm.MethodName)) ∈ lw_all := lw_g (lw_at lw_m7 47 rfl) rfl
theorem q1589 : (Jvm.Cond.code ({ cls := "MissedTrainsModel", name := "stops", desc := "(II)V" } : Jvm.MethodName) prog_21_method_59_code (7 : Nat) (Option.none : Option Jvm.ClassFile.FieldType)) ∈ lw_all := lw_g (lw_at lw_m7 48 rfl) rfl
theorem q1590 : (Jvm.Cond.constant "MissedTrainsModel" (338 : Nat) (65536 : Int32)) ∈ lw_all := lw_g (lw_at lw_m7 49 rfl) rfl
theorem q1591 : (Jvm.Cond.methodLink "MissedTrainsModel" (328 : Nat) ({ cls := "MissedTrainsModel", name := "feels", desc := "(III)V" } : Jvm.MethodName)) ∈ lw_all := lw_g (lw_at lw_m7 50 rfl) rfl
theorem q1592 : (Jvm.Cond.privateMethod ({ cls := "MissedTrainsModel", name := "feels", desc := "(III)V" } : Jvm.MethodName)) ∈ lw_tbl := lw_at lw_m7 51 rfl
theorem q1593 : (Jvm.Cond.instanceMethod ({ cls := "MissedTrainsModel", name := "feels", desc := "(III)V" } : Jvm.MethodName)) ∈ lw_all := lw_g (lw_at lw_m7 52 rfl) rfl
theorem q1594 : (Jvm.Cond.code ({ cls := "MissedTrainsModel", name := "feels", desc := "(III)V" } : Jvm.MethodName) prog_21_method_56_code (4 : Nat) (Option.none : Option Jvm.ClassFile.FieldType)) ∈ lw_all := lw_g (lw_at lw_m7 53 rfl) rfl
theorem q1595 : (Jvm.Cond.methodLink "MissedTrainsModel" (319 : Nat) ({ cls := "MissedTrainsModel", name := "waitersAt", desc := "(I)I" } : Jvm.MethodName)) ∈ lw_all := lw_g (lw_at lw_m7 54 rfl) rfl
theorem q1596 : (Jvm.Cond.privateMethod ({ cls := "MissedTrainsModel", name := "waitersAt", desc := "(I)I" } : Jvm.MethodName)) ∈ lw_tbl := lw_at lw_m7 55 rfl
theorem q1597 : (Jvm.Cond.instanceMethod ({ cls := "MissedTrainsModel", name := "waitersAt", desc := "(I)I" } : Jvm.MethodName)) ∈ lw_all := lw_g (lw_at lw_m7 56 rfl) rfl
theorem q1598 : (Jvm.Cond.code ({ cls := "MissedTrainsModel", name := "waitersAt", desc := "(I)I" } : Jvm.MethodName) prog_21_method_55_code (4 : Nat) (Option.some Jvm.ClassFile.FieldType.int)) ∈ lw_all := lw_g (lw_at lw_m7 57 rfl) rfl
theorem q1599 : (Jvm.Cond.methodLink "MissedTrainsModel" (339 : Nat) ({ cls := "MissedTrainsModel", name := "byLaw", desc := "(II)I" } : Jvm.MethodName)) ∈ lw_all := lw_g (lw_at lw_m7 58 rfl) rfl
theorem q1600 : (Jvm.Cond.privateMethod ({ cls := "MissedTrainsModel", name := "byLaw", desc := "(II)I" } : Jvm.MethodName)) ∈ lw_tbl := lw_at lw_m7 59 rfl
theorem q1601 : (Jvm.Cond.instanceMethod ({ cls := "MissedTrainsModel", name := "byLaw", desc := "(II)I" } : Jvm.MethodName)) ∈ lw_all := lw_g (lw_at lw_m7 60 rfl) rfl
theorem q1602 : (Jvm.Cond.code ({ cls := "MissedTrainsModel", name := "byLaw", desc := "(II)I" } : Jvm.MethodName) prog_21_method_45_code (5 : Nat) (Option.some Jvm.ClassFile.FieldType.int)) ∈ lw_all := lw_g (lw_at lw_m7 61 rfl) rfl
theorem q1603 : (Jvm.Cond.methodLink "MissedTrainsModel" (286 : Nat) ({ cls := "MissedTrainsModel", name := "reckonsTo", desc := "(II)I" } : Jvm.MethodName)) ∈ lw_all := lw_g (lw_at lw_m7 62 rfl) rfl
theorem q1604 : (Jvm.Cond.privateMethod ({ cls := "MissedTrainsModel", name := "reckonsTo", desc := "(II)I" } : Jvm.MethodName)) ∈ lw_tbl := lw_at lw_m7 63 rfl
theorem q1605 : (Jvm.Cond.instanceMethod ({ cls := "MissedTrainsModel", name := "reckonsTo", desc := "(II)I" } : Jvm.MethodName)) ∈ lw_all := lw_g (lw_at lw_m7 64 rfl) rfl
theorem q1606 : (Jvm.Cond.code ({ cls := "MissedTrainsModel", name := "reckonsTo", desc := "(II)I" } : Jvm.MethodName) prog_21_method_44_code (8 : Nat) (Option.some Jvm.ClassFile.FieldType.int)) ∈ lw_all := lw_g (lw_at lw_m7 65 rfl) rfl
theorem q1607 : (Jvm.Cond.methodLink "MissedTrainsModel" (282 : Nat) ({ cls := "MissedTrainsModel", name := "reckon", desc := "(III)I" } : Jvm.MethodName)) ∈ lw_all := lw_g (lw_at lw_m7 66 rfl) rfl
theorem q1608 : (Jvm.Cond.static ({ cls := "MissedTrainsModel", name := "reckon", desc := "(III)I" } : Jvm.MethodName)) ∈ lw_all := lw_g (lw_at lw_m7 67 rfl) rfl
theorem q1609 : (Jvm.Cond.code ({ cls := "MissedTrainsModel", name := "reckon", desc := "(III)I" } : Jvm.MethodName) prog_21_method_43_code (3 : Nat) (Option.some Jvm.ClassFile.FieldType.int)) ∈ lw_all := lw_g (lw_at lw_m7 68 rfl) rfl
theorem q1610 : (Jvm.Cond.methodLink "MissedTrainsModel" (322 : Nat) ({ cls := "MissedTrainsModel", name := "min", desc := "(II)I" } : Jvm.MethodName)) ∈ lw_all := lw_g (lw_at lw_m7 69 rfl) rfl
theorem q1611 : (Jvm.Cond.static ({ cls := "MissedTrainsModel", name := "min", desc := "(II)I" } : Jvm.MethodName)) ∈ lw_all := lw_g (lw_at lw_m7 70 rfl) rfl
theorem q1612 : (Jvm.Cond.code ({ cls := "MissedTrainsModel", name := "min", desc := "(II)I" } : Jvm.MethodName) prog_21_method_3_code (2 : Nat) (Option.some Jvm.ClassFile.FieldType.int)) ∈ lw_all := lw_g (lw_at lw_m7 71 rfl) rfl
theorem q1613 : (Jvm.Cond.methodLink "MissedTrainsModel" (342 : Nat) ({ cls := "MissedTrainsModel", name := "max", desc := "(II)I" } : Jvm.MethodName)) ∈ lw_all := lw_g (lw_at lw_m7 72 rfl) rfl
theorem q1614 : (Jvm.Cond.static ({ cls := "MissedTrainsModel", name := "max", desc := "(II)I" } : Jvm.MethodName)) ∈ lw_all := lw_g (lw_at lw_m7 73 rfl) rfl
theorem q1615 : (Jvm.Cond.code ({ cls := "MissedTrainsModel", name := "max", desc := "(II)I" } : Jvm.MethodName) prog_21_method_4_code (2 : Nat) (Option.some Jvm.ClassFile.FieldType.int)) ∈ lw_all := lw_g (lw_at lw_m7 74 rfl) rfl
theorem q1616 : (Jvm.Cond.methodLink "MissedTrainsModel" (348 : Nat) ({ cls := "MissedTrainsModel", name := "leavesTrain", desc := "(II)V" } : Jvm.MethodName)) ∈ lw_all := lw_g (lw_at lw_m7 75 rfl) rfl
theorem q1617 : (Jvm.Cond.privateMethod ({ cls := "MissedTrainsModel", name := "leavesTrain", desc := "(II)V" } : Jvm.MethodName)) ∈ lw_tbl := lw_at lw_m7 76 rfl
theorem q1618 : (Jvm.Cond.instanceMethod ({ cls := "MissedTrainsModel", name := "leavesTrain", desc := "(II)V" } : Jvm.MethodName)) ∈ lw_all := lw_g (lw_at lw_m7 77 rfl) rfl
theorem q1619 : (Jvm.Cond.code ({ cls := "MissedTrainsModel", name := "leavesTrain", desc := "(II)V" } : Jvm.MethodName) prog_21_method_57_code (4 : Nat) (Option.none : Option Jvm.ClassFile.FieldType)) ∈ lw_all := lw_g (lw_at lw_m7 78 rfl) rfl
theorem q1620 : (Jvm.Cond.methodLink "MissedTrainsModel" (351 : Nat) ({ cls := "MissedTrainsModel", name := "mayRide", desc := "(IIII)V" } : Jvm.MethodName)) ∈ lw_all := lw_g (lw_at lw_m7 79 rfl) rfl
theorem q1621 : (Jvm.Cond.privateMethod ({ cls := "MissedTrainsModel", name := "mayRide", desc := "(IIII)V" } : Jvm.MethodName)) ∈ lw_tbl := lw_at lw_m7 80 rfl
theorem q1622 : (Jvm.Cond.instanceMethod ({ cls := "MissedTrainsModel", name := "mayRide", desc := "(IIII)V" } : Jvm.MethodName)) ∈ lw_all := lw_g (lw_at lw_m7 81 rfl) rfl
theorem q1623 : (Jvm.Cond.code ({ cls := "MissedTrainsModel", name := "mayRide", desc := "(IIII)V" } : Jvm.MethodName) prog_21_method_58_code (6 : Nat) (Option.none : Option Jvm.ClassFile.FieldType)) ∈ lw_all := lw_g (lw_at lw_m7 82 rfl) rfl
theorem q1624 : (Jvm.Cond.methodLink "MissedTrainsModel" (172 : Nat) ({ cls := "MissedTrainsModel", name := "stopAt", desc := "(II)I" } : Jvm.MethodName)) ∈ lw_all := lw_g (lw_at lw_m7 83 rfl) rfl
theorem q1625 : (Jvm.Cond.privateMethod ({ cls := "MissedTrainsModel", name := "stopAt", desc := "(II)I" } : Jvm.MethodName)) ∈ lw_tbl := lw_at lw_m7 84 rfl
theorem q1626 : (Jvm.Cond.instanceMethod ({ cls := "MissedTrainsModel", name := "stopAt", desc := "(II)I" } : Jvm.MethodName)) ∈ lw_all := lw_g (lw_at lw_m7 85 rfl) rfl
theorem q1627 : (Jvm.Cond.code ({ cls := "MissedTrainsModel", name := "stopAt", desc := "(II)I" } : Jvm.MethodName) prog_21_method_12_code (4 : Nat) (Option.some Jvm.ClassFile.FieldType.int)) ∈ lw_all := lw_g (lw_at lw_m7 86 rfl) rfl
theorem q1628 : (Jvm.Cond.methodLink "MissedTrainsModel" (332 : Nat) ({ cls := "MissedTrainsModel", name := "holdsAny", desc := "(I)Z" } : Jvm.MethodName)) ∈ lw_all := lw_g (lw_at lw_m7 87 rfl) rfl
theorem q1629 : (Jvm.Cond.privateMethod ({ cls := "MissedTrainsModel", name := "holdsAny", desc := "(I)Z" } : Jvm.MethodName)) ∈ lw_tbl := lw_at lw_m7 88 rfl
theorem q1630 : (Jvm.Cond.instanceMethod ({ cls := "MissedTrainsModel", name := "holdsAny", desc := "(I)Z" } : Jvm.MethodName)) ∈ lw_all := lw_g (lw_at lw_m7 89 rfl) rfl
theorem q1631 : (Jvm.Cond.code ({ cls := "MissedTrainsModel", name := "holdsAny", desc := "(I)Z" } : Jvm.MethodName) prog_21_method_46_code (3 : Nat) (Option.some Jvm.ClassFile.FieldType.boolean)) ∈ lw_all := lw_g (lw_at lw_m7 90 rfl) rfl
theorem q1633 : (Jvm.Cond.instanceMethod ({ cls := "MissedTrainsModel", name := "tried", desc := "(II)I" } : Jvm.MethodName)) ∈ lw_all := lw_g (lw_at lw_m7 92 rfl) rfl
theorem q1634 : (Jvm.Cond.selects "MissedTrainsModel" ({ cls := "MissedTrainsModel", name := "tried", desc := "(II)I" } : Jvm.MethodName) ({ cls := "MissedTrainsModel", name := "tried", desc := "(II)I" } : Jvm.MethodName)) ∈ lw_all := lw_g (lw_at lw_m7 93 rfl) rfl
theorem q1635 : (Jvm.Cond.code ({ cls := "MissedTrainsModel", name := "tried", desc := "(II)I" } : Jvm.MethodName) prog_21_method_63_code (4 : Nat) (Option.some Jvm.ClassFile.FieldType.int)) ∈ lw_all := lw_g (lw_at lw_m7 94 rfl) rfl
theorem q1636 : (Jvm.Cond.methodLink "MissedTrainsModel" (364 : Nat) ({ cls := "MissedTrainsModel", name := "isPerson", desc := "(I)Z" } : Jvm.MethodName)) ∈ lw_all := lw_g (lw_at lw_m7 95 rfl) rfl
theorem q1637 : (Jvm.Cond.privateMethod ({ cls := "MissedTrainsModel", name := "isPerson", desc := "(I)Z" } : Jvm.MethodName)) ∈ lw_tbl := lw_at lw_m7 96 rfl
theorem q1638 : (Jvm.Cond.instanceMethod ({ cls := "MissedTrainsModel", name := "isPerson", desc := "(I)Z" } : Jvm.MethodName)) ∈ lw_all := lw_g (lw_at lw_m7 97 rfl) rfl
theorem q1639 : (Jvm.Cond.code ({ cls := "MissedTrainsModel", name := "isPerson", desc := "(I)Z" } : Jvm.MethodName) prog_21_method_7_code (2 : Nat) (Option.some Jvm.ClassFile.FieldType.boolean)) ∈ lw_all := lw_g (lw_at lw_m7 98 rfl) rfl
theorem q1640 : (Jvm.Cond.methodLink "MissedTrainsModel" (367 : Nat) ({ cls := "MissedTrainsModel", name := "copies", desc := "([I[I)V" } : Jvm.MethodName)) ∈ lw_all := lw_g (lw_at lw_m7 99 rfl) rfl
theorem q1641 : (Jvm.Cond.static ({ cls := "MissedTrainsModel", name := "copies", desc := "([I[I)V" } : Jvm.MethodName)) ∈ lw_all := lw_g (lw_at lw_m7 100 rfl) rfl
theorem q1642 : (Jvm.Cond.code ({ cls := "MissedTrainsModel", name := "copies", desc := "([I[I)V" } : Jvm.MethodName) prog_21_method_6_code (3 : Nat) (Option.none : Option Jvm.ClassFile.FieldType)) ∈ lw_all := lw_g (lw_at lw_m7 101 rfl) rfl
theorem q1644 : (Jvm.Cond.instanceMethod ({ cls := "MissedTrainsModel", name := "personIs", desc := "(II)I" } : Jvm.MethodName)) ∈ lw_all := lw_g (lw_at lw_m7 103 rfl) rfl
theorem q1645 : (Jvm.Cond.selects "MissedTrainsModel" ({ cls := "MissedTrainsModel", name := "personIs", desc := "(II)I" } : Jvm.MethodName) ({ cls := "MissedTrainsModel", name := "personIs", desc := "(II)I" } : Jvm.MethodName)) ∈ lw_all := lw_g (lw_at lw_m7 104 rfl) rfl
theorem q1646 : (Jvm.Cond.code ({ cls := "MissedTrainsModel", name := "personIs", desc := "(II)I" } : Jvm.MethodName) prog_21_method_64_code (3 : Nat) (Option.some Jvm.ClassFile.FieldType.int)) ∈ lw_all := lw_g (lw_at lw_m7 105 rfl) rfl
theorem q1648 : (Jvm.Cond.instanceMethod ({ cls := "MissedTrainsModel", name := "trainIs", desc := "(II)I" } : Jvm.MethodName)) ∈ lw_all := lw_g (lw_at lw_m7 107 rfl) rfl
theorem q1649 : (Jvm.Cond.selects "MissedTrainsModel" ({ cls := "MissedTrainsModel", name := "trainIs", desc := "(II)I" } : Jvm.MethodName) ({ cls := "MissedTrainsModel", name := "trainIs", desc := "(II)I" } : Jvm.MethodName)) ∈ lw_all := lw_g (lw_at lw_m7 108 rfl) rfl
theorem q1650 : (Jvm.Cond.code ({ cls := "MissedTrainsModel", name := "trainIs", desc := "(II)I" } : Jvm.MethodName) prog_21_method_65_code (4 : Nat) (Option.some Jvm.ClassFile.FieldType.int)) ∈ lw_all := lw_g (lw_at lw_m7 109 rfl) rfl
theorem q1652 : (Jvm.Cond.instanceMethod ({ cls := "MissedTrainsModel", name := "stopIs", desc := "(III)I" } : Jvm.MethodName)) ∈ lw_all := lw_g (lw_at lw_m7 111 rfl) rfl
theorem q1653 : (Jvm.Cond.selects "MissedTrainsModel" ({ cls := "MissedTrainsModel", name := "stopIs", desc := "(III)I" } : Jvm.MethodName) ({ cls := "MissedTrainsModel", name := "stopIs", desc := "(III)I" } : Jvm.MethodName)) ∈ lw_all := lw_g (lw_at lw_m7 112 rfl) rfl
theorem q1654 : (Jvm.Cond.code ({ cls := "MissedTrainsModel", name := "stopIs", desc := "(III)I" } : Jvm.MethodName) prog_21_method_66_code (4 : Nat) (Option.some Jvm.ClassFile.FieldType.int)) ∈ lw_all := lw_g (lw_at lw_m7 113 rfl) rfl
theorem q1656 : (Jvm.Cond.instanceMethod ({ cls := "MissedTrainsModel", name := "earliest", desc := "(IIII)I" } : Jvm.MethodName)) ∈ lw_all := lw_g (lw_at lw_m7 115 rfl) rfl
theorem q1657 : (Jvm.Cond.selects "MissedTrainsModel" ({ cls := "MissedTrainsModel", name := "earliest", desc := "(IIII)I" } : Jvm.MethodName) ({ cls := "MissedTrainsModel", name := "earliest", desc := "(IIII)I" } : Jvm.MethodName)) ∈ lw_all := lw_g (lw_at lw_m7 116 rfl) rfl
theorem q1658 : (Jvm.Cond.code ({ cls := "MissedTrainsModel", name := "earliest", desc := "(IIII)I" } : Jvm.MethodName) prog_21_method_70_code (7 : Nat) (Option.some Jvm.ClassFile.FieldType.int)) ∈ lw_all := lw_g (lw_at lw_m7 117 rfl) rfl
theorem q1659 : (Jvm.Cond.methodLink "MissedTrainsModel" (378 : Nat) ({ cls := "MissedTrainsModel", name := "soonest", desc := "(III)I" } : Jvm.MethodName)) ∈ lw_all := lw_g (lw_at lw_m7 118 rfl) rfl
theorem q1660 : (Jvm.Cond.privateMethod ({ cls := "MissedTrainsModel", name := "soonest", desc := "(III)I" } : Jvm.MethodName)) ∈ lw_tbl := lw_at lw_m7 119 rfl
theorem q1661 : (Jvm.Cond.instanceMethod ({ cls := "MissedTrainsModel", name := "soonest", desc := "(III)I" } : Jvm.MethodName)) ∈ lw_all := lw_g (lw_at lw_m7 120 rfl) rfl
theorem q1662 : (Jvm.Cond.code ({ cls := "MissedTrainsModel", name := "soonest", desc := "(III)I" } : Jvm.MethodName) prog_21_method_69_code (5 : Nat) (Option.some Jvm.ClassFile.FieldType.int)) ∈ lw_all := lw_g (lw_at lw_m7 121 rfl) rfl
theorem q1663 : (Jvm.Cond.methodLink "MissedTrainsModel" (375 : Nat) ({ cls := "MissedTrainsModel", name := "beginsAt", desc := "(II)V" } : Jvm.MethodName)) ∈ lw_all := lw_g (lw_at lw_m7 122 rfl) rfl
theorem q1664 : (Jvm.Cond.privateMethod ({ cls := "MissedTrainsModel", name := "beginsAt", desc := "(II)V" } : Jvm.MethodName)) ∈ lw_tbl := lw_at lw_m7 123 rfl
theorem q1665 : (Jvm.Cond.instanceMethod ({ cls := "MissedTrainsModel", name := "beginsAt", desc := "(II)V" } : Jvm.MethodName)) ∈ lw_all := lw_g (lw_at lw_m7 124 rfl) rfl
theorem q1666 : (Jvm.Cond.code ({ cls := "MissedTrainsModel", name := "beginsAt", desc := "(II)V" } : Jvm.MethodName) prog_21_method_68_code (4 : Nat) (Option.none : Option Jvm.ClassFile.FieldType)) ∈ lw_all := lw_g (lw_at lw_m7 125 rfl) rfl
theorem q1667 : (Jvm.Cond.constant "MissedTrainsModel" (371 : Nat) (1000000 : Int32)) ∈ lw_all := lw_g (lw_at lw_m7 126 rfl) rfl
theorem q1668 : (Jvm.Cond.methodLink "MissedTrainsModel" (372 : Nat) ({ cls := "MissedTrainsModel", name := "oneRideMore", desc := "(I)V" } : Jvm.MethodName)) ∈ lw_all := lw_g (lw_at lw_m7 127 rfl) rfl
theorem q1669 : (Jvm.Cond.privateMethod ({ cls := "MissedTrainsModel", name := "oneRideMore", desc := "(I)V" } : Jvm.MethodName)) ∈ lw_tbl := lw_at lw_m7 128 rfl
theorem q1670 : (Jvm.Cond.instanceMethod ({ cls := "MissedTrainsModel", name := "oneRideMore", desc := "(I)V" } : Jvm.MethodName)) ∈ lw_all := lw_g (lw_at lw_m7 129 rfl) rfl
theorem q1671 : (Jvm.Cond.code ({ cls := "MissedTrainsModel", name := "oneRideMore", desc := "(I)V" } : Jvm.MethodName) prog_21_method_67_code (6 : Nat) (Option.none : Option Jvm.ClassFile.FieldType)) ∈ lw_all := lw_g (lw_at lw_m7 130 rfl) rfl
theorem q1673 : (Jvm.Cond.instanceMethod ({ cls := "MissedTrainsModel", name := "latest", desc := "(III)I" } : Jvm.MethodName)) ∈ lw_all := lw_g (lw_at lw_m7 132 rfl) rfl
theorem q1674 : (Jvm.Cond.selects "MissedTrainsModel" ({ cls := "MissedTrainsModel", name := "latest", desc := "(III)I" } : Jvm.MethodName) ({ cls := "MissedTrainsModel", name := "latest", desc := "(III)I" } : Jvm.MethodName)) ∈ lw_all := lw_g (lw_at lw_m7 133 rfl) rfl
theorem q1675 : (Jvm.Cond.code ({ cls := "MissedTrainsModel", name := "latest", desc := "(III)I" } : Jvm.MethodName) prog_21_method_71_code (6 : Nat) (Option.some Jvm.ClassFile.FieldType.int)) ∈ lw_all := lw_g (lw_at lw_m7 134 rfl) rfl
theorem q1676 : (Jvm.Cond.methodLink "MissedTrainsModel" (381 : Nat) ({ cls := "MissedTrainsModel", name := "leavesFrom", desc := "(II)Z" } : Jvm.MethodName)) ∈ lw_all := lw_g (lw_at lw_m7 135 rfl) rfl
theorem q1677 : (Jvm.Cond.privateMethod ({ cls := "MissedTrainsModel", name := "leavesFrom", desc := "(II)Z" } : Jvm.MethodName)) ∈ lw_tbl := lw_at lw_m7 136 rfl
theorem q1678 : (Jvm.Cond.instanceMethod ({ cls := "MissedTrainsModel", name := "leavesFrom", desc := "(II)Z" } : Jvm.MethodName)) ∈ lw_all := lw_g (lw_at lw_m7 137 rfl) rfl
theorem q1679 : (Jvm.Cond.code ({ cls := "MissedTrainsModel", name := "leavesFrom", desc := "(II)Z" } : Jvm.MethodName) prog_21_method_13_code (3 : Nat) (Option.some Jvm.ClassFile.FieldType.boolean)) ∈ lw_all := lw_g (lw_at lw_m7 138 rfl) rfl
theorem q1681 : (Jvm.Cond.instanceMethod ({ cls := "MissedTrainsModel", name := "fastest", desc := "(II)I" } : Jvm.MethodName)) ∈ lw_all := lw_g (lw_at lw_m7 140 rfl) rfl
theorem q1682 : (Jvm.Cond.selects "MissedTrainsModel" ({ cls := "MissedTrainsModel", name := "fastest", desc := "(II)I" } : Jvm.MethodName) ({ cls := "MissedTrainsModel", name := "fastest", desc := "(II)I" } : Jvm.MethodName)) ∈ lw_all := lw_g (lw_at lw_m7 141 rfl) rfl
theorem q1683 : (Jvm.Cond.code ({ cls := "MissedTrainsModel", name := "fastest", desc := "(II)I" } : Jvm.MethodName) prog_21_method_72_code (7 : Nat) (Option.some Jvm.ClassFile.FieldType.int)) ∈ lw_all := lw_g (lw_at lw_m7 142 rfl) rfl
theorem q1684 : (Jvm.Cond.methodLink "MissedTrainsModel" (384 : Nat) ({ cls := "MissedTrainsModel", name := "minuteAt", desc := "(II)I" } : Jvm.MethodName)) ∈ lw_all := lw_g (lw_at lw_m7 143 rfl) rfl
theorem q1685 : (Jvm.Cond.privateMethod ({ cls := "MissedTrainsModel", name := "minuteAt", desc := "(II)I" } : Jvm.MethodName)) ∈ lw_tbl := lw_at lw_m7 144 rfl
theorem q1686 : (Jvm.Cond.instanceMethod ({ cls := "MissedTrainsModel", name := "minuteAt", desc := "(II)I" } : Jvm.MethodName)) ∈ lw_all := lw_g (lw_at lw_m7 145 rfl) rfl
theorem q1687 : (Jvm.Cond.code ({ cls := "MissedTrainsModel", name := "minuteAt", desc := "(II)I" } : Jvm.MethodName) prog_21_method_15_code (3 : Nat) (Option.some Jvm.ClassFile.FieldType.int)) ∈ lw_all := lw_g (lw_at lw_m7 146 rfl) rfl
theorem q1689 : (Jvm.Cond.instanceMethod ({ cls := "MissedTrainsModel", name := "best", desc := "(III)I" } : Jvm.MethodName)) ∈ lw_all := lw_g (lw_at lw_m7 148 rfl) rfl
theorem q1690 : (Jvm.Cond.selects "MissedTrainsModel" ({ cls := "MissedTrainsModel", name := "best", desc := "(III)I" } : Jvm.MethodName) ({ cls := "MissedTrainsModel", name := "best", desc := "(III)I" } : Jvm.MethodName)) ∈ lw_all := lw_g (lw_at lw_m7 149 rfl) rfl
theorem q1691 : (Jvm.Cond.code ({ cls := "MissedTrainsModel", name := "best", desc := "(III)I" } : Jvm.MethodName) prog_21_method_74_code (6 : Nat) (Option.some Jvm.ClassFile.FieldType.int)) ∈ lw_all := lw_g (lw_at lw_m7 150 rfl) rfl
theorem q1692 : (Jvm.Cond.methodLink "MissedTrainsModel" (387 : Nat) ({ cls := "MissedTrainsModel", name := "laysBest", desc := "(II)I" } : Jvm.MethodName)) ∈ lw_all := lw_g (lw_at lw_m7 151 rfl) rfl
theorem q1693 : (Jvm.Cond.privateMethod ({ cls := "MissedTrainsModel", name := "laysBest", desc := "(II)I" } : Jvm.MethodName)) ∈ lw_tbl := lw_at lw_m7 152 rfl
theorem q1694 : (Jvm.Cond.instanceMethod ({ cls := "MissedTrainsModel", name := "laysBest", desc := "(II)I" } : Jvm.MethodName)) ∈ lw_all := lw_g (lw_at lw_m7 153 rfl) rfl
theorem q1695 : (Jvm.Cond.code ({ cls := "MissedTrainsModel", name := "laysBest", desc := "(II)I" } : Jvm.MethodName) prog_21_method_73_code (8 : Nat) (Option.some Jvm.ClassFile.FieldType.int)) ∈ lw_all := lw_g (lw_at lw_m7 154 rfl) rfl
theorem q1697 : (Jvm.Cond.instanceMethod ({ cls := "MissedTrainsModel", name := "comeTo", desc := "(II)I" } : Jvm.MethodName)) ∈ lw_all := lw_g (lw_at lw_m7 156 rfl) rfl
theorem q1698 : (Jvm.Cond.selects "MissedTrainsModel" ({ cls := "MissedTrainsModel", name := "comeTo", desc := "(II)I" } : Jvm.MethodName) ({ cls := "MissedTrainsModel", name := "comeTo", desc := "(II)I" } : Jvm.MethodName)) ∈ lw_all := lw_g (lw_at lw_m7 157 rfl) rfl
theorem q1699 : (Jvm.Cond.code ({ cls := "MissedTrainsModel", name := "comeTo", desc := "(II)I" } : Jvm.MethodName) prog_21_method_75_code (5 : Nat) (Option.some Jvm.ClassFile.FieldType.int)) ∈ lw_all := lw_g (lw_at lw_m7 158 rfl) rfl
theorem q1701 : (Jvm.Cond.instanceMethod ({ cls := "MissedTrainsModel", name := "direct", desc := "(III)I" } : Jvm.MethodName)) ∈ lw_all := lw_g (lw_at lw_m7 160 rfl) rfl
theorem q1702 : (Jvm.Cond.selects "MissedTrainsModel" ({ cls := "MissedTrainsModel", name := "direct", desc := "(III)I" } : Jvm.MethodName) ({ cls := "MissedTrainsModel", name := "direct", desc := "(III)I" } : Jvm.MethodName)) ∈ lw_all := lw_g (lw_at lw_m7 161 rfl) rfl
theorem q1703 : (Jvm.Cond.code ({ cls := "MissedTrainsModel", name := "direct", desc := "(III)I" } : Jvm.MethodName) prog_21_method_79_code (6 : Nat) (Option.some Jvm.ClassFile.FieldType.int)) ∈ lw_all := lw_g (lw_at lw_m7 162 rfl) rfl
theorem q1704 : (Jvm.Cond.methodLink "MissedTrainsModel" (390 : Nat) ({ cls := "MissedTrainsModel", name := "clearsMinutes", desc := "()V" } : Jvm.MethodName)) ∈ lw_all := lw_g (lw_at lw_m7 163 rfl) rfl
theorem q1705 : (Jvm.Cond.privateMethod ({ cls := "MissedTrainsModel", name := "clearsMinutes", desc := "()V" } : Jvm.MethodName)) ∈ lw_tbl := lw_at lw_m7 164 rfl
theorem q1706 : (Jvm.Cond.instanceMethod ({ cls := "MissedTrainsModel", name := "clearsMinutes", desc := "()V" } : Jvm.MethodName)) ∈ lw_all := lw_g (lw_at lw_m7 165 rfl) rfl
theorem q1707 : (Jvm.Cond.code ({ cls := "MissedTrainsModel", name := "clearsMinutes", desc := "()V" } : Jvm.MethodName) prog_21_method_78_code (2 : Nat) (Option.none : Option Jvm.ClassFile.FieldType)) ∈ lw_all := lw_g (lw_at lw_m7 166 rfl) rfl
theorem q1708 : (Jvm.Cond.methodLink "MissedTrainsModel" (393 : Nat) ({ cls := "MissedTrainsModel", name := "goesFromTo", desc := "(III)Z" } : Jvm.MethodName)) ∈ lw_all := lw_g (lw_at lw_m7 167 rfl) rfl
theorem q1709 : (Jvm.Cond.privateMethod ({ cls := "MissedTrainsModel", name := "goesFromTo", desc := "(III)Z" } : Jvm.MethodName)) ∈ lw_tbl := lw_at lw_m7 168 rfl
theorem q1710 : (Jvm.Cond.instanceMethod ({ cls := "MissedTrainsModel", name := "goesFromTo", desc := "(III)Z" } : Jvm.MethodName)) ∈ lw_all := lw_g (lw_at lw_m7 169 rfl) rfl
theorem q1711 : (Jvm.Cond.code ({ cls := "MissedTrainsModel", name := "goesFromTo", desc := "(III)Z" } : Jvm.MethodName) prog_21_method_76_code (4 : Nat) (Option.some Jvm.ClassFile.FieldType.boolean)) ∈ lw_all := lw_g (lw_at lw_m7 170 rfl) rfl
theorem q1712 : (Jvm.Cond.methodLink "MissedTrainsModel" (396 : Nat) ({ cls := "MissedTrainsModel", name := "longestBetween", desc := "()I" } : Jvm.MethodName)) ∈ lw_all := lw_g (lw_at lw_m7 171 rfl) rfl
theorem q1713 : (Jvm.Cond.privateMethod ({ cls := "MissedTrainsModel", name := "longestBetween", desc := "()I" } : Jvm.MethodName)) ∈ lw_tbl := lw_at lw_m7 172 rfl
theorem q1714 : (Jvm.Cond.instanceMethod ({ cls := "MissedTrainsModel", name := "longestBetween", desc := "()I" } : Jvm.MethodName)) ∈ lw_all := lw_g (lw_at lw_m7 173 rfl) rfl
theorem q1715 : (Jvm.Cond.code ({ cls := "MissedTrainsModel", name := "longestBetween", desc := "()I" } : Jvm.MethodName) prog_21_method_77_code (4 : Nat) (Option.some Jvm.ClassFile.FieldType.int)) ∈ lw_all := lw_g (lw_at lw_m7 174 rfl) rfl
theorem q1717 : (Jvm.Cond.instanceMethod ({ cls := "MissedTrainsModel", name := "longestWait", desc := "(I)I" } : Jvm.MethodName)) ∈ lw_all := lw_g (lw_at lw_m7 176 rfl) rfl
theorem q1718 : (Jvm.Cond.selects "MissedTrainsModel" ({ cls := "MissedTrainsModel", name := "longestWait", desc := "(I)I" } : Jvm.MethodName) ({ cls := "MissedTrainsModel", name := "longestWait", desc := "(I)I" } : Jvm.MethodName)) ∈ lw_all := lw_g (lw_at lw_m7 177 rfl) rfl
theorem q1719 : (Jvm.Cond.code ({ cls := "MissedTrainsModel", name := "longestWait", desc := "(I)I" } : Jvm.MethodName) prog_21_method_80_code (3 : Nat) (Option.some Jvm.ClassFile.FieldType.int)) ∈ lw_all := lw_g (lw_at lw_m7 178 rfl) rfl
theorem q1721 : (Jvm.Cond.instanceMethod ({ cls := "MissedTrainsModel", name := "justMissed", desc := "(II)I" } : Jvm.MethodName)) ∈ lw_all := lw_g (lw_at lw_m7 180 rfl) rfl
theorem q1722 : (Jvm.Cond.selects "MissedTrainsModel" ({ cls := "MissedTrainsModel", name := "justMissed", desc := "(II)I" } : Jvm.MethodName) ({ cls := "MissedTrainsModel", name := "justMissed", desc := "(II)I" } : Jvm.MethodName)) ∈ lw_all := lw_g (lw_at lw_m7 181 rfl) rfl
theorem q1723 : (Jvm.Cond.code ({ cls := "MissedTrainsModel", name := "justMissed", desc := "(II)I" } : Jvm.MethodName) prog_21_method_81_code (7 : Nat) (Option.some Jvm.ClassFile.FieldType.int)) ∈ lw_all := lw_g (lw_at lw_m7 182 rfl) rfl
theorem q1724 : (Jvm.Cond.methodLink "MissedTrainsModel" (399 : Nat) ({ cls := "MissedTrainsModel", name := "comesTo", desc := "(II)Z" } : Jvm.MethodName)) ∈ lw_all := lw_g (lw_at lw_m7 183 rfl) rfl
theorem q1725 : (Jvm.Cond.privateMethod ({ cls := "MissedTrainsModel", name := "comesTo", desc := "(II)Z" } : Jvm.MethodName)) ∈ lw_tbl := lw_at lw_m7 184 rfl
theorem q1726 : (Jvm.Cond.instanceMethod ({ cls := "MissedTrainsModel", name := "comesTo", desc := "(II)Z" } : Jvm.MethodName)) ∈ lw_all := lw_g (lw_at lw_m7 185 rfl) rfl
theorem q1727 : (Jvm.Cond.code ({ cls := "MissedTrainsModel", name := "comesTo", desc := "(II)Z" } : Jvm.MethodName) prog_21_method_14_code (3 : Nat) (Option.some Jvm.ClassFile.FieldType.boolean)) ∈ lw_all := lw_g (lw_at lw_m7 186 rfl) rfl
theorem q1729 : (Jvm.Cond.instanceMethod ({ cls := "MissedTrainsModel", name := "platforms", desc := "(II)I" } : Jvm.MethodName)) ∈ lw_all := lw_g (lw_at lw_m7 188 rfl) rfl
theorem q1730 : (Jvm.Cond.selects "MissedTrainsModel" ({ cls := "MissedTrainsModel", name := "platforms", desc := "(II)I" } : Jvm.MethodName) ({ cls := "MissedTrainsModel", name := "platforms", desc := "(II)I" } : Jvm.MethodName)) ∈ lw_all := lw_g (lw_at lw_m7 189 rfl) rfl
theorem q1731 : (Jvm.Cond.code ({ cls := "MissedTrainsModel", name := "platforms", desc := "(II)I" } : Jvm.MethodName) prog_21_method_82_code (7 : Nat) (Option.some Jvm.ClassFile.FieldType.int)) ∈ lw_all := lw_g (lw_at lw_m7 190 rfl) rfl
theorem q1733 : (Jvm.Cond.instanceMethod ({ cls := "MissedTrainsModel", name := "sets", desc := "()I" } : Jvm.MethodName)) ∈ lw_all := lw_g (lw_at lw_m7 192 rfl) rfl
theorem q1734 : (Jvm.Cond.selects "MissedTrainsModel" ({ cls := "MissedTrainsModel", name := "sets", desc := "()I" } : Jvm.MethodName) ({ cls := "MissedTrainsModel", name := "sets", desc := "()I" } : Jvm.MethodName)) ∈ lw_all := lw_g (lw_at lw_m7 193 rfl) rfl
theorem q1735 : (Jvm.Cond.code ({ cls := "MissedTrainsModel", name := "sets", desc := "()I" } : Jvm.MethodName) prog_21_method_86_code (3 : Nat) (Option.some Jvm.ClassFile.FieldType.int)) ∈ lw_all := lw_g (lw_at lw_m7 194 rfl) rfl
theorem q1736 : (Jvm.Cond.methodLink "MissedTrainsModel" (411 : Nat) ({ cls := "MissedTrainsModel", name := "findsNext", desc := "(I)Z" } : Jvm.MethodName)) ∈ lw_all := lw_g (lw_at lw_m7 195 rfl) rfl
theorem q1737 : (Jvm.Cond.privateMethod ({ cls := "MissedTrainsModel", name := "findsNext", desc := "(I)Z" } : Jvm.MethodName)) ∈ lw_tbl := lw_at lw_m7 196 rfl
theorem q1738 : (Jvm.Cond.instanceMethod ({ cls := "MissedTrainsModel", name := "findsNext", desc := "(I)Z" } : Jvm.MethodName)) ∈ lw_all := lw_g (lw_at lw_m7 197 rfl) rfl
theorem q1739 : (Jvm.Cond.code ({ cls := "MissedTrainsModel", name := "findsNext", desc := "(I)Z" } : Jvm.MethodName) prog_21_method_84_code (6 : Nat) (Option.some Jvm.ClassFile.FieldType.boolean)) ∈ lw_all := lw_g (lw_at lw_m7 198 rfl) rfl
theorem q1740 : (Jvm.Cond.methodLink "MissedTrainsModel" (405 : Nat) ({ cls := "MissedTrainsModel", name := "goesOn", desc := "(II)Z" } : Jvm.MethodName)) ∈ lw_all := lw_g (lw_at lw_m7 199 rfl) rfl
theorem q1741 : (Jvm.Cond.privateMethod ({ cls := "MissedTrainsModel", name := "goesOn", desc := "(II)Z" } : Jvm.MethodName)) ∈ lw_tbl := lw_at lw_m7 200 rfl
theorem q1742 : (Jvm.Cond.instanceMethod ({ cls := "MissedTrainsModel", name := "goesOn", desc := "(II)Z" } : Jvm.MethodName)) ∈ lw_all := lw_g (lw_at lw_m7 201 rfl) rfl
theorem q1743 : (Jvm.Cond.code ({ cls := "MissedTrainsModel", name := "goesOn", desc := "(II)Z" } : Jvm.MethodName) prog_21_method_83_code (3 : Nat) (Option.some Jvm.ClassFile.FieldType.boolean)) ∈ lw_all := lw_g (lw_at lw_m7 202 rfl) rfl
theorem q1744 : (Jvm.Cond.methodLink "MissedTrainsModel" (402 : Nat) ({ cls := "MissedTrainsModel", name := "trainIs", desc := "(II)I" } : Jvm.MethodName)) ∈ lw_all := lw_g (lw_at lw_m7 203 rfl) rfl
theorem q1745 : (Jvm.Cond.methodLink "MissedTrainsModel" (408 : Nat) ({ cls := "MissedTrainsModel", name := "changesAlong", desc := "(II)V" } : Jvm.MethodName)) ∈ lw_all := lw_g (lw_at lw_m7 204 rfl) rfl
theorem q1746 : (Jvm.Cond.privateMethod ({ cls := "MissedTrainsModel", name := "changesAlong", desc := "(II)V" } : Jvm.MethodName)) ∈ lw_tbl := lw_at lw_m7 205 rfl
theorem q1747 : (Jvm.Cond.instanceMethod ({ cls := "MissedTrainsModel", name := "changesAlong", desc := "(II)V" } : Jvm.MethodName)) ∈ lw_all := lw_g (lw_at lw_m7 206 rfl) rfl
theorem q1748 : (Jvm.Cond.code ({ cls := "MissedTrainsModel", name := "changesAlong", desc := "(II)V" } : Jvm.MethodName) prog_21_method_85_code (7 : Nat) (Option.none : Option Jvm.ClassFile.FieldType)) ∈ lw_all := lw_g (lw_at lw_m7 207 rfl) rfl
theorem q1750 : (Jvm.Cond.instanceMethod ({ cls := "MissedTrainsModel", name := "meets", desc := "()I" } : Jvm.MethodName)) ∈ lw_all := lw_g (lw_at lw_m7 209 rfl) rfl
theorem q1751 : (Jvm.Cond.selects "MissedTrainsModel" ({ cls := "MissedTrainsModel", name := "meets", desc := "()I" } : Jvm.MethodName) ({ cls := "MissedTrainsModel", name := "meets", desc := "()I" } : Jvm.MethodName)) ∈ lw_all := lw_g (lw_at lw_m7 210 rfl) rfl
theorem q1752 : (Jvm.Cond.code ({ cls := "MissedTrainsModel", name := "meets", desc := "()I" } : Jvm.MethodName) prog_21_method_88_code (4 : Nat) (Option.some Jvm.ClassFile.FieldType.int)) ∈ lw_all := lw_g (lw_at lw_m7 211 rfl) rfl
theorem q1753 : (Jvm.Cond.methodLink "MissedTrainsModel" (414 : Nat) ({ cls := "MissedTrainsModel", name := "areMet", desc := "(II)Z" } : Jvm.MethodName)) ∈ lw_all := lw_g (lw_at lw_m7 212 rfl) rfl
theorem q1754 : (Jvm.Cond.privateMethod ({ cls := "MissedTrainsModel", name := "areMet", desc := "(II)Z" } : Jvm.MethodName)) ∈ lw_tbl := lw_at lw_m7 213 rfl
theorem q1755 : (Jvm.Cond.instanceMethod ({ cls := "MissedTrainsModel", name := "areMet", desc := "(II)Z" } : Jvm.MethodName)) ∈ lw_all := lw_g (lw_at lw_m7 214 rfl) rfl
theorem q1756 : (Jvm.Cond.code ({ cls := "MissedTrainsModel", name := "areMet", desc := "(II)Z" } : Jvm.MethodName) prog_21_method_87_code (6 : Nat) (Option.some Jvm.ClassFile.FieldType.boolean)) ∈ lw_all := lw_g (lw_at lw_m7 215 rfl) rfl
theorem q1758 : (Jvm.Cond.instanceMethod ({ cls := "MissedTrainsModel", name := "inspector", desc := "(I)I" } : Jvm.MethodName)) ∈ lw_all := lw_g (lw_at lw_m7 217 rfl) rfl
theorem q1759 : (Jvm.Cond.selects "MissedTrainsModel" ({ cls := "MissedTrainsModel", name := "inspector", desc := "(I)I" } : Jvm.MethodName) ({ cls := "MissedTrainsModel", name := "inspector", desc := "(I)I" } : Jvm.MethodName)) ∈ lw_all := lw_g (lw_at lw_m7 218 rfl) rfl
theorem q1760 : (Jvm.Cond.code ({ cls := "MissedTrainsModel", name := "inspector", desc := "(I)I" } : Jvm.MethodName) prog_21_method_90_code (8 : Nat) (Option.some Jvm.ClassFile.FieldType.int)) ∈ lw_all := lw_g (lw_at lw_m7 219 rfl) rfl
theorem q1761 : (Jvm.Cond.methodLink "MissedTrainsModel" (417 : Nat) ({ cls := "MissedTrainsModel", name := "mostAt", desc := "(II)I" } : Jvm.MethodName)) ∈ lw_all := lw_g (lw_at lw_m7 220 rfl) rfl
theorem q1762 : (Jvm.Cond.privateMethod ({ cls := "MissedTrainsModel", name := "mostAt", desc := "(II)I" } : Jvm.MethodName)) ∈ lw_tbl := lw_at lw_m7 221 rfl
theorem q1763 : (Jvm.Cond.instanceMethod ({ cls := "MissedTrainsModel", name := "mostAt", desc := "(II)I" } : Jvm.MethodName)) ∈ lw_all := lw_g (lw_at lw_m7 222 rfl) rfl
theorem q1764 : (Jvm.Cond.code ({ cls := "MissedTrainsModel", name := "mostAt", desc := "(II)I" } : Jvm.MethodName) prog_21_method_89_code (6 : Nat) (Option.some Jvm.ClassFile.FieldType.int)) ∈ lw_all := lw_g (lw_at lw_m7 223 rfl) rfl
theorem q1766 : (Jvm.Cond.instanceMethod ({ cls := "MissedTrainsModel", name := "busiest", desc := "(I)I" } : Jvm.MethodName)) ∈ lw_all := lw_g (lw_at lw_m7 225 rfl) rfl
theorem q1767 : (Jvm.Cond.selects "MissedTrainsModel" ({ cls := "MissedTrainsModel", name := "busiest", desc := "(I)I" } : Jvm.MethodName) ({ cls := "MissedTrainsModel", name := "busiest", desc := "(I)I" } : Jvm.MethodName)) ∈ lw_all := lw_g (lw_at lw_m7 226 rfl) rfl
theorem q1768 : (Jvm.Cond.code ({ cls := "MissedTrainsModel", name := "busiest", desc := "(I)I" } : Jvm.MethodName) prog_21_method_91_code (7 : Nat) (Option.some Jvm.ClassFile.FieldType.int)) ∈ lw_all := lw_g (lw_at lw_m7 227 rfl) rfl
theorem q1770 : (Jvm.Cond.instanceMethod ({ cls := "MissedTrainsModel", name := "onTheWay", desc := "(I)I" } : Jvm.MethodName)) ∈ lw_all := lw_g (lw_at lw_m7 229 rfl) rfl
theorem q1771 : (Jvm.Cond.selects "MissedTrainsModel" ({ cls := "MissedTrainsModel", name := "onTheWay", desc := "(I)I" } : Jvm.MethodName) ({ cls := "MissedTrainsModel", name := "onTheWay", desc := "(I)I" } : Jvm.MethodName)) ∈ lw_all := lw_g (lw_at lw_m7 230 rfl) rfl
theorem q1772 : (Jvm.Cond.code ({ cls := "MissedTrainsModel", name := "onTheWay", desc := "(I)I" } : Jvm.MethodName) prog_21_method_92_code (4 : Nat) (Option.some Jvm.ClassFile.FieldType.int)) ∈ lw_all := lw_g (lw_at lw_m7 231 rfl) rfl
theorem q1774 : (Jvm.Cond.instanceMethod ({ cls := "MissedTrainsModel", name := "regular", desc := "(II)I" } : Jvm.MethodName)) ∈ lw_all := lw_g (lw_at lw_m7 233 rfl) rfl
theorem q1775 : (Jvm.Cond.selects "MissedTrainsModel" ({ cls := "MissedTrainsModel", name := "regular", desc := "(II)I" } : Jvm.MethodName) ({ cls := "MissedTrainsModel", name := "regular", desc := "(II)I" } : Jvm.MethodName)) ∈ lw_all := lw_g (lw_at lw_m7 234 rfl) rfl
theorem q1776 : (Jvm.Cond.code ({ cls := "MissedTrainsModel", name := "regular", desc := "(II)I" } : Jvm.MethodName) prog_21_method_93_code (9 : Nat) (Option.some Jvm.ClassFile.FieldType.int)) ∈ lw_all := lw_g (lw_at lw_m7 235 rfl) rfl
theorem q1778 : (Jvm.Cond.instanceMethod ({ cls := "MissedTrainsModel", name := "fares", desc := "(II)I" } : Jvm.MethodName)) ∈ lw_all := lw_g (lw_at lw_m7 237 rfl) rfl
theorem q1779 : (Jvm.Cond.selects "MissedTrainsModel" ({ cls := "MissedTrainsModel", name := "fares", desc := "(II)I" } : Jvm.MethodName) ({ cls := "MissedTrainsModel", name := "fares", desc := "(II)I" } : Jvm.MethodName)) ∈ lw_all := lw_g (lw_at lw_m7 238 rfl) rfl
theorem q1780 : (Jvm.Cond.code ({ cls := "MissedTrainsModel", name := "fares", desc := "(II)I" } : Jvm.MethodName) prog_21_method_94_code (5 : Nat) (Option.some Jvm.ClassFile.FieldType.int)) ∈ lw_all := lw_g (lw_at lw_m7 239 rfl) rfl
theorem q1781 : (Jvm.Cond.constant "MissedTrainsModel" (420 : Nat) (1073741823 : Int32)) ∈ lw_all := lw_g (lw_at lw_m8 0 rfl) rfl
theorem q1782 : (Jvm.Cond.methodLink "MissedTrainsModel" (421 : Nat) ({ cls := "MissedTrainsModel", name := "octet", desc := "(I)I" } : Jvm.MethodName)) ∈ lw_all := lw_g (lw_at lw_m8 1 rfl) rfl
theorem q1783 : (Jvm.Cond.privateMethod ({ cls := "MissedTrainsModel", name := "octet", desc := "(I)I" } : Jvm.MethodName)) ∈ lw_tbl := lw_at lw_m8 2 rfl
theorem q1784 : (Jvm.Cond.instanceMethod ({ cls := "MissedTrainsModel", name := "octet", desc := "(I)I" } : Jvm.MethodName)) ∈ lw_all := lw_g (lw_at lw_m8 3 rfl) rfl
theorem q1785 : (Jvm.Cond.code ({ cls := "MissedTrainsModel", name := "octet", desc := "(I)I" } : Jvm.MethodName) prog_21_method_20_code (2 : Nat) (Option.some Jvm.ClassFile.FieldType.int)) ∈ lw_all := lw_g (lw_at lw_m8 4 rfl) rfl
theorem q1786 : (Jvm.Cond.methodLink "MissedTrainsModel" (424 : Nat) ({ cls := "MissedTrainsModel", name := "has", desc := "(II)Z" } : Jvm.MethodName)) ∈ lw_all := lw_g (lw_at lw_m8 5 rfl) rfl
theorem q1787 : (Jvm.Cond.static ({ cls := "MissedTrainsModel", name := "has", desc := "(II)Z" } : Jvm.MethodName)) ∈ lw_all := lw_g (lw_at lw_m8 6 rfl) rfl
theorem q1788 : (Jvm.Cond.code ({ cls := "MissedTrainsModel", name := "has", desc := "(II)Z" } : Jvm.MethodName) prog_21_method_5_code (2 : Nat) (Option.some Jvm.ClassFile.FieldType.boolean)) ∈ lw_all := lw_g (lw_at lw_m8 7 rfl) rfl
theorem q1790 : (Jvm.Cond.instanceMethod ({ cls := "MissedTrainsModel", name := "seed", desc := "(I)Z" } : Jvm.MethodName)) ∈ lw_all := lw_g (lw_at lw_m8 9 rfl) rfl
theorem q1791 : (Jvm.Cond.selects "MissedTrainsModel" ({ cls := "MissedTrainsModel", name := "seed", desc := "(I)Z" } : Jvm.MethodName) ({ cls := "MissedTrainsModel", name := "seed", desc := "(I)Z" } : Jvm.MethodName)) ∈ lw_all := lw_g (lw_at lw_m8 10 rfl) rfl
theorem q1792 : (Jvm.Cond.code ({ cls := "MissedTrainsModel", name := "seed", desc := "(I)Z" } : Jvm.MethodName) prog_21_method_95_code (2 : Nat) (Option.some Jvm.ClassFile.FieldType.boolean)) ∈ lw_all := lw_g (lw_at lw_m8 11 rfl) rfl
theorem q1793 : (Jvm.Cond.constant "MissedTrainsModel" (427 : Nat) (65535 : Int32)) ∈ lw_all := lw_g (lw_at lw_m8 12 rfl) rfl
theorem q1795 : (Jvm.Cond.instanceMethod ({ cls := "MissedTrainsModel", name := "keep", desc := "()I" } : Jvm.MethodName)) ∈ lw_all := lw_g (lw_at lw_m8 14 rfl) rfl
theorem q1796 : (Jvm.Cond.selects "MissedTrainsModel" ({ cls := "MissedTrainsModel", name := "keep", desc := "()I" } : Jvm.MethodName) ({ cls := "MissedTrainsModel", name := "keep", desc := "()I" } : Jvm.MethodName)) ∈ lw_all := lw_g (lw_at lw_m8 15 rfl) rfl
theorem q1797 : (Jvm.Cond.code ({ cls := "MissedTrainsModel", name := "keep", desc := "()I" } : Jvm.MethodName) prog_21_method_96_code (1 : Nat) (Option.some Jvm.ClassFile.FieldType.int)) ∈ lw_all := lw_g (lw_at lw_m8 16 rfl) rfl
theorem q1799 : (Jvm.Cond.instanceMethod ({ cls := "MissedTrainsModel", name := "undo", desc := "()Z" } : Jvm.MethodName)) ∈ lw_all := lw_g (lw_at lw_m8 18 rfl) rfl
theorem q1800 : (Jvm.Cond.selects "MissedTrainsModel" ({ cls := "MissedTrainsModel", name := "undo", desc := "()Z" } : Jvm.MethodName) ({ cls := "MissedTrainsModel", name := "undo", desc := "()Z" } : Jvm.MethodName)) ∈ lw_all := lw_g (lw_at lw_m8 19 rfl) rfl
theorem q1801 : (Jvm.Cond.code ({ cls := "MissedTrainsModel", name := "undo", desc := "()Z" } : Jvm.MethodName) prog_21_method_97_code (1 : Nat) (Option.some Jvm.ClassFile.FieldType.boolean)) ∈ lw_all := lw_g (lw_at lw_m8 20 rfl) rfl
theorem q1803 : (Jvm.Cond.instanceMethod ({ cls := "MissedTrainsModel", name := "check", desc := "(I)I" } : Jvm.MethodName)) ∈ lw_all := lw_g (lw_at lw_m8 22 rfl) rfl
theorem q1804 : (Jvm.Cond.selects "MissedTrainsModel" ({ cls := "MissedTrainsModel", name := "check", desc := "(I)I" } : Jvm.MethodName) ({ cls := "MissedTrainsModel", name := "check", desc := "(I)I" } : Jvm.MethodName)) ∈ lw_all := lw_g (lw_at lw_m8 23 rfl) rfl
theorem q1805 : (Jvm.Cond.code ({ cls := "MissedTrainsModel", name := "check", desc := "(I)I" } : Jvm.MethodName) prog_21_method_98_code (3 : Nat) (Option.some Jvm.ClassFile.FieldType.int)) ∈ lw_all := lw_g (lw_at lw_m8 24 rfl) rfl
theorem q1807 : (Jvm.Cond.instanceMethod ({ cls := "MissedTrainsModel", name := "count", desc := "(I)I" } : Jvm.MethodName)) ∈ lw_all := lw_g (lw_at lw_m8 26 rfl) rfl
theorem q1808 : (Jvm.Cond.selects "MissedTrainsModel" ({ cls := "MissedTrainsModel", name := "count", desc := "(I)I" } : Jvm.MethodName) ({ cls := "MissedTrainsModel", name := "count", desc := "(I)I" } : Jvm.MethodName)) ∈ lw_all := lw_g (lw_at lw_m8 27 rfl) rfl
theorem q1809 : (Jvm.Cond.code ({ cls := "MissedTrainsModel", name := "count", desc := "(I)I" } : Jvm.MethodName) prog_21_method_102_code (2 : Nat) (Option.some Jvm.ClassFile.FieldType.int)) ∈ lw_all := lw_g (lw_at lw_m8 28 rfl) rfl
theorem q1810 : (Jvm.Cond.methodLink "MissedTrainsModel" (432 : Nat) ({ cls := "MissedTrainsModel", name := "toldSet", desc := "()I" } : Jvm.MethodName)) ∈ lw_all := lw_g (lw_at lw_m8 29 rfl) rfl
theorem q1811 : (Jvm.Cond.privateMethod ({ cls := "MissedTrainsModel", name := "toldSet", desc := "()I" } : Jvm.MethodName)) ∈ lw_tbl := lw_at lw_m8 30 rfl
theorem q1812 : (Jvm.Cond.instanceMethod ({ cls := "MissedTrainsModel", name := "toldSet", desc := "()I" } : Jvm.MethodName)) ∈ lw_all := lw_g (lw_at lw_m8 31 rfl) rfl
theorem q1813 : (Jvm.Cond.code ({ cls := "MissedTrainsModel", name := "toldSet", desc := "()I" } : Jvm.MethodName) prog_21_method_100_code (3 : Nat) (Option.some Jvm.ClassFile.FieldType.int)) ∈ lw_all := lw_g (lw_at lw_m8 32 rfl) rfl
theorem q1814 : (Jvm.Cond.methodLink "MissedTrainsModel" (435 : Nat) ({ cls := "MissedTrainsModel", name := "running", desc := "()I" } : Jvm.MethodName)) ∈ lw_all := lw_g (lw_at lw_m8 33 rfl) rfl
theorem q1815 : (Jvm.Cond.privateMethod ({ cls := "MissedTrainsModel", name := "running", desc := "()I" } : Jvm.MethodName)) ∈ lw_tbl := lw_at lw_m8 34 rfl
theorem q1816 : (Jvm.Cond.instanceMethod ({ cls := "MissedTrainsModel", name := "running", desc := "()I" } : Jvm.MethodName)) ∈ lw_all := lw_g (lw_at lw_m8 35 rfl) rfl
theorem q1817 : (Jvm.Cond.code ({ cls := "MissedTrainsModel", name := "running", desc := "()I" } : Jvm.MethodName) prog_21_method_101_code (3 : Nat) (Option.some Jvm.ClassFile.FieldType.int)) ∈ lw_all := lw_g (lw_at lw_m8 36 rfl) rfl
theorem q1818 : (Jvm.Cond.methodLink "MissedTrainsModel" (438 : Nat) ({ cls := "MissedTrainsModel", name := "allOf", desc := "(I)I" } : Jvm.MethodName)) ∈ lw_all := lw_g (lw_at lw_m8 37 rfl) rfl
theorem q1819 : (Jvm.Cond.privateMethod ({ cls := "MissedTrainsModel", name := "allOf", desc := "(I)I" } : Jvm.MethodName)) ∈ lw_tbl := lw_at lw_m8 38 rfl
theorem q1820 : (Jvm.Cond.instanceMethod ({ cls := "MissedTrainsModel", name := "allOf", desc := "(I)I" } : Jvm.MethodName)) ∈ lw_all := lw_g (lw_at lw_m8 39 rfl) rfl
theorem q1821 : (Jvm.Cond.code ({ cls := "MissedTrainsModel", name := "allOf", desc := "(I)I" } : Jvm.MethodName) prog_21_method_99_code (4 : Nat) (Option.some Jvm.ClassFile.FieldType.int)) ∈ lw_all := lw_g (lw_at lw_m8 40 rfl) rfl
theorem in_X7 : ∀ w ∈ wsX70, w ∈ lw_all := lw_in wsX70 [1290, 1292, 1294, 1296, 1298, 1300, 1302, 1304, 1306, 1308, 1310, 1312, 1314, 1316, 1318, 1320, 1322, 1324, 1326, 1328, 1330, 1332, 1334, 1336, 1338, 1340, 1342, 1344, 1346, 1348, 1350, 1352, 1354, 1356, 1358, 1360, 1362, 1364, 1366, 1368, 1370, 1372, 1374, 1376, 1378, 1380, 1382, 1384, 1386, 1388, 1390, 1392, 1394, 1396, 1398, 1400, 1402, 1404, 1406, 1408, 1410, 1412, 1414, 1416, 1418, 1420] (by decide +kernel) (by decide +kernel)

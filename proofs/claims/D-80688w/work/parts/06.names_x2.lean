/-! ScoreThreadsModel -/
set_option maxRecDepth 100000
def RX2 : String := "ScoreThreadsModel"
def TX2 : u_T := fun k => match k with
  | 0 => ("ScoreThreadsModel", "clips", "I", false)
  | 1 => ("ScoreThreadsModel", "laneOf", "[I", true)
  | 2 => ("ScoreThreadsModel", "lengthOf", "[I", true)
  | 3 => ("ScoreThreadsModel", "numbers", "[J", true)
  | 4 => ("ScoreThreadsModel", "plugs", "I", false)
  | 5 => ("ScoreThreadsModel", "kindOf", "[I", true)
  | 6 => ("ScoreThreadsModel", "factor", "[F", true)
  | 7 => ("ScoreThreadsModel", "whole", "[I", true)
  | 8 => ("ScoreThreadsModel", "often", "[I", true)
  | 9 => ("ScoreThreadsModel", "at", "[I", true)
  | 10 => ("ScoreThreadsModel", "lineOf", "[I", true)
  | 11 => ("ScoreThreadsModel", "line", "[F", true)
  | 12 => ("ScoreThreadsModel", "keptLine", "[F", true)
  | 13 => ("ScoreThreadsModel", "isOn", "[Z", true)
  | 14 => ("ScoreThreadsModel", "clipOf", "[I", true)
  | 15 => ("ScoreThreadsModel", "startOf", "[I", true)
  | 16 => ("ScoreThreadsModel", "isStrict", "[Z", true)
  | 17 => ("ScoreThreadsModel", "levelOf", "[F", true)
  | 18 => ("ScoreThreadsModel", "isPure", "[Z", true)
  | 19 => ("ScoreThreadsModel", "chains", "[I", true)
  | 20 => ("ScoreThreadsModel", "states", "[I", true)
  | 21 => ("ScoreThreadsModel", "goesOn", "[I", true)
  | 22 => ("ScoreThreadsModel", "times", "[I", true)
  | 23 => ("ScoreThreadsModel", "failedAt", "[I", true)
  | 24 => ("ScoreThreadsModel", "failedBy", "[I", true)
  | 25 => ("ScoreThreadsModel", "samples", "[F", true)
  | 26 => ("ScoreThreadsModel", "workers", "I", false)
  | 27 => ("ScoreThreadsModel", "trackOf", "[I", true)
  | 28 => ("ScoreThreadsModel", "isRunning", "Z", false)
  | 29 => ("ScoreThreadsModel", "isToStop", "Z", false)
  | 30 => ("ScoreThreadsModel", "left", "I", false)
  | 31 => ("ScoreThreadsModel", "rendered", "I", false)
  | 32 => ("ScoreThreadsModel", "outs", "[F", true)
  | 33 => ("ScoreThreadsModel", "faults", "I", false)
  | 34 => ("ScoreThreadsModel", "faultTrack", "[I", true)
  | 35 => ("ScoreThreadsModel", "faultBlock", "[I", true)
  | 36 => ("ScoreThreadsModel", "faultPlace", "[I", true)
  | 37 => ("ScoreThreadsModel", "faultBy", "[I", true)
  | 38 => ("ScoreThreadsModel", "faultTime", "[I", true)
  | 39 => ("ScoreThreadsModel", "queued", "I", false)
  | 40 => ("ScoreThreadsModel", "queueWhat", "[I", true)
  | 41 => ("ScoreThreadsModel", "queueA", "[I", true)
  | 42 => ("ScoreThreadsModel", "queueB", "[I", true)
  | 43 => ("ScoreThreadsModel", "queueC", "[I", true)
  | 44 => ("ScoreThreadsModel", "queueD", "[I", true)
  | 45 => ("ScoreThreadsModel", "edits", "I", false)
  | 46 => ("ScoreThreadsModel", "steps", "I", false)
  | 47 => ("ScoreThreadsModel", "waits", "I", false)
  | 48 => ("ScoreThreadsModel", "founds", "[I", true)
  | 49 => ("ScoreThreadsModel", "met", "I", false)
  | 50 => ("ScoreThreadsModel", "kept", "[F", true)
  | 51 => ("ScoreThreadsModel", "sums", "[F", true)
  | _ => ("ScoreThreadsModel", "h", "J", false)
def tyX2 : Nat → FieldType := fun k => match k with
  | 0 => .int
  | 1 => .array .int
  | 2 => .array .int
  | 3 => .array .long
  | 4 => .int
  | 5 => .array .int
  | 6 => .array .float
  | 7 => .array .int
  | 8 => .array .int
  | 9 => .array .int
  | 10 => .array .int
  | 11 => .array .float
  | 12 => .array .float
  | 13 => .array .boolean
  | 14 => .array .int
  | 15 => .array .int
  | 16 => .array .boolean
  | 17 => .array .float
  | 18 => .array .boolean
  | 19 => .array .int
  | 20 => .array .int
  | 21 => .array .int
  | 22 => .array .int
  | 23 => .array .int
  | 24 => .array .int
  | 25 => .array .float
  | 26 => .int
  | 27 => .array .int
  | 28 => .boolean
  | 29 => .boolean
  | 30 => .int
  | 31 => .int
  | 32 => .array .float
  | 33 => .int
  | 34 => .array .int
  | 35 => .array .int
  | 36 => .array .int
  | 37 => .array .int
  | 38 => .array .int
  | 39 => .int
  | 40 => .array .int
  | 41 => .array .int
  | 42 => .array .int
  | 43 => .array .int
  | 44 => .array .int
  | 45 => .int
  | 46 => .int
  | 47 => .int
  | 48 => .array .int
  | 49 => .int
  | 50 => .array .float
  | 51 => .array .float
  | _ => .long
abbrev wsX20 : List Cond := u_ws RX2 TX2 53
set_option maxRecDepth 100000 in
theorem nmX2 : ∀ a, a < 53 → ∀ b, b < 53 → a ≠ b → (TX2 a).2.1 ≠ (TX2 b).2.1 := by decide +kernel
set_option maxRecDepth 100000 in
theorem tyX2_ok : ∀ k, k < 53 → parseFieldDescriptor (TX2 k).2.2.1 = some (tyX2 k) := by decide +kernel
abbrev cX2_init : ByteArray := prog_14_method_1_code
def yX2_init : MethodName := ⟨RX2, "<init>", "()V"⟩
def dkwX2_init_16 : List UInt8 := [180, 0, 89, 27, 2, 79, 132, 1, 1, 167, 255, 241, 177]
abbrev dktX2_init_16 : List UInt8 := dkwX2_init_16 ++ []
def dkwX2_init_15 : List UInt8 := [162, 0, 16, 42, 180, 0, 64, 27, 2, 79, 132, 1, 1, 167, 255, 240, 3, 60, 27, 7, 162, 0, 16, 42]
abbrev dktX2_init_15 : List UInt8 := dkwX2_init_15 ++ dktX2_init_16
def dkwX2_init_14 : List UInt8 := [180, 0, 49, 27, 2, 79, 42, 180, 0, 58, 27, 12, 81, 132, 1, 1, 167, 255, 233, 3, 60, 27, 16, 32]
abbrev dktX2_init_14 : List UInt8 := dkwX2_init_14 ++ dktX2_init_15
def dkwX2_init_13 : List UInt8 := [188, 6, 181, 0, 128, 42, 16, 8, 188, 6, 181, 0, 131, 3, 60, 27, 16, 8, 162, 0, 23, 42]
abbrev dktX2_init_13 : List UInt8 := dkwX2_init_13 ++ dktX2_init_14
def dkwX2_init_12 : List UInt8 := [188, 10, 181, 0, 119, 42, 16, 30, 188, 10, 181, 0, 122, 42, 16, 7, 188, 10, 181, 0, 125, 42, 16, 8]
abbrev dktX2_init_12 : List UInt8 := dkwX2_init_12 ++ dktX2_init_13
def dkwX2_init_11 : List UInt8 := [188, 10, 181, 0, 110, 42, 16, 30, 188, 10, 181, 0, 113, 42, 16, 30, 188, 10, 181, 0, 116, 42, 16, 30]
abbrev dktX2_init_11 : List UInt8 := dkwX2_init_11 ++ dktX2_init_12
def dkwX2_init_10 : List UInt8 := [188, 10, 181, 0, 101, 42, 16, 100, 188, 10, 181, 0, 104, 42, 16, 100, 188, 10, 181, 0, 107, 42, 16, 30]
abbrev dktX2_init_10 : List UInt8 := dkwX2_init_10 ++ dktX2_init_11
def dkwX2_init_9 : List UInt8 := [188, 6, 181, 0, 92, 42, 16, 100, 188, 10, 181, 0, 95, 42, 16, 100, 188, 10, 181, 0, 98, 42, 16, 100]
abbrev dktX2_init_9 : List UInt8 := dkwX2_init_9 ++ dktX2_init_10
def dkwX2_init_8 : List UInt8 := [16, 64, 188, 6, 181, 0, 82, 42, 5, 181, 0, 85, 42, 7, 188, 10, 181, 0, 89, 42, 17, 2, 0]
abbrev dktX2_init_8 : List UInt8 := dkwX2_init_8 ++ dktX2_init_9
def dkwX2_init_7 : List UInt8 := [16, 8, 188, 10, 181, 0, 73, 42, 16, 16, 188, 10, 181, 0, 76, 42, 16, 16, 188, 10, 181, 0, 79, 42]
abbrev dktX2_init_7 : List UInt8 := dkwX2_init_7 ++ dktX2_init_8
def dkwX2_init_6 : List UInt8 := [16, 32, 188, 10, 181, 0, 64, 42, 16, 8, 188, 10, 181, 0, 67, 42, 16, 8, 188, 10, 181, 0, 70, 42]
abbrev dktX2_init_6 : List UInt8 := dkwX2_init_6 ++ dktX2_init_7
def dkwX2_init_5 : List UInt8 := [16, 8, 188, 4, 181, 0, 55, 42, 16, 8, 188, 6, 181, 0, 58, 42, 16, 8, 188, 4, 181, 0, 61, 42]
abbrev dktX2_init_5 : List UInt8 := dkwX2_init_5 ++ dktX2_init_6
def dkwX2_init_4 : List UInt8 := [16, 8, 188, 4, 181, 0, 45, 42, 16, 8, 188, 10, 181, 0, 49, 42, 16, 8, 188, 10, 181, 0, 52, 42]
abbrev dktX2_init_4 : List UInt8 := dkwX2_init_4 ++ dktX2_init_5
def dkwX2_init_3 : List UInt8 := [188, 10, 181, 0, 36, 42, 17, 0, 192, 188, 6, 181, 0, 39, 42, 16, 16, 188, 6, 181, 0, 42, 42]
abbrev dktX2_init_3 : List UInt8 := dkwX2_init_3 ++ dktX2_init_4
def dkwX2_init_2 : List UInt8 := [188, 10, 181, 0, 27, 42, 16, 12, 188, 10, 181, 0, 30, 42, 16, 12, 188, 10, 181, 0, 33, 42, 16, 12]
abbrev dktX2_init_2 : List UInt8 := dkwX2_init_2 ++ dktX2_init_3
def dkwX2_init_1 : List UInt8 := [188, 11, 181, 0, 16, 42, 16, 12, 188, 10, 181, 0, 20, 42, 16, 12, 188, 6, 181, 0, 23, 42, 16, 12]
abbrev dktX2_init_1 : List UInt8 := dkwX2_init_1 ++ dktX2_init_2
def dkwX2_init_0 : List UInt8 := [42, 183, 0, 1, 42, 16, 16, 188, 10, 181, 0, 7, 42, 16, 16, 188, 10, 181, 0, 13, 42, 17, 4, 0]
abbrev dktX2_init_0 : List UInt8 := dkwX2_init_0 ++ dktX2_init_1
theorem dksX2_init_0 : cX2_init.data.toList.drop 0 = dktX2_init_0 := by decide +kernel
theorem dksX2_init_1 : cX2_init.data.toList.drop 24 = dktX2_init_1 := dk_seg dksX2_init_0 24 rfl rfl
theorem dksX2_init_2 : cX2_init.data.toList.drop 48 = dktX2_init_2 := dk_seg dksX2_init_1 24 rfl rfl
theorem dksX2_init_3 : cX2_init.data.toList.drop 72 = dktX2_init_3 := dk_seg dksX2_init_2 24 rfl rfl
theorem dksX2_init_4 : cX2_init.data.toList.drop 95 = dktX2_init_4 := dk_seg dksX2_init_3 23 rfl rfl
theorem dksX2_init_5 : cX2_init.data.toList.drop 119 = dktX2_init_5 := dk_seg dksX2_init_4 24 rfl rfl
theorem dksX2_init_6 : cX2_init.data.toList.drop 143 = dktX2_init_6 := dk_seg dksX2_init_5 24 rfl rfl
theorem dksX2_init_7 : cX2_init.data.toList.drop 167 = dktX2_init_7 := dk_seg dksX2_init_6 24 rfl rfl
theorem dksX2_init_8 : cX2_init.data.toList.drop 191 = dktX2_init_8 := dk_seg dksX2_init_7 24 rfl rfl
theorem dksX2_init_9 : cX2_init.data.toList.drop 214 = dktX2_init_9 := dk_seg dksX2_init_8 23 rfl rfl
theorem dksX2_init_10 : cX2_init.data.toList.drop 238 = dktX2_init_10 := dk_seg dksX2_init_9 24 rfl rfl
theorem dksX2_init_11 : cX2_init.data.toList.drop 262 = dktX2_init_11 := dk_seg dksX2_init_10 24 rfl rfl
theorem dksX2_init_12 : cX2_init.data.toList.drop 286 = dktX2_init_12 := dk_seg dksX2_init_11 24 rfl rfl
theorem dksX2_init_13 : cX2_init.data.toList.drop 310 = dktX2_init_13 := dk_seg dksX2_init_12 24 rfl rfl
theorem dksX2_init_14 : cX2_init.data.toList.drop 332 = dktX2_init_14 := dk_seg dksX2_init_13 22 rfl rfl
theorem dksX2_init_15 : cX2_init.data.toList.drop 356 = dktX2_init_15 := dk_seg dksX2_init_14 24 rfl rfl
theorem dksX2_init_16 : cX2_init.data.toList.drop 380 = dktX2_init_16 := dk_seg dksX2_init_15 24 rfl rfl
theorem dX2_init_0 : decode cX2_init 0 = .ok (.aload_n 0, 1) := dk_42 (dk_at dksX2_init_0 0 rfl rfl)
theorem dX2_init_1 : decode cX2_init 1 = .ok (.invokespecial 1, 3) := dk_183 0 1 (dk_at dksX2_init_0 1 rfl rfl)
theorem dX2_init_4 : decode cX2_init 4 = .ok (.aload_n 0, 1) := dk_42 (dk_at dksX2_init_0 4 rfl rfl)
theorem dX2_init_5 : decode cX2_init 5 = .ok (.bipush 16, 2) := dk_16 16 (dk_at dksX2_init_0 5 rfl rfl)
theorem dX2_init_7 : decode cX2_init 7 = .ok (.newarray .int, 2) := dk_188_10 (dk_at dksX2_init_0 7 rfl rfl)
theorem dX2_init_9 : decode cX2_init 9 = .ok (.putfield 7, 3) := dk_181 0 7 (dk_at dksX2_init_0 9 rfl rfl)
theorem dX2_init_12 : decode cX2_init 12 = .ok (.aload_n 0, 1) := dk_42 (dk_at dksX2_init_0 12 rfl rfl)
theorem dX2_init_13 : decode cX2_init 13 = .ok (.bipush 16, 2) := dk_16 16 (dk_at dksX2_init_0 13 rfl rfl)
theorem dX2_init_15 : decode cX2_init 15 = .ok (.newarray .int, 2) := dk_188_10 (dk_at dksX2_init_0 15 rfl rfl)
theorem dX2_init_17 : decode cX2_init 17 = .ok (.putfield 13, 3) := dk_181 0 13 (dk_at dksX2_init_0 17 rfl rfl)
theorem dX2_init_20 : decode cX2_init 20 = .ok (.aload_n 0, 1) := dk_42 (dk_at dksX2_init_0 20 rfl rfl)
theorem dX2_init_21 : decode cX2_init 21 = .ok (.sipush 1024, 3) := dk_17 4 0 (dk_at dksX2_init_0 21 rfl rfl)
theorem dX2_init_24 : decode cX2_init 24 = .ok (.newarray .long, 2) := dk_188_11 (dk_at dksX2_init_1 0 rfl rfl)
theorem dX2_init_26 : decode cX2_init 26 = .ok (.putfield 16, 3) := dk_181 0 16 (dk_at dksX2_init_1 2 rfl rfl)
theorem dX2_init_29 : decode cX2_init 29 = .ok (.aload_n 0, 1) := dk_42 (dk_at dksX2_init_1 5 rfl rfl)
theorem dX2_init_30 : decode cX2_init 30 = .ok (.bipush 12, 2) := dk_16 12 (dk_at dksX2_init_1 6 rfl rfl)
theorem dX2_init_32 : decode cX2_init 32 = .ok (.newarray .int, 2) := dk_188_10 (dk_at dksX2_init_1 8 rfl rfl)
theorem dX2_init_34 : decode cX2_init 34 = .ok (.putfield 20, 3) := dk_181 0 20 (dk_at dksX2_init_1 10 rfl rfl)
theorem dX2_init_37 : decode cX2_init 37 = .ok (.aload_n 0, 1) := dk_42 (dk_at dksX2_init_1 13 rfl rfl)
theorem dX2_init_38 : decode cX2_init 38 = .ok (.bipush 12, 2) := dk_16 12 (dk_at dksX2_init_1 14 rfl rfl)
theorem dX2_init_40 : decode cX2_init 40 = .ok (.newarray .float, 2) := dk_188_6 (dk_at dksX2_init_1 16 rfl rfl)
theorem dX2_init_42 : decode cX2_init 42 = .ok (.putfield 23, 3) := dk_181 0 23 (dk_at dksX2_init_1 18 rfl rfl)
theorem dX2_init_45 : decode cX2_init 45 = .ok (.aload_n 0, 1) := dk_42 (dk_at dksX2_init_1 21 rfl rfl)
theorem dX2_init_46 : decode cX2_init 46 = .ok (.bipush 12, 2) := dk_16 12 (dk_at dksX2_init_1 22 rfl rfl)
theorem dX2_init_48 : decode cX2_init 48 = .ok (.newarray .int, 2) := dk_188_10 (dk_at dksX2_init_2 0 rfl rfl)
theorem dX2_init_50 : decode cX2_init 50 = .ok (.putfield 27, 3) := dk_181 0 27 (dk_at dksX2_init_2 2 rfl rfl)
theorem dX2_init_53 : decode cX2_init 53 = .ok (.aload_n 0, 1) := dk_42 (dk_at dksX2_init_2 5 rfl rfl)
theorem dX2_init_54 : decode cX2_init 54 = .ok (.bipush 12, 2) := dk_16 12 (dk_at dksX2_init_2 6 rfl rfl)
theorem dX2_init_56 : decode cX2_init 56 = .ok (.newarray .int, 2) := dk_188_10 (dk_at dksX2_init_2 8 rfl rfl)
theorem dX2_init_58 : decode cX2_init 58 = .ok (.putfield 30, 3) := dk_181 0 30 (dk_at dksX2_init_2 10 rfl rfl)
theorem dX2_init_61 : decode cX2_init 61 = .ok (.aload_n 0, 1) := dk_42 (dk_at dksX2_init_2 13 rfl rfl)
theorem dX2_init_62 : decode cX2_init 62 = .ok (.bipush 12, 2) := dk_16 12 (dk_at dksX2_init_2 14 rfl rfl)
theorem dX2_init_64 : decode cX2_init 64 = .ok (.newarray .int, 2) := dk_188_10 (dk_at dksX2_init_2 16 rfl rfl)
theorem dX2_init_66 : decode cX2_init 66 = .ok (.putfield 33, 3) := dk_181 0 33 (dk_at dksX2_init_2 18 rfl rfl)
theorem dX2_init_69 : decode cX2_init 69 = .ok (.aload_n 0, 1) := dk_42 (dk_at dksX2_init_2 21 rfl rfl)
theorem dX2_init_70 : decode cX2_init 70 = .ok (.bipush 12, 2) := dk_16 12 (dk_at dksX2_init_2 22 rfl rfl)
theorem dX2_init_72 : decode cX2_init 72 = .ok (.newarray .int, 2) := dk_188_10 (dk_at dksX2_init_3 0 rfl rfl)
theorem dX2_init_74 : decode cX2_init 74 = .ok (.putfield 36, 3) := dk_181 0 36 (dk_at dksX2_init_3 2 rfl rfl)
theorem dX2_init_77 : decode cX2_init 77 = .ok (.aload_n 0, 1) := dk_42 (dk_at dksX2_init_3 5 rfl rfl)
theorem dX2_init_78 : decode cX2_init 78 = .ok (.sipush 192, 3) := dk_17 0 192 (dk_at dksX2_init_3 6 rfl rfl)
theorem dX2_init_81 : decode cX2_init 81 = .ok (.newarray .float, 2) := dk_188_6 (dk_at dksX2_init_3 9 rfl rfl)
theorem dX2_init_83 : decode cX2_init 83 = .ok (.putfield 39, 3) := dk_181 0 39 (dk_at dksX2_init_3 11 rfl rfl)
theorem dX2_init_86 : decode cX2_init 86 = .ok (.aload_n 0, 1) := dk_42 (dk_at dksX2_init_3 14 rfl rfl)
theorem dX2_init_87 : decode cX2_init 87 = .ok (.bipush 16, 2) := dk_16 16 (dk_at dksX2_init_3 15 rfl rfl)
theorem dX2_init_89 : decode cX2_init 89 = .ok (.newarray .float, 2) := dk_188_6 (dk_at dksX2_init_3 17 rfl rfl)
theorem dX2_init_91 : decode cX2_init 91 = .ok (.putfield 42, 3) := dk_181 0 42 (dk_at dksX2_init_3 19 rfl rfl)
theorem dX2_init_94 : decode cX2_init 94 = .ok (.aload_n 0, 1) := dk_42 (dk_at dksX2_init_3 22 rfl rfl)
theorem dX2_init_95 : decode cX2_init 95 = .ok (.bipush 8, 2) := dk_16 8 (dk_at dksX2_init_4 0 rfl rfl)
theorem dX2_init_97 : decode cX2_init 97 = .ok (.newarray .boolean, 2) := dk_188_4 (dk_at dksX2_init_4 2 rfl rfl)
theorem dX2_init_99 : decode cX2_init 99 = .ok (.putfield 45, 3) := dk_181 0 45 (dk_at dksX2_init_4 4 rfl rfl)
theorem dX2_init_102 : decode cX2_init 102 = .ok (.aload_n 0, 1) := dk_42 (dk_at dksX2_init_4 7 rfl rfl)
theorem dX2_init_103 : decode cX2_init 103 = .ok (.bipush 8, 2) := dk_16 8 (dk_at dksX2_init_4 8 rfl rfl)
theorem dX2_init_105 : decode cX2_init 105 = .ok (.newarray .int, 2) := dk_188_10 (dk_at dksX2_init_4 10 rfl rfl)
theorem dX2_init_107 : decode cX2_init 107 = .ok (.putfield 49, 3) := dk_181 0 49 (dk_at dksX2_init_4 12 rfl rfl)
theorem dX2_init_110 : decode cX2_init 110 = .ok (.aload_n 0, 1) := dk_42 (dk_at dksX2_init_4 15 rfl rfl)
theorem dX2_init_111 : decode cX2_init 111 = .ok (.bipush 8, 2) := dk_16 8 (dk_at dksX2_init_4 16 rfl rfl)
theorem dX2_init_113 : decode cX2_init 113 = .ok (.newarray .int, 2) := dk_188_10 (dk_at dksX2_init_4 18 rfl rfl)
theorem dX2_init_115 : decode cX2_init 115 = .ok (.putfield 52, 3) := dk_181 0 52 (dk_at dksX2_init_4 20 rfl rfl)
theorem dX2_init_118 : decode cX2_init 118 = .ok (.aload_n 0, 1) := dk_42 (dk_at dksX2_init_4 23 rfl rfl)
theorem dX2_init_119 : decode cX2_init 119 = .ok (.bipush 8, 2) := dk_16 8 (dk_at dksX2_init_5 0 rfl rfl)
theorem dX2_init_121 : decode cX2_init 121 = .ok (.newarray .boolean, 2) := dk_188_4 (dk_at dksX2_init_5 2 rfl rfl)
theorem dX2_init_123 : decode cX2_init 123 = .ok (.putfield 55, 3) := dk_181 0 55 (dk_at dksX2_init_5 4 rfl rfl)
theorem dX2_init_126 : decode cX2_init 126 = .ok (.aload_n 0, 1) := dk_42 (dk_at dksX2_init_5 7 rfl rfl)
theorem dX2_init_127 : decode cX2_init 127 = .ok (.bipush 8, 2) := dk_16 8 (dk_at dksX2_init_5 8 rfl rfl)
theorem dX2_init_129 : decode cX2_init 129 = .ok (.newarray .float, 2) := dk_188_6 (dk_at dksX2_init_5 10 rfl rfl)
theorem dX2_init_131 : decode cX2_init 131 = .ok (.putfield 58, 3) := dk_181 0 58 (dk_at dksX2_init_5 12 rfl rfl)
theorem dX2_init_134 : decode cX2_init 134 = .ok (.aload_n 0, 1) := dk_42 (dk_at dksX2_init_5 15 rfl rfl)
theorem dX2_init_135 : decode cX2_init 135 = .ok (.bipush 8, 2) := dk_16 8 (dk_at dksX2_init_5 16 rfl rfl)
theorem dX2_init_137 : decode cX2_init 137 = .ok (.newarray .boolean, 2) := dk_188_4 (dk_at dksX2_init_5 18 rfl rfl)
theorem dX2_init_139 : decode cX2_init 139 = .ok (.putfield 61, 3) := dk_181 0 61 (dk_at dksX2_init_5 20 rfl rfl)
theorem dX2_init_142 : decode cX2_init 142 = .ok (.aload_n 0, 1) := dk_42 (dk_at dksX2_init_5 23 rfl rfl)
theorem dX2_init_143 : decode cX2_init 143 = .ok (.bipush 32, 2) := dk_16 32 (dk_at dksX2_init_6 0 rfl rfl)
theorem dX2_init_145 : decode cX2_init 145 = .ok (.newarray .int, 2) := dk_188_10 (dk_at dksX2_init_6 2 rfl rfl)
theorem dX2_init_147 : decode cX2_init 147 = .ok (.putfield 64, 3) := dk_181 0 64 (dk_at dksX2_init_6 4 rfl rfl)
theorem dX2_init_150 : decode cX2_init 150 = .ok (.aload_n 0, 1) := dk_42 (dk_at dksX2_init_6 7 rfl rfl)
theorem dX2_init_151 : decode cX2_init 151 = .ok (.bipush 8, 2) := dk_16 8 (dk_at dksX2_init_6 8 rfl rfl)
theorem dX2_init_153 : decode cX2_init 153 = .ok (.newarray .int, 2) := dk_188_10 (dk_at dksX2_init_6 10 rfl rfl)
theorem dX2_init_155 : decode cX2_init 155 = .ok (.putfield 67, 3) := dk_181 0 67 (dk_at dksX2_init_6 12 rfl rfl)
theorem dX2_init_158 : decode cX2_init 158 = .ok (.aload_n 0, 1) := dk_42 (dk_at dksX2_init_6 15 rfl rfl)
theorem dX2_init_159 : decode cX2_init 159 = .ok (.bipush 8, 2) := dk_16 8 (dk_at dksX2_init_6 16 rfl rfl)
theorem dX2_init_161 : decode cX2_init 161 = .ok (.newarray .int, 2) := dk_188_10 (dk_at dksX2_init_6 18 rfl rfl)
theorem dX2_init_163 : decode cX2_init 163 = .ok (.putfield 70, 3) := dk_181 0 70 (dk_at dksX2_init_6 20 rfl rfl)
theorem dX2_init_166 : decode cX2_init 166 = .ok (.aload_n 0, 1) := dk_42 (dk_at dksX2_init_6 23 rfl rfl)
theorem dX2_init_167 : decode cX2_init 167 = .ok (.bipush 8, 2) := dk_16 8 (dk_at dksX2_init_7 0 rfl rfl)
theorem dX2_init_169 : decode cX2_init 169 = .ok (.newarray .int, 2) := dk_188_10 (dk_at dksX2_init_7 2 rfl rfl)
theorem dX2_init_171 : decode cX2_init 171 = .ok (.putfield 73, 3) := dk_181 0 73 (dk_at dksX2_init_7 4 rfl rfl)
theorem dX2_init_174 : decode cX2_init 174 = .ok (.aload_n 0, 1) := dk_42 (dk_at dksX2_init_7 7 rfl rfl)
theorem dX2_init_175 : decode cX2_init 175 = .ok (.bipush 16, 2) := dk_16 16 (dk_at dksX2_init_7 8 rfl rfl)
theorem dX2_init_177 : decode cX2_init 177 = .ok (.newarray .int, 2) := dk_188_10 (dk_at dksX2_init_7 10 rfl rfl)
theorem dX2_init_179 : decode cX2_init 179 = .ok (.putfield 76, 3) := dk_181 0 76 (dk_at dksX2_init_7 12 rfl rfl)
theorem dX2_init_182 : decode cX2_init 182 = .ok (.aload_n 0, 1) := dk_42 (dk_at dksX2_init_7 15 rfl rfl)
theorem dX2_init_183 : decode cX2_init 183 = .ok (.bipush 16, 2) := dk_16 16 (dk_at dksX2_init_7 16 rfl rfl)
theorem dX2_init_185 : decode cX2_init 185 = .ok (.newarray .int, 2) := dk_188_10 (dk_at dksX2_init_7 18 rfl rfl)
theorem dX2_init_187 : decode cX2_init 187 = .ok (.putfield 79, 3) := dk_181 0 79 (dk_at dksX2_init_7 20 rfl rfl)
theorem dX2_init_190 : decode cX2_init 190 = .ok (.aload_n 0, 1) := dk_42 (dk_at dksX2_init_7 23 rfl rfl)
theorem dX2_init_191 : decode cX2_init 191 = .ok (.bipush 64, 2) := dk_16 64 (dk_at dksX2_init_8 0 rfl rfl)
theorem dX2_init_193 : decode cX2_init 193 = .ok (.newarray .float, 2) := dk_188_6 (dk_at dksX2_init_8 2 rfl rfl)
theorem dX2_init_195 : decode cX2_init 195 = .ok (.putfield 82, 3) := dk_181 0 82 (dk_at dksX2_init_8 4 rfl rfl)
theorem dX2_init_198 : decode cX2_init 198 = .ok (.aload_n 0, 1) := dk_42 (dk_at dksX2_init_8 7 rfl rfl)
theorem dX2_init_199 : decode cX2_init 199 = .ok (.iconst 2, 1) := dk_5 (dk_at dksX2_init_8 8 rfl rfl)
theorem dX2_init_200 : decode cX2_init 200 = .ok (.putfield 85, 3) := dk_181 0 85 (dk_at dksX2_init_8 9 rfl rfl)
theorem dX2_init_203 : decode cX2_init 203 = .ok (.aload_n 0, 1) := dk_42 (dk_at dksX2_init_8 12 rfl rfl)
theorem dX2_init_204 : decode cX2_init 204 = .ok (.iconst 4, 1) := dk_7 (dk_at dksX2_init_8 13 rfl rfl)
theorem dX2_init_205 : decode cX2_init 205 = .ok (.newarray .int, 2) := dk_188_10 (dk_at dksX2_init_8 14 rfl rfl)
theorem dX2_init_207 : decode cX2_init 207 = .ok (.putfield 89, 3) := dk_181 0 89 (dk_at dksX2_init_8 16 rfl rfl)
theorem dX2_init_210 : decode cX2_init 210 = .ok (.aload_n 0, 1) := dk_42 (dk_at dksX2_init_8 19 rfl rfl)
theorem dX2_init_211 : decode cX2_init 211 = .ok (.sipush 512, 3) := dk_17 2 0 (dk_at dksX2_init_8 20 rfl rfl)
theorem dX2_init_214 : decode cX2_init 214 = .ok (.newarray .float, 2) := dk_188_6 (dk_at dksX2_init_9 0 rfl rfl)
theorem dX2_init_216 : decode cX2_init 216 = .ok (.putfield 92, 3) := dk_181 0 92 (dk_at dksX2_init_9 2 rfl rfl)
theorem dX2_init_219 : decode cX2_init 219 = .ok (.aload_n 0, 1) := dk_42 (dk_at dksX2_init_9 5 rfl rfl)
theorem dX2_init_220 : decode cX2_init 220 = .ok (.bipush 100, 2) := dk_16 100 (dk_at dksX2_init_9 6 rfl rfl)
theorem dX2_init_222 : decode cX2_init 222 = .ok (.newarray .int, 2) := dk_188_10 (dk_at dksX2_init_9 8 rfl rfl)
theorem dX2_init_224 : decode cX2_init 224 = .ok (.putfield 95, 3) := dk_181 0 95 (dk_at dksX2_init_9 10 rfl rfl)
theorem dX2_init_227 : decode cX2_init 227 = .ok (.aload_n 0, 1) := dk_42 (dk_at dksX2_init_9 13 rfl rfl)
theorem dX2_init_228 : decode cX2_init 228 = .ok (.bipush 100, 2) := dk_16 100 (dk_at dksX2_init_9 14 rfl rfl)
theorem dX2_init_230 : decode cX2_init 230 = .ok (.newarray .int, 2) := dk_188_10 (dk_at dksX2_init_9 16 rfl rfl)
theorem dX2_init_232 : decode cX2_init 232 = .ok (.putfield 98, 3) := dk_181 0 98 (dk_at dksX2_init_9 18 rfl rfl)
theorem dX2_init_235 : decode cX2_init 235 = .ok (.aload_n 0, 1) := dk_42 (dk_at dksX2_init_9 21 rfl rfl)
theorem dX2_init_236 : decode cX2_init 236 = .ok (.bipush 100, 2) := dk_16 100 (dk_at dksX2_init_9 22 rfl rfl)
theorem dX2_init_238 : decode cX2_init 238 = .ok (.newarray .int, 2) := dk_188_10 (dk_at dksX2_init_10 0 rfl rfl)
theorem dX2_init_240 : decode cX2_init 240 = .ok (.putfield 101, 3) := dk_181 0 101 (dk_at dksX2_init_10 2 rfl rfl)
theorem dX2_init_243 : decode cX2_init 243 = .ok (.aload_n 0, 1) := dk_42 (dk_at dksX2_init_10 5 rfl rfl)
theorem dX2_init_244 : decode cX2_init 244 = .ok (.bipush 100, 2) := dk_16 100 (dk_at dksX2_init_10 6 rfl rfl)
theorem dX2_init_246 : decode cX2_init 246 = .ok (.newarray .int, 2) := dk_188_10 (dk_at dksX2_init_10 8 rfl rfl)
theorem dX2_init_248 : decode cX2_init 248 = .ok (.putfield 104, 3) := dk_181 0 104 (dk_at dksX2_init_10 10 rfl rfl)
theorem dX2_init_251 : decode cX2_init 251 = .ok (.aload_n 0, 1) := dk_42 (dk_at dksX2_init_10 13 rfl rfl)
theorem dX2_init_252 : decode cX2_init 252 = .ok (.bipush 100, 2) := dk_16 100 (dk_at dksX2_init_10 14 rfl rfl)
theorem dX2_init_254 : decode cX2_init 254 = .ok (.newarray .int, 2) := dk_188_10 (dk_at dksX2_init_10 16 rfl rfl)
theorem dX2_init_256 : decode cX2_init 256 = .ok (.putfield 107, 3) := dk_181 0 107 (dk_at dksX2_init_10 18 rfl rfl)
theorem dX2_init_259 : decode cX2_init 259 = .ok (.aload_n 0, 1) := dk_42 (dk_at dksX2_init_10 21 rfl rfl)
theorem dX2_init_260 : decode cX2_init 260 = .ok (.bipush 30, 2) := dk_16 30 (dk_at dksX2_init_10 22 rfl rfl)
theorem dX2_init_262 : decode cX2_init 262 = .ok (.newarray .int, 2) := dk_188_10 (dk_at dksX2_init_11 0 rfl rfl)
theorem dX2_init_264 : decode cX2_init 264 = .ok (.putfield 110, 3) := dk_181 0 110 (dk_at dksX2_init_11 2 rfl rfl)
theorem dX2_init_267 : decode cX2_init 267 = .ok (.aload_n 0, 1) := dk_42 (dk_at dksX2_init_11 5 rfl rfl)
theorem dX2_init_268 : decode cX2_init 268 = .ok (.bipush 30, 2) := dk_16 30 (dk_at dksX2_init_11 6 rfl rfl)
theorem dX2_init_270 : decode cX2_init 270 = .ok (.newarray .int, 2) := dk_188_10 (dk_at dksX2_init_11 8 rfl rfl)
theorem dX2_init_272 : decode cX2_init 272 = .ok (.putfield 113, 3) := dk_181 0 113 (dk_at dksX2_init_11 10 rfl rfl)
theorem dX2_init_275 : decode cX2_init 275 = .ok (.aload_n 0, 1) := dk_42 (dk_at dksX2_init_11 13 rfl rfl)
theorem dX2_init_276 : decode cX2_init 276 = .ok (.bipush 30, 2) := dk_16 30 (dk_at dksX2_init_11 14 rfl rfl)
theorem dX2_init_278 : decode cX2_init 278 = .ok (.newarray .int, 2) := dk_188_10 (dk_at dksX2_init_11 16 rfl rfl)
theorem dX2_init_280 : decode cX2_init 280 = .ok (.putfield 116, 3) := dk_181 0 116 (dk_at dksX2_init_11 18 rfl rfl)
theorem dX2_init_283 : decode cX2_init 283 = .ok (.aload_n 0, 1) := dk_42 (dk_at dksX2_init_11 21 rfl rfl)
theorem dX2_init_284 : decode cX2_init 284 = .ok (.bipush 30, 2) := dk_16 30 (dk_at dksX2_init_11 22 rfl rfl)
theorem dX2_init_286 : decode cX2_init 286 = .ok (.newarray .int, 2) := dk_188_10 (dk_at dksX2_init_12 0 rfl rfl)
theorem dX2_init_288 : decode cX2_init 288 = .ok (.putfield 119, 3) := dk_181 0 119 (dk_at dksX2_init_12 2 rfl rfl)
theorem dX2_init_291 : decode cX2_init 291 = .ok (.aload_n 0, 1) := dk_42 (dk_at dksX2_init_12 5 rfl rfl)
theorem dX2_init_292 : decode cX2_init 292 = .ok (.bipush 30, 2) := dk_16 30 (dk_at dksX2_init_12 6 rfl rfl)
theorem dX2_init_294 : decode cX2_init 294 = .ok (.newarray .int, 2) := dk_188_10 (dk_at dksX2_init_12 8 rfl rfl)
theorem dX2_init_296 : decode cX2_init 296 = .ok (.putfield 122, 3) := dk_181 0 122 (dk_at dksX2_init_12 10 rfl rfl)
theorem dX2_init_299 : decode cX2_init 299 = .ok (.aload_n 0, 1) := dk_42 (dk_at dksX2_init_12 13 rfl rfl)
theorem dX2_init_300 : decode cX2_init 300 = .ok (.bipush 7, 2) := dk_16 7 (dk_at dksX2_init_12 14 rfl rfl)
theorem dX2_init_302 : decode cX2_init 302 = .ok (.newarray .int, 2) := dk_188_10 (dk_at dksX2_init_12 16 rfl rfl)
theorem dX2_init_304 : decode cX2_init 304 = .ok (.putfield 125, 3) := dk_181 0 125 (dk_at dksX2_init_12 18 rfl rfl)
theorem dX2_init_307 : decode cX2_init 307 = .ok (.aload_n 0, 1) := dk_42 (dk_at dksX2_init_12 21 rfl rfl)
theorem dX2_init_308 : decode cX2_init 308 = .ok (.bipush 8, 2) := dk_16 8 (dk_at dksX2_init_12 22 rfl rfl)
theorem dX2_init_310 : decode cX2_init 310 = .ok (.newarray .float, 2) := dk_188_6 (dk_at dksX2_init_13 0 rfl rfl)
theorem dX2_init_312 : decode cX2_init 312 = .ok (.putfield 128, 3) := dk_181 0 128 (dk_at dksX2_init_13 2 rfl rfl)
theorem dX2_init_315 : decode cX2_init 315 = .ok (.aload_n 0, 1) := dk_42 (dk_at dksX2_init_13 5 rfl rfl)
theorem dX2_init_316 : decode cX2_init 316 = .ok (.bipush 8, 2) := dk_16 8 (dk_at dksX2_init_13 6 rfl rfl)
theorem dX2_init_318 : decode cX2_init 318 = .ok (.newarray .float, 2) := dk_188_6 (dk_at dksX2_init_13 8 rfl rfl)
theorem dX2_init_320 : decode cX2_init 320 = .ok (.putfield 131, 3) := dk_181 0 131 (dk_at dksX2_init_13 10 rfl rfl)
theorem dX2_init_323 : decode cX2_init 323 = .ok (.iconst 0, 1) := dk_3 (dk_at dksX2_init_13 13 rfl rfl)
theorem dX2_init_324 : decode cX2_init 324 = .ok (.istore_n 1, 1) := dk_60 (dk_at dksX2_init_13 14 rfl rfl)
theorem dX2_init_325 : decode cX2_init 325 = .ok (.iload_n 1, 1) := dk_27 (dk_at dksX2_init_13 15 rfl rfl)
theorem dX2_init_326 : decode cX2_init 326 = .ok (.bipush 8, 2) := dk_16 8 (dk_at dksX2_init_13 16 rfl rfl)
theorem dX2_init_328 : decode cX2_init 328 = .ok (.if_icmp .ge 23, 3) := dk_162 0 23 (dk_at dksX2_init_13 18 rfl rfl)
theorem dX2_init_331 : decode cX2_init 331 = .ok (.aload_n 0, 1) := dk_42 (dk_at dksX2_init_13 21 rfl rfl)
theorem dX2_init_332 : decode cX2_init 332 = .ok (.getfield 49, 3) := dk_180 0 49 (dk_at dksX2_init_14 0 rfl rfl)
theorem dX2_init_335 : decode cX2_init 335 = .ok (.iload_n 1, 1) := dk_27 (dk_at dksX2_init_14 3 rfl rfl)
theorem dX2_init_336 : decode cX2_init 336 = .ok (.iconst (-1), 1) := dk_2 (dk_at dksX2_init_14 4 rfl rfl)
theorem dX2_init_337 : decode cX2_init 337 = .ok (.iastore, 1) := dk_79 (dk_at dksX2_init_14 5 rfl rfl)
theorem dX2_init_338 : decode cX2_init 338 = .ok (.aload_n 0, 1) := dk_42 (dk_at dksX2_init_14 6 rfl rfl)
theorem dX2_init_339 : decode cX2_init 339 = .ok (.getfield 58, 3) := dk_180 0 58 (dk_at dksX2_init_14 7 rfl rfl)
theorem dX2_init_342 : decode cX2_init 342 = .ok (.iload_n 1, 1) := dk_27 (dk_at dksX2_init_14 10 rfl rfl)
theorem dX2_init_343 : decode cX2_init 343 = .ok (.fconst 1, 1) := dk_12 (dk_at dksX2_init_14 11 rfl rfl)
theorem dX2_init_344 : decode cX2_init 344 = .ok (.fastore, 1) := dk_81 (dk_at dksX2_init_14 12 rfl rfl)
theorem dX2_init_345 : decode cX2_init 345 = .ok (.iinc 1 1, 3) := dk_132 1 1 (dk_at dksX2_init_14 13 rfl rfl)
theorem dX2_init_348 : decode cX2_init 348 = .ok (.goto (-23), 3) := dk_167 255 233 (dk_at dksX2_init_14 16 rfl rfl)
theorem dX2_init_351 : decode cX2_init 351 = .ok (.iconst 0, 1) := dk_3 (dk_at dksX2_init_14 19 rfl rfl)
theorem dX2_init_352 : decode cX2_init 352 = .ok (.istore_n 1, 1) := dk_60 (dk_at dksX2_init_14 20 rfl rfl)
theorem dX2_init_353 : decode cX2_init 353 = .ok (.iload_n 1, 1) := dk_27 (dk_at dksX2_init_14 21 rfl rfl)
theorem dX2_init_354 : decode cX2_init 354 = .ok (.bipush 32, 2) := dk_16 32 (dk_at dksX2_init_14 22 rfl rfl)
theorem dX2_init_356 : decode cX2_init 356 = .ok (.if_icmp .ge 16, 3) := dk_162 0 16 (dk_at dksX2_init_15 0 rfl rfl)
theorem dX2_init_359 : decode cX2_init 359 = .ok (.aload_n 0, 1) := dk_42 (dk_at dksX2_init_15 3 rfl rfl)
theorem dX2_init_360 : decode cX2_init 360 = .ok (.getfield 64, 3) := dk_180 0 64 (dk_at dksX2_init_15 4 rfl rfl)
theorem dX2_init_363 : decode cX2_init 363 = .ok (.iload_n 1, 1) := dk_27 (dk_at dksX2_init_15 7 rfl rfl)
theorem dX2_init_364 : decode cX2_init 364 = .ok (.iconst (-1), 1) := dk_2 (dk_at dksX2_init_15 8 rfl rfl)
theorem dX2_init_365 : decode cX2_init 365 = .ok (.iastore, 1) := dk_79 (dk_at dksX2_init_15 9 rfl rfl)
theorem dX2_init_366 : decode cX2_init 366 = .ok (.iinc 1 1, 3) := dk_132 1 1 (dk_at dksX2_init_15 10 rfl rfl)
theorem dX2_init_369 : decode cX2_init 369 = .ok (.goto (-16), 3) := dk_167 255 240 (dk_at dksX2_init_15 13 rfl rfl)
theorem dX2_init_372 : decode cX2_init 372 = .ok (.iconst 0, 1) := dk_3 (dk_at dksX2_init_15 16 rfl rfl)
theorem dX2_init_373 : decode cX2_init 373 = .ok (.istore_n 1, 1) := dk_60 (dk_at dksX2_init_15 17 rfl rfl)
theorem dX2_init_374 : decode cX2_init 374 = .ok (.iload_n 1, 1) := dk_27 (dk_at dksX2_init_15 18 rfl rfl)
theorem dX2_init_375 : decode cX2_init 375 = .ok (.iconst 4, 1) := dk_7 (dk_at dksX2_init_15 19 rfl rfl)
theorem dX2_init_376 : decode cX2_init 376 = .ok (.if_icmp .ge 16, 3) := dk_162 0 16 (dk_at dksX2_init_15 20 rfl rfl)
theorem dX2_init_379 : decode cX2_init 379 = .ok (.aload_n 0, 1) := dk_42 (dk_at dksX2_init_15 23 rfl rfl)
theorem dX2_init_380 : decode cX2_init 380 = .ok (.getfield 89, 3) := dk_180 0 89 (dk_at dksX2_init_16 0 rfl rfl)
theorem dX2_init_383 : decode cX2_init 383 = .ok (.iload_n 1, 1) := dk_27 (dk_at dksX2_init_16 3 rfl rfl)
theorem dX2_init_384 : decode cX2_init 384 = .ok (.iconst (-1), 1) := dk_2 (dk_at dksX2_init_16 4 rfl rfl)
theorem dX2_init_385 : decode cX2_init 385 = .ok (.iastore, 1) := dk_79 (dk_at dksX2_init_16 5 rfl rfl)
theorem dX2_init_386 : decode cX2_init 386 = .ok (.iinc 1 1, 3) := dk_132 1 1 (dk_at dksX2_init_16 6 rfl rfl)
theorem dX2_init_389 : decode cX2_init 389 = .ok (.goto (-15), 3) := dk_167 255 241 (dk_at dksX2_init_16 9 rfl rfl)
theorem dX2_init_392 : decode cX2_init 392 = .ok (.return_, 1) := dk_177 (dk_at dksX2_init_16 12 rfl rfl)
abbrev cX2_clip : ByteArray := prog_14_method_6_code
def yX2_clip : MethodName := ⟨RX2, "clip", "(II)I"⟩
def dkwX2_clip_3 : List UInt8 := [180, 0, 140, 4, 100, 172]
abbrev dktX2_clip_3 : List UInt8 := dkwX2_clip_3 ++ []
def dkwX2_clip_2 : List UInt8 := [27, 79, 42, 180, 0, 13, 42, 180, 0, 140, 28, 79, 42, 89, 180, 0, 140, 4, 96, 181, 0, 140, 42]
abbrev dktX2_clip_2 : List UInt8 := dkwX2_clip_2 ++ dktX2_clip_3
def dkwX2_clip_1 : List UInt8 := [160, 0, 6, 16, 152, 172, 28, 156, 0, 9, 42, 8, 182, 0, 143, 172, 42, 180, 0, 7, 42, 180, 0, 140]
abbrev dktX2_clip_1 : List UInt8 := dkwX2_clip_1 ++ dktX2_clip_2
def dkwX2_clip_0 : List UInt8 := [27, 3, 7, 184, 0, 136, 153, 0, 9, 28, 16, 64, 164, 0, 6, 16, 154, 172, 42, 180, 0, 140, 16, 16]
abbrev dktX2_clip_0 : List UInt8 := dkwX2_clip_0 ++ dktX2_clip_1
theorem dksX2_clip_0 : cX2_clip.data.toList.drop 0 = dktX2_clip_0 := by decide +kernel
theorem dksX2_clip_1 : cX2_clip.data.toList.drop 24 = dktX2_clip_1 := dk_seg dksX2_clip_0 24 rfl rfl
theorem dksX2_clip_2 : cX2_clip.data.toList.drop 48 = dktX2_clip_2 := dk_seg dksX2_clip_1 24 rfl rfl
theorem dksX2_clip_3 : cX2_clip.data.toList.drop 71 = dktX2_clip_3 := dk_seg dksX2_clip_2 23 rfl rfl
theorem dX2_clip_0 : decode cX2_clip 0 = .ok (.iload_n 1, 1) := dk_27 (dk_at dksX2_clip_0 0 rfl rfl)
theorem dX2_clip_1 : decode cX2_clip 1 = .ok (.iconst 0, 1) := dk_3 (dk_at dksX2_clip_0 1 rfl rfl)
theorem dX2_clip_2 : decode cX2_clip 2 = .ok (.iconst 4, 1) := dk_7 (dk_at dksX2_clip_0 2 rfl rfl)
theorem dX2_clip_3 : decode cX2_clip 3 = .ok (.invokestatic 136, 3) := dk_184 0 136 (dk_at dksX2_clip_0 3 rfl rfl)
theorem dX2_clip_6 : decode cX2_clip 6 = .ok (.ifCond .eq 9, 3) := dk_153 0 9 (dk_at dksX2_clip_0 6 rfl rfl)
theorem dX2_clip_9 : decode cX2_clip 9 = .ok (.iload_n 2, 1) := dk_28 (dk_at dksX2_clip_0 9 rfl rfl)
theorem dX2_clip_10 : decode cX2_clip 10 = .ok (.bipush 64, 2) := dk_16 64 (dk_at dksX2_clip_0 10 rfl rfl)
theorem dX2_clip_12 : decode cX2_clip 12 = .ok (.if_icmp .le 6, 3) := dk_164 0 6 (dk_at dksX2_clip_0 12 rfl rfl)
theorem dX2_clip_15 : decode cX2_clip 15 = .ok (.bipush (-102), 2) := dk_16 154 (dk_at dksX2_clip_0 15 rfl rfl)
theorem dX2_clip_17 : decode cX2_clip 17 = .ok (.ireturn, 1) := dk_172 (dk_at dksX2_clip_0 17 rfl rfl)
theorem dX2_clip_18 : decode cX2_clip 18 = .ok (.aload_n 0, 1) := dk_42 (dk_at dksX2_clip_0 18 rfl rfl)
theorem dX2_clip_19 : decode cX2_clip 19 = .ok (.getfield 140, 3) := dk_180 0 140 (dk_at dksX2_clip_0 19 rfl rfl)
theorem dX2_clip_22 : decode cX2_clip 22 = .ok (.bipush 16, 2) := dk_16 16 (dk_at dksX2_clip_0 22 rfl rfl)
theorem dX2_clip_24 : decode cX2_clip 24 = .ok (.if_icmp .ne 6, 3) := dk_160 0 6 (dk_at dksX2_clip_1 0 rfl rfl)
theorem dX2_clip_27 : decode cX2_clip 27 = .ok (.bipush (-104), 2) := dk_16 152 (dk_at dksX2_clip_1 3 rfl rfl)
theorem dX2_clip_29 : decode cX2_clip 29 = .ok (.ireturn, 1) := dk_172 (dk_at dksX2_clip_1 5 rfl rfl)
theorem dX2_clip_30 : decode cX2_clip 30 = .ok (.iload_n 2, 1) := dk_28 (dk_at dksX2_clip_1 6 rfl rfl)
theorem dX2_clip_31 : decode cX2_clip 31 = .ok (.ifCond .ge 9, 3) := dk_156 0 9 (dk_at dksX2_clip_1 7 rfl rfl)
theorem dX2_clip_34 : decode cX2_clip 34 = .ok (.aload_n 0, 1) := dk_42 (dk_at dksX2_clip_1 10 rfl rfl)
theorem dX2_clip_35 : decode cX2_clip 35 = .ok (.iconst 5, 1) := dk_8 (dk_at dksX2_clip_1 11 rfl rfl)
theorem dX2_clip_36 : decode cX2_clip 36 = .ok (.invokevirtual 143, 3) := dk_182 0 143 (dk_at dksX2_clip_1 12 rfl rfl)
theorem dX2_clip_39 : decode cX2_clip 39 = .ok (.ireturn, 1) := dk_172 (dk_at dksX2_clip_1 15 rfl rfl)
theorem dX2_clip_40 : decode cX2_clip 40 = .ok (.aload_n 0, 1) := dk_42 (dk_at dksX2_clip_1 16 rfl rfl)
theorem dX2_clip_41 : decode cX2_clip 41 = .ok (.getfield 7, 3) := dk_180 0 7 (dk_at dksX2_clip_1 17 rfl rfl)
theorem dX2_clip_44 : decode cX2_clip 44 = .ok (.aload_n 0, 1) := dk_42 (dk_at dksX2_clip_1 20 rfl rfl)
theorem dX2_clip_45 : decode cX2_clip 45 = .ok (.getfield 140, 3) := dk_180 0 140 (dk_at dksX2_clip_1 21 rfl rfl)
theorem dX2_clip_48 : decode cX2_clip 48 = .ok (.iload_n 1, 1) := dk_27 (dk_at dksX2_clip_2 0 rfl rfl)
theorem dX2_clip_49 : decode cX2_clip 49 = .ok (.iastore, 1) := dk_79 (dk_at dksX2_clip_2 1 rfl rfl)
theorem dX2_clip_50 : decode cX2_clip 50 = .ok (.aload_n 0, 1) := dk_42 (dk_at dksX2_clip_2 2 rfl rfl)
theorem dX2_clip_51 : decode cX2_clip 51 = .ok (.getfield 13, 3) := dk_180 0 13 (dk_at dksX2_clip_2 3 rfl rfl)
theorem dX2_clip_54 : decode cX2_clip 54 = .ok (.aload_n 0, 1) := dk_42 (dk_at dksX2_clip_2 6 rfl rfl)
theorem dX2_clip_55 : decode cX2_clip 55 = .ok (.getfield 140, 3) := dk_180 0 140 (dk_at dksX2_clip_2 7 rfl rfl)
theorem dX2_clip_58 : decode cX2_clip 58 = .ok (.iload_n 2, 1) := dk_28 (dk_at dksX2_clip_2 10 rfl rfl)
theorem dX2_clip_59 : decode cX2_clip 59 = .ok (.iastore, 1) := dk_79 (dk_at dksX2_clip_2 11 rfl rfl)
theorem dX2_clip_60 : decode cX2_clip 60 = .ok (.aload_n 0, 1) := dk_42 (dk_at dksX2_clip_2 12 rfl rfl)
theorem dX2_clip_61 : decode cX2_clip 61 = .ok (.dup, 1) := dk_89 (dk_at dksX2_clip_2 13 rfl rfl)
theorem dX2_clip_62 : decode cX2_clip 62 = .ok (.getfield 140, 3) := dk_180 0 140 (dk_at dksX2_clip_2 14 rfl rfl)
theorem dX2_clip_65 : decode cX2_clip 65 = .ok (.iconst 1, 1) := dk_4 (dk_at dksX2_clip_2 17 rfl rfl)
theorem dX2_clip_66 : decode cX2_clip 66 = .ok (.iadd, 1) := dk_96 (dk_at dksX2_clip_2 18 rfl rfl)
theorem dX2_clip_67 : decode cX2_clip 67 = .ok (.putfield 140, 3) := dk_181 0 140 (dk_at dksX2_clip_2 19 rfl rfl)
theorem dX2_clip_70 : decode cX2_clip 70 = .ok (.aload_n 0, 1) := dk_42 (dk_at dksX2_clip_2 22 rfl rfl)
theorem dX2_clip_71 : decode cX2_clip 71 = .ok (.getfield 140, 3) := dk_180 0 140 (dk_at dksX2_clip_3 0 rfl rfl)
theorem dX2_clip_74 : decode cX2_clip 74 = .ok (.iconst 1, 1) := dk_4 (dk_at dksX2_clip_3 3 rfl rfl)
theorem dX2_clip_75 : decode cX2_clip 75 = .ok (.isub, 1) := dk_100 (dk_at dksX2_clip_3 4 rfl rfl)
theorem dX2_clip_76 : decode cX2_clip 76 = .ok (.ireturn, 1) := dk_172 (dk_at dksX2_clip_3 5 rfl rfl)
abbrev cX2_in : ByteArray := prog_14_method_3_code
def yX2_in : MethodName := ⟨RX2, "in", "(III)Z"⟩
def dkwX2_in_0 : List UInt8 := [26, 27, 161, 0, 12, 26, 28, 163, 0, 7, 4, 167, 0, 4, 3, 172]
abbrev dktX2_in_0 : List UInt8 := dkwX2_in_0 ++ []
theorem dksX2_in_0 : cX2_in.data.toList.drop 0 = dktX2_in_0 := by decide +kernel
theorem dX2_in_0 : decode cX2_in 0 = .ok (.iload_n 0, 1) := dk_26 (dk_at dksX2_in_0 0 rfl rfl)
theorem dX2_in_1 : decode cX2_in 1 = .ok (.iload_n 1, 1) := dk_27 (dk_at dksX2_in_0 1 rfl rfl)
theorem dX2_in_2 : decode cX2_in 2 = .ok (.if_icmp .lt 12, 3) := dk_161 0 12 (dk_at dksX2_in_0 2 rfl rfl)
theorem dX2_in_5 : decode cX2_in 5 = .ok (.iload_n 0, 1) := dk_26 (dk_at dksX2_in_0 5 rfl rfl)
theorem dX2_in_6 : decode cX2_in 6 = .ok (.iload_n 2, 1) := dk_28 (dk_at dksX2_in_0 6 rfl rfl)
theorem dX2_in_7 : decode cX2_in 7 = .ok (.if_icmp .gt 7, 3) := dk_163 0 7 (dk_at dksX2_in_0 7 rfl rfl)
theorem dX2_in_10 : decode cX2_in 10 = .ok (.iconst 1, 1) := dk_4 (dk_at dksX2_in_0 10 rfl rfl)
theorem dX2_in_11 : decode cX2_in 11 = .ok (.goto 4, 3) := dk_167 0 4 (dk_at dksX2_in_0 11 rfl rfl)
theorem dX2_in_14 : decode cX2_in 14 = .ok (.iconst 0, 1) := dk_3 (dk_at dksX2_in_0 14 rfl rfl)
theorem dX2_in_15 : decode cX2_in 15 = .ok (.ireturn, 1) := dk_172 (dk_at dksX2_in_0 15 rfl rfl)
abbrev cX2_finds : ByteArray := prog_14_method_4_code
def yX2_finds : MethodName := ⟨RX2, "finds", "(I)I"⟩
def dkwX2_finds_0 : List UInt8 := [42, 180, 0, 125, 27, 92, 46, 4, 96, 79, 16, 246, 27, 100, 172]
abbrev dktX2_finds_0 : List UInt8 := dkwX2_finds_0 ++ []
theorem dksX2_finds_0 : cX2_finds.data.toList.drop 0 = dktX2_finds_0 := by decide +kernel
theorem dX2_finds_0 : decode cX2_finds 0 = .ok (.aload_n 0, 1) := dk_42 (dk_at dksX2_finds_0 0 rfl rfl)
theorem dX2_finds_1 : decode cX2_finds 1 = .ok (.getfield 125, 3) := dk_180 0 125 (dk_at dksX2_finds_0 1 rfl rfl)
theorem dX2_finds_4 : decode cX2_finds 4 = .ok (.iload_n 1, 1) := dk_27 (dk_at dksX2_finds_0 4 rfl rfl)
theorem dX2_finds_5 : decode cX2_finds 5 = .ok (.dup2, 1) := dk_92 (dk_at dksX2_finds_0 5 rfl rfl)
theorem dX2_finds_6 : decode cX2_finds 6 = .ok (.iaload, 1) := dk_46 (dk_at dksX2_finds_0 6 rfl rfl)
theorem dX2_finds_7 : decode cX2_finds 7 = .ok (.iconst 1, 1) := dk_4 (dk_at dksX2_finds_0 7 rfl rfl)
theorem dX2_finds_8 : decode cX2_finds 8 = .ok (.iadd, 1) := dk_96 (dk_at dksX2_finds_0 8 rfl rfl)
theorem dX2_finds_9 : decode cX2_finds 9 = .ok (.iastore, 1) := dk_79 (dk_at dksX2_finds_0 9 rfl rfl)
theorem dX2_finds_10 : decode cX2_finds 10 = .ok (.bipush (-10), 2) := dk_16 246 (dk_at dksX2_finds_0 10 rfl rfl)
theorem dX2_finds_12 : decode cX2_finds 12 = .ok (.iload_n 1, 1) := dk_27 (dk_at dksX2_finds_0 12 rfl rfl)
theorem dX2_finds_13 : decode cX2_finds 13 = .ok (.isub, 1) := dk_100 (dk_at dksX2_finds_0 13 rfl rfl)
theorem dX2_finds_14 : decode cX2_finds 14 = .ok (.ireturn, 1) := dk_172 (dk_at dksX2_finds_0 14 rfl rfl)
abbrev cX2_number : ByteArray := prog_14_method_8_code
def yX2_number : MethodName := ⟨RX2, "number", "(IIIJ)I"⟩
def dkwX2_number_5 : List UInt8 := [167, 0, 17, 28, 7, 162, 0, 10, 22, 4, 136, 133, 167, 0, 5, 22, 4, 80, 3, 172]
abbrev dktX2_number_5 : List UInt8 := dkwX2_number_5 ++ []
def dkwX2_number_4 : List UInt8 := [96, 28, 154, 0, 11, 22, 4, 136, 145, 133, 167, 0, 30, 28, 4, 160, 0, 11, 22, 4, 136, 147, 133]
abbrev dktX2_number_4 : List UInt8 := dkwX2_number_4 ++ dktX2_number_5
def dkwX2_number_3 : List UInt8 := [46, 4, 100, 184, 0, 136, 154, 0, 9, 42, 5, 182, 0, 143, 172, 42, 180, 0, 16, 16, 64, 27, 104, 29]
abbrev dktX2_number_3 : List UInt8 := dkwX2_number_3 ++ dktX2_number_4
def dkwX2_number_2 : List UInt8 := [172, 42, 180, 0, 7, 27, 46, 28, 159, 0, 9, 42, 6, 182, 0, 143, 172, 29, 3, 42, 180, 0, 13, 27]
abbrev dktX2_number_2 : List UInt8 := dkwX2_number_2 ++ dktX2_number_3
def dkwX2_number_1 : List UInt8 := [153, 0, 12, 28, 22, 4, 184, 0, 155, 154, 0, 6, 16, 154, 172, 42, 180, 0, 159, 153, 0, 6, 16, 153]
abbrev dktX2_number_1 : List UInt8 := dkwX2_number_1 ++ dktX2_number_2
def dkwX2_number_0 : List UInt8 := [27, 3, 42, 180, 0, 140, 4, 100, 184, 0, 136, 154, 0, 6, 16, 155, 172, 28, 3, 7, 184, 0, 136]
abbrev dktX2_number_0 : List UInt8 := dkwX2_number_0 ++ dktX2_number_1
theorem dksX2_number_0 : cX2_number.data.toList.drop 0 = dktX2_number_0 := by decide +kernel
theorem dksX2_number_1 : cX2_number.data.toList.drop 23 = dktX2_number_1 := dk_seg dksX2_number_0 23 rfl rfl
theorem dksX2_number_2 : cX2_number.data.toList.drop 47 = dktX2_number_2 := dk_seg dksX2_number_1 24 rfl rfl
theorem dksX2_number_3 : cX2_number.data.toList.drop 71 = dktX2_number_3 := dk_seg dksX2_number_2 24 rfl rfl
theorem dksX2_number_4 : cX2_number.data.toList.drop 95 = dktX2_number_4 := dk_seg dksX2_number_3 24 rfl rfl
theorem dksX2_number_5 : cX2_number.data.toList.drop 118 = dktX2_number_5 := dk_seg dksX2_number_4 23 rfl rfl
theorem dX2_number_0 : decode cX2_number 0 = .ok (.iload_n 1, 1) := dk_27 (dk_at dksX2_number_0 0 rfl rfl)
theorem dX2_number_1 : decode cX2_number 1 = .ok (.iconst 0, 1) := dk_3 (dk_at dksX2_number_0 1 rfl rfl)
theorem dX2_number_2 : decode cX2_number 2 = .ok (.aload_n 0, 1) := dk_42 (dk_at dksX2_number_0 2 rfl rfl)
theorem dX2_number_3 : decode cX2_number 3 = .ok (.getfield 140, 3) := dk_180 0 140 (dk_at dksX2_number_0 3 rfl rfl)
theorem dX2_number_6 : decode cX2_number 6 = .ok (.iconst 1, 1) := dk_4 (dk_at dksX2_number_0 6 rfl rfl)
theorem dX2_number_7 : decode cX2_number 7 = .ok (.isub, 1) := dk_100 (dk_at dksX2_number_0 7 rfl rfl)
theorem dX2_number_8 : decode cX2_number 8 = .ok (.invokestatic 136, 3) := dk_184 0 136 (dk_at dksX2_number_0 8 rfl rfl)
theorem dX2_number_11 : decode cX2_number 11 = .ok (.ifCond .ne 6, 3) := dk_154 0 6 (dk_at dksX2_number_0 11 rfl rfl)
theorem dX2_number_14 : decode cX2_number 14 = .ok (.bipush (-101), 2) := dk_16 155 (dk_at dksX2_number_0 14 rfl rfl)
theorem dX2_number_16 : decode cX2_number 16 = .ok (.ireturn, 1) := dk_172 (dk_at dksX2_number_0 16 rfl rfl)
theorem dX2_number_17 : decode cX2_number 17 = .ok (.iload_n 2, 1) := dk_28 (dk_at dksX2_number_0 17 rfl rfl)
theorem dX2_number_18 : decode cX2_number 18 = .ok (.iconst 0, 1) := dk_3 (dk_at dksX2_number_0 18 rfl rfl)
theorem dX2_number_19 : decode cX2_number 19 = .ok (.iconst 4, 1) := dk_7 (dk_at dksX2_number_0 19 rfl rfl)
theorem dX2_number_20 : decode cX2_number 20 = .ok (.invokestatic 136, 3) := dk_184 0 136 (dk_at dksX2_number_0 20 rfl rfl)
theorem dX2_number_23 : decode cX2_number 23 = .ok (.ifCond .eq 12, 3) := dk_153 0 12 (dk_at dksX2_number_1 0 rfl rfl)
theorem dX2_number_26 : decode cX2_number 26 = .ok (.iload_n 2, 1) := dk_28 (dk_at dksX2_number_1 3 rfl rfl)
theorem dX2_number_27 : decode cX2_number 27 = .ok (.lload 4, 2) := dk_22 4 (dk_at dksX2_number_1 4 rfl rfl)
theorem dX2_number_29 : decode cX2_number 29 = .ok (.invokestatic 155, 3) := dk_184 0 155 (dk_at dksX2_number_1 6 rfl rfl)
theorem dX2_number_32 : decode cX2_number 32 = .ok (.ifCond .ne 6, 3) := dk_154 0 6 (dk_at dksX2_number_1 9 rfl rfl)
theorem dX2_number_35 : decode cX2_number 35 = .ok (.bipush (-102), 2) := dk_16 154 (dk_at dksX2_number_1 12 rfl rfl)
theorem dX2_number_37 : decode cX2_number 37 = .ok (.ireturn, 1) := dk_172 (dk_at dksX2_number_1 14 rfl rfl)
theorem dX2_number_38 : decode cX2_number 38 = .ok (.aload_n 0, 1) := dk_42 (dk_at dksX2_number_1 15 rfl rfl)
theorem dX2_number_39 : decode cX2_number 39 = .ok (.getfield 159, 3) := dk_180 0 159 (dk_at dksX2_number_1 16 rfl rfl)
theorem dX2_number_42 : decode cX2_number 42 = .ok (.ifCond .eq 6, 3) := dk_153 0 6 (dk_at dksX2_number_1 19 rfl rfl)
theorem dX2_number_45 : decode cX2_number 45 = .ok (.bipush (-103), 2) := dk_16 153 (dk_at dksX2_number_1 22 rfl rfl)
theorem dX2_number_47 : decode cX2_number 47 = .ok (.ireturn, 1) := dk_172 (dk_at dksX2_number_2 0 rfl rfl)
theorem dX2_number_48 : decode cX2_number 48 = .ok (.aload_n 0, 1) := dk_42 (dk_at dksX2_number_2 1 rfl rfl)
theorem dX2_number_49 : decode cX2_number 49 = .ok (.getfield 7, 3) := dk_180 0 7 (dk_at dksX2_number_2 2 rfl rfl)
theorem dX2_number_52 : decode cX2_number 52 = .ok (.iload_n 1, 1) := dk_27 (dk_at dksX2_number_2 5 rfl rfl)
theorem dX2_number_53 : decode cX2_number 53 = .ok (.iaload, 1) := dk_46 (dk_at dksX2_number_2 6 rfl rfl)
theorem dX2_number_54 : decode cX2_number 54 = .ok (.iload_n 2, 1) := dk_28 (dk_at dksX2_number_2 7 rfl rfl)
theorem dX2_number_55 : decode cX2_number 55 = .ok (.if_icmp .eq 9, 3) := dk_159 0 9 (dk_at dksX2_number_2 8 rfl rfl)
theorem dX2_number_58 : decode cX2_number 58 = .ok (.aload_n 0, 1) := dk_42 (dk_at dksX2_number_2 11 rfl rfl)
theorem dX2_number_59 : decode cX2_number 59 = .ok (.iconst 3, 1) := dk_6 (dk_at dksX2_number_2 12 rfl rfl)
theorem dX2_number_60 : decode cX2_number 60 = .ok (.invokevirtual 143, 3) := dk_182 0 143 (dk_at dksX2_number_2 13 rfl rfl)
theorem dX2_number_63 : decode cX2_number 63 = .ok (.ireturn, 1) := dk_172 (dk_at dksX2_number_2 16 rfl rfl)
theorem dX2_number_64 : decode cX2_number 64 = .ok (.iload_n 3, 1) := dk_29 (dk_at dksX2_number_2 17 rfl rfl)
theorem dX2_number_65 : decode cX2_number 65 = .ok (.iconst 0, 1) := dk_3 (dk_at dksX2_number_2 18 rfl rfl)
theorem dX2_number_66 : decode cX2_number 66 = .ok (.aload_n 0, 1) := dk_42 (dk_at dksX2_number_2 19 rfl rfl)
theorem dX2_number_67 : decode cX2_number 67 = .ok (.getfield 13, 3) := dk_180 0 13 (dk_at dksX2_number_2 20 rfl rfl)
theorem dX2_number_70 : decode cX2_number 70 = .ok (.iload_n 1, 1) := dk_27 (dk_at dksX2_number_2 23 rfl rfl)
theorem dX2_number_71 : decode cX2_number 71 = .ok (.iaload, 1) := dk_46 (dk_at dksX2_number_3 0 rfl rfl)
theorem dX2_number_72 : decode cX2_number 72 = .ok (.iconst 1, 1) := dk_4 (dk_at dksX2_number_3 1 rfl rfl)
theorem dX2_number_73 : decode cX2_number 73 = .ok (.isub, 1) := dk_100 (dk_at dksX2_number_3 2 rfl rfl)
theorem dX2_number_74 : decode cX2_number 74 = .ok (.invokestatic 136, 3) := dk_184 0 136 (dk_at dksX2_number_3 3 rfl rfl)
theorem dX2_number_77 : decode cX2_number 77 = .ok (.ifCond .ne 9, 3) := dk_154 0 9 (dk_at dksX2_number_3 6 rfl rfl)
theorem dX2_number_80 : decode cX2_number 80 = .ok (.aload_n 0, 1) := dk_42 (dk_at dksX2_number_3 9 rfl rfl)
theorem dX2_number_81 : decode cX2_number 81 = .ok (.iconst 2, 1) := dk_5 (dk_at dksX2_number_3 10 rfl rfl)
theorem dX2_number_82 : decode cX2_number 82 = .ok (.invokevirtual 143, 3) := dk_182 0 143 (dk_at dksX2_number_3 11 rfl rfl)
theorem dX2_number_85 : decode cX2_number 85 = .ok (.ireturn, 1) := dk_172 (dk_at dksX2_number_3 14 rfl rfl)
theorem dX2_number_86 : decode cX2_number 86 = .ok (.aload_n 0, 1) := dk_42 (dk_at dksX2_number_3 15 rfl rfl)
theorem dX2_number_87 : decode cX2_number 87 = .ok (.getfield 16, 3) := dk_180 0 16 (dk_at dksX2_number_3 16 rfl rfl)
theorem dX2_number_90 : decode cX2_number 90 = .ok (.bipush 64, 2) := dk_16 64 (dk_at dksX2_number_3 19 rfl rfl)
theorem dX2_number_92 : decode cX2_number 92 = .ok (.iload_n 1, 1) := dk_27 (dk_at dksX2_number_3 21 rfl rfl)
theorem dX2_number_93 : decode cX2_number 93 = .ok (.imul, 1) := dk_104 (dk_at dksX2_number_3 22 rfl rfl)
theorem dX2_number_94 : decode cX2_number 94 = .ok (.iload_n 3, 1) := dk_29 (dk_at dksX2_number_3 23 rfl rfl)
theorem dX2_number_95 : decode cX2_number 95 = .ok (.iadd, 1) := dk_96 (dk_at dksX2_number_4 0 rfl rfl)
theorem dX2_number_96 : decode cX2_number 96 = .ok (.iload_n 2, 1) := dk_28 (dk_at dksX2_number_4 1 rfl rfl)
theorem dX2_number_97 : decode cX2_number 97 = .ok (.ifCond .ne 11, 3) := dk_154 0 11 (dk_at dksX2_number_4 2 rfl rfl)
theorem dX2_number_100 : decode cX2_number 100 = .ok (.lload 4, 2) := dk_22 4 (dk_at dksX2_number_4 5 rfl rfl)
theorem dX2_number_102 : decode cX2_number 102 = .ok (.l2i, 1) := dk_136 (dk_at dksX2_number_4 7 rfl rfl)
theorem dX2_number_103 : decode cX2_number 103 = .ok (.i2b, 1) := dk_145 (dk_at dksX2_number_4 8 rfl rfl)
theorem dX2_number_104 : decode cX2_number 104 = .ok (.i2l, 1) := dk_133 (dk_at dksX2_number_4 9 rfl rfl)
theorem dX2_number_105 : decode cX2_number 105 = .ok (.goto 30, 3) := dk_167 0 30 (dk_at dksX2_number_4 10 rfl rfl)
theorem dX2_number_108 : decode cX2_number 108 = .ok (.iload_n 2, 1) := dk_28 (dk_at dksX2_number_4 13 rfl rfl)
theorem dX2_number_109 : decode cX2_number 109 = .ok (.iconst 1, 1) := dk_4 (dk_at dksX2_number_4 14 rfl rfl)
theorem dX2_number_110 : decode cX2_number 110 = .ok (.if_icmp .ne 11, 3) := dk_160 0 11 (dk_at dksX2_number_4 15 rfl rfl)
theorem dX2_number_113 : decode cX2_number 113 = .ok (.lload 4, 2) := dk_22 4 (dk_at dksX2_number_4 18 rfl rfl)
theorem dX2_number_115 : decode cX2_number 115 = .ok (.l2i, 1) := dk_136 (dk_at dksX2_number_4 20 rfl rfl)
theorem dX2_number_116 : decode cX2_number 116 = .ok (.i2s, 1) := dk_147 (dk_at dksX2_number_4 21 rfl rfl)
theorem dX2_number_117 : decode cX2_number 117 = .ok (.i2l, 1) := dk_133 (dk_at dksX2_number_4 22 rfl rfl)
theorem dX2_number_118 : decode cX2_number 118 = .ok (.goto 17, 3) := dk_167 0 17 (dk_at dksX2_number_5 0 rfl rfl)
theorem dX2_number_121 : decode cX2_number 121 = .ok (.iload_n 2, 1) := dk_28 (dk_at dksX2_number_5 3 rfl rfl)
theorem dX2_number_122 : decode cX2_number 122 = .ok (.iconst 4, 1) := dk_7 (dk_at dksX2_number_5 4 rfl rfl)
theorem dX2_number_123 : decode cX2_number 123 = .ok (.if_icmp .ge 10, 3) := dk_162 0 10 (dk_at dksX2_number_5 5 rfl rfl)
theorem dX2_number_126 : decode cX2_number 126 = .ok (.lload 4, 2) := dk_22 4 (dk_at dksX2_number_5 8 rfl rfl)
theorem dX2_number_128 : decode cX2_number 128 = .ok (.l2i, 1) := dk_136 (dk_at dksX2_number_5 10 rfl rfl)
theorem dX2_number_129 : decode cX2_number 129 = .ok (.i2l, 1) := dk_133 (dk_at dksX2_number_5 11 rfl rfl)
theorem dX2_number_130 : decode cX2_number 130 = .ok (.goto 5, 3) := dk_167 0 5 (dk_at dksX2_number_5 12 rfl rfl)
theorem dX2_number_133 : decode cX2_number 133 = .ok (.lload 4, 2) := dk_22 4 (dk_at dksX2_number_5 15 rfl rfl)
theorem dX2_number_135 : decode cX2_number 135 = .ok (.lastore, 1) := dk_80 (dk_at dksX2_number_5 17 rfl rfl)
theorem dX2_number_136 : decode cX2_number 136 = .ok (.iconst 0, 1) := dk_3 (dk_at dksX2_number_5 18 rfl rfl)
theorem dX2_number_137 : decode cX2_number 137 = .ok (.ireturn, 1) := dk_172 (dk_at dksX2_number_5 19 rfl rfl)
abbrev cX2_tells : ByteArray := prog_14_method_7_code
def yX2_tells : MethodName := ⟨RX2, "tells", "(IJ)Z"⟩
def dkwX2_tells_2 : List UInt8 := [3, 172]
abbrev dktX2_tells_2 : List UInt8 := dkwX2_tells_2 ++ []
def dkwX2_tells_1 : List UInt8 := [167, 0, 25, 26, 7, 160, 0, 15, 31, 20, 0, 151, 127, 20, 0, 153, 148, 157, 0, 7, 4, 167, 0, 4]
abbrev dktX2_tells_1 : List UInt8 := dkwX2_tells_1 ++ dktX2_tells_2
def dkwX2_tells_0 : List UInt8 := [26, 6, 160, 0, 23, 31, 20, 0, 147, 127, 20, 0, 149, 148, 157, 0, 7, 4, 167, 0, 29, 3]
abbrev dktX2_tells_0 : List UInt8 := dkwX2_tells_0 ++ dktX2_tells_1
theorem dksX2_tells_0 : cX2_tells.data.toList.drop 0 = dktX2_tells_0 := by decide +kernel
theorem dksX2_tells_1 : cX2_tells.data.toList.drop 22 = dktX2_tells_1 := dk_seg dksX2_tells_0 22 rfl rfl
theorem dksX2_tells_2 : cX2_tells.data.toList.drop 46 = dktX2_tells_2 := dk_seg dksX2_tells_1 24 rfl rfl
theorem dX2_tells_0 : decode cX2_tells 0 = .ok (.iload_n 0, 1) := dk_26 (dk_at dksX2_tells_0 0 rfl rfl)
theorem dX2_tells_1 : decode cX2_tells 1 = .ok (.iconst 3, 1) := dk_6 (dk_at dksX2_tells_0 1 rfl rfl)
theorem dX2_tells_2 : decode cX2_tells 2 = .ok (.if_icmp .ne 23, 3) := dk_160 0 23 (dk_at dksX2_tells_0 2 rfl rfl)
theorem dX2_tells_5 : decode cX2_tells 5 = .ok (.lload_n 1, 1) := dk_31 (dk_at dksX2_tells_0 5 rfl rfl)
theorem dX2_tells_6 : decode cX2_tells 6 = .ok (.ldc2_w 147, 3) := dk_20 0 147 (dk_at dksX2_tells_0 6 rfl rfl)
theorem dX2_tells_9 : decode cX2_tells 9 = .ok (.land, 1) := dk_127 (dk_at dksX2_tells_0 9 rfl rfl)
theorem dX2_tells_10 : decode cX2_tells 10 = .ok (.ldc2_w 149, 3) := dk_20 0 149 (dk_at dksX2_tells_0 10 rfl rfl)
theorem dX2_tells_13 : decode cX2_tells 13 = .ok (.lcmp, 1) := dk_148 (dk_at dksX2_tells_0 13 rfl rfl)
theorem dX2_tells_14 : decode cX2_tells 14 = .ok (.ifCond .gt 7, 3) := dk_157 0 7 (dk_at dksX2_tells_0 14 rfl rfl)
theorem dX2_tells_17 : decode cX2_tells 17 = .ok (.iconst 1, 1) := dk_4 (dk_at dksX2_tells_0 17 rfl rfl)
theorem dX2_tells_18 : decode cX2_tells 18 = .ok (.goto 29, 3) := dk_167 0 29 (dk_at dksX2_tells_0 18 rfl rfl)
theorem dX2_tells_21 : decode cX2_tells 21 = .ok (.iconst 0, 1) := dk_3 (dk_at dksX2_tells_0 21 rfl rfl)
theorem dX2_tells_22 : decode cX2_tells 22 = .ok (.goto 25, 3) := dk_167 0 25 (dk_at dksX2_tells_1 0 rfl rfl)
theorem dX2_tells_25 : decode cX2_tells 25 = .ok (.iload_n 0, 1) := dk_26 (dk_at dksX2_tells_1 3 rfl rfl)
theorem dX2_tells_26 : decode cX2_tells 26 = .ok (.iconst 4, 1) := dk_7 (dk_at dksX2_tells_1 4 rfl rfl)
theorem dX2_tells_27 : decode cX2_tells 27 = .ok (.if_icmp .ne 15, 3) := dk_160 0 15 (dk_at dksX2_tells_1 5 rfl rfl)
theorem dX2_tells_30 : decode cX2_tells 30 = .ok (.lload_n 1, 1) := dk_31 (dk_at dksX2_tells_1 8 rfl rfl)
theorem dX2_tells_31 : decode cX2_tells 31 = .ok (.ldc2_w 151, 3) := dk_20 0 151 (dk_at dksX2_tells_1 9 rfl rfl)
theorem dX2_tells_34 : decode cX2_tells 34 = .ok (.land, 1) := dk_127 (dk_at dksX2_tells_1 12 rfl rfl)
theorem dX2_tells_35 : decode cX2_tells 35 = .ok (.ldc2_w 153, 3) := dk_20 0 153 (dk_at dksX2_tells_1 13 rfl rfl)
theorem dX2_tells_38 : decode cX2_tells 38 = .ok (.lcmp, 1) := dk_148 (dk_at dksX2_tells_1 16 rfl rfl)
theorem dX2_tells_39 : decode cX2_tells 39 = .ok (.ifCond .gt 7, 3) := dk_157 0 7 (dk_at dksX2_tells_1 17 rfl rfl)
theorem dX2_tells_42 : decode cX2_tells 42 = .ok (.iconst 1, 1) := dk_4 (dk_at dksX2_tells_1 20 rfl rfl)
theorem dX2_tells_43 : decode cX2_tells 43 = .ok (.goto 4, 3) := dk_167 0 4 (dk_at dksX2_tells_1 21 rfl rfl)
theorem dX2_tells_46 : decode cX2_tells 46 = .ok (.iconst 0, 1) := dk_3 (dk_at dksX2_tells_2 0 rfl rfl)
theorem dX2_tells_47 : decode cX2_tells 47 = .ok (.ireturn, 1) := dk_172 (dk_at dksX2_tells_2 1 rfl rfl)
abbrev cX2_sample : ByteArray := prog_14_method_10_code
def yX2_sample : MethodName := ⟨RX2, "sample", "(II)I"⟩
def dkwX2_sample_1 : List UInt8 := [184, 0, 136, 154, 0, 5, 3, 172, 42, 27, 28, 182, 0, 185, 184, 0, 189, 172]
abbrev dktX2_sample_1 : List UInt8 := dkwX2_sample_1 ++ []
def dkwX2_sample_0 : List UInt8 := [27, 3, 42, 180, 0, 140, 4, 100, 184, 0, 136, 153, 0, 19, 28, 3, 42, 180, 0, 13, 27, 46, 4, 100]
abbrev dktX2_sample_0 : List UInt8 := dkwX2_sample_0 ++ dktX2_sample_1
theorem dksX2_sample_0 : cX2_sample.data.toList.drop 0 = dktX2_sample_0 := by decide +kernel
theorem dksX2_sample_1 : cX2_sample.data.toList.drop 24 = dktX2_sample_1 := dk_seg dksX2_sample_0 24 rfl rfl
theorem dX2_sample_0 : decode cX2_sample 0 = .ok (.iload_n 1, 1) := dk_27 (dk_at dksX2_sample_0 0 rfl rfl)
theorem dX2_sample_1 : decode cX2_sample 1 = .ok (.iconst 0, 1) := dk_3 (dk_at dksX2_sample_0 1 rfl rfl)
theorem dX2_sample_2 : decode cX2_sample 2 = .ok (.aload_n 0, 1) := dk_42 (dk_at dksX2_sample_0 2 rfl rfl)
theorem dX2_sample_3 : decode cX2_sample 3 = .ok (.getfield 140, 3) := dk_180 0 140 (dk_at dksX2_sample_0 3 rfl rfl)
theorem dX2_sample_6 : decode cX2_sample 6 = .ok (.iconst 1, 1) := dk_4 (dk_at dksX2_sample_0 6 rfl rfl)
theorem dX2_sample_7 : decode cX2_sample 7 = .ok (.isub, 1) := dk_100 (dk_at dksX2_sample_0 7 rfl rfl)
theorem dX2_sample_8 : decode cX2_sample 8 = .ok (.invokestatic 136, 3) := dk_184 0 136 (dk_at dksX2_sample_0 8 rfl rfl)
theorem dX2_sample_11 : decode cX2_sample 11 = .ok (.ifCond .eq 19, 3) := dk_153 0 19 (dk_at dksX2_sample_0 11 rfl rfl)
theorem dX2_sample_14 : decode cX2_sample 14 = .ok (.iload_n 2, 1) := dk_28 (dk_at dksX2_sample_0 14 rfl rfl)
theorem dX2_sample_15 : decode cX2_sample 15 = .ok (.iconst 0, 1) := dk_3 (dk_at dksX2_sample_0 15 rfl rfl)
theorem dX2_sample_16 : decode cX2_sample 16 = .ok (.aload_n 0, 1) := dk_42 (dk_at dksX2_sample_0 16 rfl rfl)
theorem dX2_sample_17 : decode cX2_sample 17 = .ok (.getfield 13, 3) := dk_180 0 13 (dk_at dksX2_sample_0 17 rfl rfl)
theorem dX2_sample_20 : decode cX2_sample 20 = .ok (.iload_n 1, 1) := dk_27 (dk_at dksX2_sample_0 20 rfl rfl)
theorem dX2_sample_21 : decode cX2_sample 21 = .ok (.iaload, 1) := dk_46 (dk_at dksX2_sample_0 21 rfl rfl)
theorem dX2_sample_22 : decode cX2_sample 22 = .ok (.iconst 1, 1) := dk_4 (dk_at dksX2_sample_0 22 rfl rfl)
theorem dX2_sample_23 : decode cX2_sample 23 = .ok (.isub, 1) := dk_100 (dk_at dksX2_sample_0 23 rfl rfl)
theorem dX2_sample_24 : decode cX2_sample 24 = .ok (.invokestatic 136, 3) := dk_184 0 136 (dk_at dksX2_sample_1 0 rfl rfl)
theorem dX2_sample_27 : decode cX2_sample 27 = .ok (.ifCond .ne 5, 3) := dk_154 0 5 (dk_at dksX2_sample_1 3 rfl rfl)
theorem dX2_sample_30 : decode cX2_sample 30 = .ok (.iconst 0, 1) := dk_3 (dk_at dksX2_sample_1 6 rfl rfl)
theorem dX2_sample_31 : decode cX2_sample 31 = .ok (.ireturn, 1) := dk_172 (dk_at dksX2_sample_1 7 rfl rfl)
theorem dX2_sample_32 : decode cX2_sample 32 = .ok (.aload_n 0, 1) := dk_42 (dk_at dksX2_sample_1 8 rfl rfl)
theorem dX2_sample_33 : decode cX2_sample 33 = .ok (.iload_n 1, 1) := dk_27 (dk_at dksX2_sample_1 9 rfl rfl)
theorem dX2_sample_34 : decode cX2_sample 34 = .ok (.iload_n 2, 1) := dk_28 (dk_at dksX2_sample_1 10 rfl rfl)
theorem dX2_sample_35 : decode cX2_sample 35 = .ok (.invokevirtual 185, 3) := dk_182 0 185 (dk_at dksX2_sample_1 11 rfl rfl)
theorem dX2_sample_38 : decode cX2_sample 38 = .ok (.invokestatic 189, 3) := dk_184 0 189 (dk_at dksX2_sample_1 14 rfl rfl)
theorem dX2_sample_41 : decode cX2_sample 41 = .ok (.ireturn, 1) := dk_172 (dk_at dksX2_sample_1 17 rfl rfl)
abbrev cX2_sampleAt : ByteArray := prog_14_method_9_code
def yX2_sampleAt : MethodName := ⟨RX2, "sampleAt", "(II)F"⟩
def dkwX2_sampleAt_4 : List UInt8 := [184, 0, 165, 174]
abbrev dktX2_sampleAt_4 : List UInt8 := dkwX2_sampleAt_4 ++ []
def dkwX2_sampleAt_3 : List UInt8 := [20, 0, 171, 111, 144, 184, 0, 165, 174, 33, 136, 184, 0, 173, 184, 0, 165, 174, 33, 184, 0, 179, 144]
abbrev dktX2_sampleAt_3 : List UInt8 := dkwX2_sampleAt_3 ++ dktX2_sampleAt_4
def dkwX2_sampleAt_2 : List UInt8 := [33, 138, 20, 0, 163, 111, 144, 184, 0, 165, 174, 33, 138, 20, 0, 169, 111, 144, 184, 0, 165, 174, 33, 138]
abbrev dktX2_sampleAt_2 : List UInt8 := dkwX2_sampleAt_2 ++ dktX2_sampleAt_3
def dkwX2_sampleAt_1 : List UInt8 := [170, 0, 0, 0, 0, 72, 0, 0, 0, 0, 0, 0, 0, 3, 0, 0, 0, 30, 0, 0, 0, 41, 0, 0, 0, 52, 0, 0, 0, 63]
abbrev dktX2_sampleAt_1 : List UInt8 := dkwX2_sampleAt_1 ++ dktX2_sampleAt_2
def dkwX2_sampleAt_0 : List UInt8 := [42, 180, 0, 16, 16, 64, 27, 104, 28, 96, 47, 66, 42, 180, 0, 7, 27, 46]
abbrev dktX2_sampleAt_0 : List UInt8 := dkwX2_sampleAt_0 ++ dktX2_sampleAt_1
theorem dksX2_sampleAt_0 : cX2_sampleAt.data.toList.drop 0 = dktX2_sampleAt_0 := by decide +kernel
theorem dksX2_sampleAt_1 : cX2_sampleAt.data.toList.drop 18 = dktX2_sampleAt_1 := dk_seg dksX2_sampleAt_0 18 rfl rfl
theorem dksX2_sampleAt_2 : cX2_sampleAt.data.toList.drop 48 = dktX2_sampleAt_2 := dk_seg dksX2_sampleAt_1 30 rfl rfl
theorem dksX2_sampleAt_3 : cX2_sampleAt.data.toList.drop 72 = dktX2_sampleAt_3 := dk_seg dksX2_sampleAt_2 24 rfl rfl
theorem dksX2_sampleAt_4 : cX2_sampleAt.data.toList.drop 95 = dktX2_sampleAt_4 := dk_seg dksX2_sampleAt_3 23 rfl rfl
theorem dX2_sampleAt_0 : decode cX2_sampleAt 0 = .ok (.aload_n 0, 1) := dk_42 (dk_at dksX2_sampleAt_0 0 rfl rfl)
theorem dX2_sampleAt_1 : decode cX2_sampleAt 1 = .ok (.getfield 16, 3) := dk_180 0 16 (dk_at dksX2_sampleAt_0 1 rfl rfl)
theorem dX2_sampleAt_4 : decode cX2_sampleAt 4 = .ok (.bipush 64, 2) := dk_16 64 (dk_at dksX2_sampleAt_0 4 rfl rfl)
theorem dX2_sampleAt_6 : decode cX2_sampleAt 6 = .ok (.iload_n 1, 1) := dk_27 (dk_at dksX2_sampleAt_0 6 rfl rfl)
theorem dX2_sampleAt_7 : decode cX2_sampleAt 7 = .ok (.imul, 1) := dk_104 (dk_at dksX2_sampleAt_0 7 rfl rfl)
theorem dX2_sampleAt_8 : decode cX2_sampleAt 8 = .ok (.iload_n 2, 1) := dk_28 (dk_at dksX2_sampleAt_0 8 rfl rfl)
theorem dX2_sampleAt_9 : decode cX2_sampleAt 9 = .ok (.iadd, 1) := dk_96 (dk_at dksX2_sampleAt_0 9 rfl rfl)
theorem dX2_sampleAt_10 : decode cX2_sampleAt 10 = .ok (.laload, 1) := dk_47 (dk_at dksX2_sampleAt_0 10 rfl rfl)
theorem dX2_sampleAt_11 : decode cX2_sampleAt 11 = .ok (.lstore_n 3, 1) := dk_66 (dk_at dksX2_sampleAt_0 11 rfl rfl)
theorem dX2_sampleAt_12 : decode cX2_sampleAt 12 = .ok (.aload_n 0, 1) := dk_42 (dk_at dksX2_sampleAt_0 12 rfl rfl)
theorem dX2_sampleAt_13 : decode cX2_sampleAt 13 = .ok (.getfield 7, 3) := dk_180 0 7 (dk_at dksX2_sampleAt_0 13 rfl rfl)
theorem dX2_sampleAt_16 : decode cX2_sampleAt 16 = .ok (.iload_n 1, 1) := dk_27 (dk_at dksX2_sampleAt_0 16 rfl rfl)
theorem dX2_sampleAt_17 : decode cX2_sampleAt 17 = .ok (.iaload, 1) := dk_46 (dk_at dksX2_sampleAt_0 17 rfl rfl)
theorem dX2_sampleAt_18 : decode cX2_sampleAt 18 = .ok (.tableswitch 72 0 3 #[30, 41, 52, 63], 30) := by decide +kernel
theorem dX2_sampleAt_48 : decode cX2_sampleAt 48 = .ok (.lload_n 3, 1) := dk_33 (dk_at dksX2_sampleAt_2 0 rfl rfl)
theorem dX2_sampleAt_49 : decode cX2_sampleAt 49 = .ok (.l2d, 1) := dk_138 (dk_at dksX2_sampleAt_2 1 rfl rfl)
theorem dX2_sampleAt_50 : decode cX2_sampleAt 50 = .ok (.ldc2_w 163, 3) := dk_20 0 163 (dk_at dksX2_sampleAt_2 2 rfl rfl)
theorem dX2_sampleAt_53 : decode cX2_sampleAt 53 = .ok (.ddiv, 1) := dk_111 (dk_at dksX2_sampleAt_2 5 rfl rfl)
theorem dX2_sampleAt_54 : decode cX2_sampleAt 54 = .ok (.d2f, 1) := dk_144 (dk_at dksX2_sampleAt_2 6 rfl rfl)
theorem dX2_sampleAt_55 : decode cX2_sampleAt 55 = .ok (.invokestatic 165, 3) := dk_184 0 165 (dk_at dksX2_sampleAt_2 7 rfl rfl)
theorem dX2_sampleAt_58 : decode cX2_sampleAt 58 = .ok (.freturn, 1) := dk_174 (dk_at dksX2_sampleAt_2 10 rfl rfl)
theorem dX2_sampleAt_59 : decode cX2_sampleAt 59 = .ok (.lload_n 3, 1) := dk_33 (dk_at dksX2_sampleAt_2 11 rfl rfl)
theorem dX2_sampleAt_60 : decode cX2_sampleAt 60 = .ok (.l2d, 1) := dk_138 (dk_at dksX2_sampleAt_2 12 rfl rfl)
theorem dX2_sampleAt_61 : decode cX2_sampleAt 61 = .ok (.ldc2_w 169, 3) := dk_20 0 169 (dk_at dksX2_sampleAt_2 13 rfl rfl)
theorem dX2_sampleAt_64 : decode cX2_sampleAt 64 = .ok (.ddiv, 1) := dk_111 (dk_at dksX2_sampleAt_2 16 rfl rfl)
theorem dX2_sampleAt_65 : decode cX2_sampleAt 65 = .ok (.d2f, 1) := dk_144 (dk_at dksX2_sampleAt_2 17 rfl rfl)
theorem dX2_sampleAt_66 : decode cX2_sampleAt 66 = .ok (.invokestatic 165, 3) := dk_184 0 165 (dk_at dksX2_sampleAt_2 18 rfl rfl)
theorem dX2_sampleAt_69 : decode cX2_sampleAt 69 = .ok (.freturn, 1) := dk_174 (dk_at dksX2_sampleAt_2 21 rfl rfl)
theorem dX2_sampleAt_70 : decode cX2_sampleAt 70 = .ok (.lload_n 3, 1) := dk_33 (dk_at dksX2_sampleAt_2 22 rfl rfl)
theorem dX2_sampleAt_71 : decode cX2_sampleAt 71 = .ok (.l2d, 1) := dk_138 (dk_at dksX2_sampleAt_2 23 rfl rfl)
theorem dX2_sampleAt_72 : decode cX2_sampleAt 72 = .ok (.ldc2_w 171, 3) := dk_20 0 171 (dk_at dksX2_sampleAt_3 0 rfl rfl)
theorem dX2_sampleAt_75 : decode cX2_sampleAt 75 = .ok (.ddiv, 1) := dk_111 (dk_at dksX2_sampleAt_3 3 rfl rfl)
theorem dX2_sampleAt_76 : decode cX2_sampleAt 76 = .ok (.d2f, 1) := dk_144 (dk_at dksX2_sampleAt_3 4 rfl rfl)
theorem dX2_sampleAt_77 : decode cX2_sampleAt 77 = .ok (.invokestatic 165, 3) := dk_184 0 165 (dk_at dksX2_sampleAt_3 5 rfl rfl)
theorem dX2_sampleAt_80 : decode cX2_sampleAt 80 = .ok (.freturn, 1) := dk_174 (dk_at dksX2_sampleAt_3 8 rfl rfl)
theorem dX2_sampleAt_81 : decode cX2_sampleAt 81 = .ok (.lload_n 3, 1) := dk_33 (dk_at dksX2_sampleAt_3 9 rfl rfl)
theorem dX2_sampleAt_82 : decode cX2_sampleAt 82 = .ok (.l2i, 1) := dk_136 (dk_at dksX2_sampleAt_3 10 rfl rfl)
theorem dX2_sampleAt_83 : decode cX2_sampleAt 83 = .ok (.invokestatic 173, 3) := dk_184 0 173 (dk_at dksX2_sampleAt_3 11 rfl rfl)
theorem dX2_sampleAt_86 : decode cX2_sampleAt 86 = .ok (.invokestatic 165, 3) := dk_184 0 165 (dk_at dksX2_sampleAt_3 14 rfl rfl)
theorem dX2_sampleAt_89 : decode cX2_sampleAt 89 = .ok (.freturn, 1) := dk_174 (dk_at dksX2_sampleAt_3 17 rfl rfl)
theorem dX2_sampleAt_90 : decode cX2_sampleAt 90 = .ok (.lload_n 3, 1) := dk_33 (dk_at dksX2_sampleAt_3 18 rfl rfl)
theorem dX2_sampleAt_91 : decode cX2_sampleAt 91 = .ok (.invokestatic 179, 3) := dk_184 0 179 (dk_at dksX2_sampleAt_3 19 rfl rfl)
theorem dX2_sampleAt_94 : decode cX2_sampleAt 94 = .ok (.d2f, 1) := dk_144 (dk_at dksX2_sampleAt_3 22 rfl rfl)
theorem dX2_sampleAt_95 : decode cX2_sampleAt 95 = .ok (.invokestatic 165, 3) := dk_184 0 165 (dk_at dksX2_sampleAt_4 0 rfl rfl)
theorem dX2_sampleAt_98 : decode cX2_sampleAt 98 = .ok (.freturn, 1) := dk_174 (dk_at dksX2_sampleAt_4 3 rfl rfl)
abbrev cX2_clipped : ByteArray := prog_14_method_5_code
def yX2_clipped : MethodName := ⟨RX2, "clipped", "(F)F"⟩
def dkwX2_clipped_1 : List UInt8 := [34, 174]
abbrev dktX2_clipped_1 : List UInt8 := dkwX2_clipped_1 ++ []
def dkwX2_clipped_0 : List UInt8 := [34, 18, 134, 149, 158, 0, 8, 18, 134, 167, 0, 16, 34, 18, 135, 150, 156, 0, 8, 18, 135, 167, 0, 4]
abbrev dktX2_clipped_0 : List UInt8 := dkwX2_clipped_0 ++ dktX2_clipped_1
theorem dksX2_clipped_0 : cX2_clipped.data.toList.drop 0 = dktX2_clipped_0 := by decide +kernel
theorem dksX2_clipped_1 : cX2_clipped.data.toList.drop 24 = dktX2_clipped_1 := dk_seg dksX2_clipped_0 24 rfl rfl
theorem dX2_clipped_0 : decode cX2_clipped 0 = .ok (.fload_n 0, 1) := dk_34 (dk_at dksX2_clipped_0 0 rfl rfl)
theorem dX2_clipped_1 : decode cX2_clipped 1 = .ok (.ldc 134, 2) := dk_18 134 (dk_at dksX2_clipped_0 1 rfl rfl)
theorem dX2_clipped_3 : decode cX2_clipped 3 = .ok (.fcmp .l, 1) := dk_149 (dk_at dksX2_clipped_0 3 rfl rfl)
theorem dX2_clipped_4 : decode cX2_clipped 4 = .ok (.ifCond .le 8, 3) := dk_158 0 8 (dk_at dksX2_clipped_0 4 rfl rfl)
theorem dX2_clipped_7 : decode cX2_clipped 7 = .ok (.ldc 134, 2) := dk_18 134 (dk_at dksX2_clipped_0 7 rfl rfl)
theorem dX2_clipped_9 : decode cX2_clipped 9 = .ok (.goto 16, 3) := dk_167 0 16 (dk_at dksX2_clipped_0 9 rfl rfl)
theorem dX2_clipped_12 : decode cX2_clipped 12 = .ok (.fload_n 0, 1) := dk_34 (dk_at dksX2_clipped_0 12 rfl rfl)
theorem dX2_clipped_13 : decode cX2_clipped 13 = .ok (.ldc 135, 2) := dk_18 135 (dk_at dksX2_clipped_0 13 rfl rfl)
theorem dX2_clipped_15 : decode cX2_clipped 15 = .ok (.fcmp .g, 1) := dk_150 (dk_at dksX2_clipped_0 15 rfl rfl)
theorem dX2_clipped_16 : decode cX2_clipped 16 = .ok (.ifCond .ge 8, 3) := dk_156 0 8 (dk_at dksX2_clipped_0 16 rfl rfl)
theorem dX2_clipped_19 : decode cX2_clipped 19 = .ok (.ldc 135, 2) := dk_18 135 (dk_at dksX2_clipped_0 19 rfl rfl)
theorem dX2_clipped_21 : decode cX2_clipped 21 = .ok (.goto 4, 3) := dk_167 0 4 (dk_at dksX2_clipped_0 21 rfl rfl)
theorem dX2_clipped_24 : decode cX2_clipped 24 = .ok (.fload_n 0, 1) := dk_34 (dk_at dksX2_clipped_1 0 rfl rfl)
theorem dX2_clipped_25 : decode cX2_clipped 25 = .ok (.freturn, 1) := dk_174 (dk_at dksX2_clipped_1 1 rfl rfl)
abbrev cX2_plug : ByteArray := prog_14_method_13_code
def yX2_plug : MethodName := ⟨RX2, "plug", "(III)I"⟩
def dkwX2_plug_7 : List UInt8 := [181, 0, 203, 42, 180, 0, 203, 4, 100, 172]
abbrev dktX2_plug_7 : List UInt8 := dkwX2_plug_7 ++ []
def dkwX2_plug_6 : List UInt8 := [180, 0, 203, 27, 184, 0, 199, 153, 0, 7, 29, 167, 0, 4, 2, 79, 42, 89, 180, 0, 203, 4, 96]
abbrev dktX2_plug_6 : List UInt8 := dkwX2_plug_6 ++ dktX2_plug_7
def dkwX2_plug_5 : List UInt8 := [180, 0, 203, 28, 184, 0, 173, 81, 42, 180, 0, 27, 42, 180, 0, 203, 29, 79, 42, 180, 0, 36, 42]
abbrev dktX2_plug_5 : List UInt8 := dkwX2_plug_5 ++ dktX2_plug_6
def dkwX2_plug_4 : List UInt8 := [156, 0, 9, 42, 8, 182, 0, 143, 172, 42, 180, 0, 20, 42, 180, 0, 203, 27, 79, 42, 180, 0, 23, 42]
abbrev dktX2_plug_4 : List UInt8 := dkwX2_plug_4 ++ dktX2_plug_5
def dkwX2_plug_3 : List UInt8 := [16, 154, 172, 42, 180, 0, 203, 16, 12, 160, 0, 6, 16, 152, 172, 27, 184, 0, 199, 153, 0, 13, 29]
abbrev dktX2_plug_3 : List UInt8 := dkwX2_plug_3 ++ dktX2_plug_4
def dkwX2_plug_2 : List UInt8 := [163, 0, 23, 27, 16, 7, 160, 0, 20, 29, 3, 42, 180, 0, 140, 4, 100, 184, 0, 136, 154, 0, 6]
abbrev dktX2_plug_2 : List UInt8 := dkwX2_plug_2 ++ dktX2_plug_3
def dkwX2_plug_1 : List UInt8 := [160, 0, 14, 29, 16, 192, 16, 64, 184, 0, 136, 153, 0, 36, 27, 184, 0, 199, 153, 0, 9, 29, 16, 16]
abbrev dktX2_plug_1 : List UInt8 := dkwX2_plug_1 ++ dktX2_plug_2
def dkwX2_plug_0 : List UInt8 := [27, 3, 16, 7, 184, 0, 136, 153, 0, 12, 28, 18, 135, 184, 0, 195, 154, 0, 6, 16, 154, 172, 27, 6]
abbrev dktX2_plug_0 : List UInt8 := dkwX2_plug_0 ++ dktX2_plug_1
theorem dksX2_plug_0 : cX2_plug.data.toList.drop 0 = dktX2_plug_0 := by decide +kernel
theorem dksX2_plug_1 : cX2_plug.data.toList.drop 24 = dktX2_plug_1 := dk_seg dksX2_plug_0 24 rfl rfl
theorem dksX2_plug_2 : cX2_plug.data.toList.drop 48 = dktX2_plug_2 := dk_seg dksX2_plug_1 24 rfl rfl
theorem dksX2_plug_3 : cX2_plug.data.toList.drop 71 = dktX2_plug_3 := dk_seg dksX2_plug_2 23 rfl rfl
theorem dksX2_plug_4 : cX2_plug.data.toList.drop 94 = dktX2_plug_4 := dk_seg dksX2_plug_3 23 rfl rfl
theorem dksX2_plug_5 : cX2_plug.data.toList.drop 118 = dktX2_plug_5 := dk_seg dksX2_plug_4 24 rfl rfl
theorem dksX2_plug_6 : cX2_plug.data.toList.drop 141 = dktX2_plug_6 := dk_seg dksX2_plug_5 23 rfl rfl
theorem dksX2_plug_7 : cX2_plug.data.toList.drop 164 = dktX2_plug_7 := dk_seg dksX2_plug_6 23 rfl rfl
theorem dX2_plug_0 : decode cX2_plug 0 = .ok (.iload_n 1, 1) := dk_27 (dk_at dksX2_plug_0 0 rfl rfl)
theorem dX2_plug_1 : decode cX2_plug 1 = .ok (.iconst 0, 1) := dk_3 (dk_at dksX2_plug_0 1 rfl rfl)
theorem dX2_plug_2 : decode cX2_plug 2 = .ok (.bipush 7, 2) := dk_16 7 (dk_at dksX2_plug_0 2 rfl rfl)
theorem dX2_plug_4 : decode cX2_plug 4 = .ok (.invokestatic 136, 3) := dk_184 0 136 (dk_at dksX2_plug_0 4 rfl rfl)
theorem dX2_plug_7 : decode cX2_plug 7 = .ok (.ifCond .eq 12, 3) := dk_153 0 12 (dk_at dksX2_plug_0 7 rfl rfl)
theorem dX2_plug_10 : decode cX2_plug 10 = .ok (.iload_n 2, 1) := dk_28 (dk_at dksX2_plug_0 10 rfl rfl)
theorem dX2_plug_11 : decode cX2_plug 11 = .ok (.ldc 135, 2) := dk_18 135 (dk_at dksX2_plug_0 11 rfl rfl)
theorem dX2_plug_13 : decode cX2_plug 13 = .ok (.invokestatic 195, 3) := dk_184 0 195 (dk_at dksX2_plug_0 13 rfl rfl)
theorem dX2_plug_16 : decode cX2_plug 16 = .ok (.ifCond .ne 6, 3) := dk_154 0 6 (dk_at dksX2_plug_0 16 rfl rfl)
theorem dX2_plug_19 : decode cX2_plug 19 = .ok (.bipush (-102), 2) := dk_16 154 (dk_at dksX2_plug_0 19 rfl rfl)
theorem dX2_plug_21 : decode cX2_plug 21 = .ok (.ireturn, 1) := dk_172 (dk_at dksX2_plug_0 21 rfl rfl)
theorem dX2_plug_22 : decode cX2_plug 22 = .ok (.iload_n 1, 1) := dk_27 (dk_at dksX2_plug_0 22 rfl rfl)
theorem dX2_plug_23 : decode cX2_plug 23 = .ok (.iconst 3, 1) := dk_6 (dk_at dksX2_plug_0 23 rfl rfl)
theorem dX2_plug_24 : decode cX2_plug 24 = .ok (.if_icmp .ne 14, 3) := dk_160 0 14 (dk_at dksX2_plug_1 0 rfl rfl)
theorem dX2_plug_27 : decode cX2_plug 27 = .ok (.iload_n 3, 1) := dk_29 (dk_at dksX2_plug_1 3 rfl rfl)
theorem dX2_plug_28 : decode cX2_plug 28 = .ok (.bipush (-64), 2) := dk_16 192 (dk_at dksX2_plug_1 4 rfl rfl)
theorem dX2_plug_30 : decode cX2_plug 30 = .ok (.bipush 64, 2) := dk_16 64 (dk_at dksX2_plug_1 6 rfl rfl)
theorem dX2_plug_32 : decode cX2_plug 32 = .ok (.invokestatic 136, 3) := dk_184 0 136 (dk_at dksX2_plug_1 8 rfl rfl)
theorem dX2_plug_35 : decode cX2_plug 35 = .ok (.ifCond .eq 36, 3) := dk_153 0 36 (dk_at dksX2_plug_1 11 rfl rfl)
theorem dX2_plug_38 : decode cX2_plug 38 = .ok (.iload_n 1, 1) := dk_27 (dk_at dksX2_plug_1 14 rfl rfl)
theorem dX2_plug_39 : decode cX2_plug 39 = .ok (.invokestatic 199, 3) := dk_184 0 199 (dk_at dksX2_plug_1 15 rfl rfl)
theorem dX2_plug_42 : decode cX2_plug 42 = .ok (.ifCond .eq 9, 3) := dk_153 0 9 (dk_at dksX2_plug_1 18 rfl rfl)
theorem dX2_plug_45 : decode cX2_plug 45 = .ok (.iload_n 3, 1) := dk_29 (dk_at dksX2_plug_1 21 rfl rfl)
theorem dX2_plug_46 : decode cX2_plug 46 = .ok (.bipush 16, 2) := dk_16 16 (dk_at dksX2_plug_1 22 rfl rfl)
theorem dX2_plug_48 : decode cX2_plug 48 = .ok (.if_icmp .gt 23, 3) := dk_163 0 23 (dk_at dksX2_plug_2 0 rfl rfl)
theorem dX2_plug_51 : decode cX2_plug 51 = .ok (.iload_n 1, 1) := dk_27 (dk_at dksX2_plug_2 3 rfl rfl)
theorem dX2_plug_52 : decode cX2_plug 52 = .ok (.bipush 7, 2) := dk_16 7 (dk_at dksX2_plug_2 4 rfl rfl)
theorem dX2_plug_54 : decode cX2_plug 54 = .ok (.if_icmp .ne 20, 3) := dk_160 0 20 (dk_at dksX2_plug_2 6 rfl rfl)
theorem dX2_plug_57 : decode cX2_plug 57 = .ok (.iload_n 3, 1) := dk_29 (dk_at dksX2_plug_2 9 rfl rfl)
theorem dX2_plug_58 : decode cX2_plug 58 = .ok (.iconst 0, 1) := dk_3 (dk_at dksX2_plug_2 10 rfl rfl)
theorem dX2_plug_59 : decode cX2_plug 59 = .ok (.aload_n 0, 1) := dk_42 (dk_at dksX2_plug_2 11 rfl rfl)
theorem dX2_plug_60 : decode cX2_plug 60 = .ok (.getfield 140, 3) := dk_180 0 140 (dk_at dksX2_plug_2 12 rfl rfl)
theorem dX2_plug_63 : decode cX2_plug 63 = .ok (.iconst 1, 1) := dk_4 (dk_at dksX2_plug_2 15 rfl rfl)
theorem dX2_plug_64 : decode cX2_plug 64 = .ok (.isub, 1) := dk_100 (dk_at dksX2_plug_2 16 rfl rfl)
theorem dX2_plug_65 : decode cX2_plug 65 = .ok (.invokestatic 136, 3) := dk_184 0 136 (dk_at dksX2_plug_2 17 rfl rfl)
theorem dX2_plug_68 : decode cX2_plug 68 = .ok (.ifCond .ne 6, 3) := dk_154 0 6 (dk_at dksX2_plug_2 20 rfl rfl)
theorem dX2_plug_71 : decode cX2_plug 71 = .ok (.bipush (-102), 2) := dk_16 154 (dk_at dksX2_plug_3 0 rfl rfl)
theorem dX2_plug_73 : decode cX2_plug 73 = .ok (.ireturn, 1) := dk_172 (dk_at dksX2_plug_3 2 rfl rfl)
theorem dX2_plug_74 : decode cX2_plug 74 = .ok (.aload_n 0, 1) := dk_42 (dk_at dksX2_plug_3 3 rfl rfl)
theorem dX2_plug_75 : decode cX2_plug 75 = .ok (.getfield 203, 3) := dk_180 0 203 (dk_at dksX2_plug_3 4 rfl rfl)
theorem dX2_plug_78 : decode cX2_plug 78 = .ok (.bipush 12, 2) := dk_16 12 (dk_at dksX2_plug_3 7 rfl rfl)
theorem dX2_plug_80 : decode cX2_plug 80 = .ok (.if_icmp .ne 6, 3) := dk_160 0 6 (dk_at dksX2_plug_3 9 rfl rfl)
theorem dX2_plug_83 : decode cX2_plug 83 = .ok (.bipush (-104), 2) := dk_16 152 (dk_at dksX2_plug_3 12 rfl rfl)
theorem dX2_plug_85 : decode cX2_plug 85 = .ok (.ireturn, 1) := dk_172 (dk_at dksX2_plug_3 14 rfl rfl)
theorem dX2_plug_86 : decode cX2_plug 86 = .ok (.iload_n 1, 1) := dk_27 (dk_at dksX2_plug_3 15 rfl rfl)
theorem dX2_plug_87 : decode cX2_plug 87 = .ok (.invokestatic 199, 3) := dk_184 0 199 (dk_at dksX2_plug_3 16 rfl rfl)
theorem dX2_plug_90 : decode cX2_plug 90 = .ok (.ifCond .eq 13, 3) := dk_153 0 13 (dk_at dksX2_plug_3 19 rfl rfl)
theorem dX2_plug_93 : decode cX2_plug 93 = .ok (.iload_n 3, 1) := dk_29 (dk_at dksX2_plug_3 22 rfl rfl)
theorem dX2_plug_94 : decode cX2_plug 94 = .ok (.ifCond .ge 9, 3) := dk_156 0 9 (dk_at dksX2_plug_4 0 rfl rfl)
theorem dX2_plug_97 : decode cX2_plug 97 = .ok (.aload_n 0, 1) := dk_42 (dk_at dksX2_plug_4 3 rfl rfl)
theorem dX2_plug_98 : decode cX2_plug 98 = .ok (.iconst 5, 1) := dk_8 (dk_at dksX2_plug_4 4 rfl rfl)
theorem dX2_plug_99 : decode cX2_plug 99 = .ok (.invokevirtual 143, 3) := dk_182 0 143 (dk_at dksX2_plug_4 5 rfl rfl)
theorem dX2_plug_102 : decode cX2_plug 102 = .ok (.ireturn, 1) := dk_172 (dk_at dksX2_plug_4 8 rfl rfl)
theorem dX2_plug_103 : decode cX2_plug 103 = .ok (.aload_n 0, 1) := dk_42 (dk_at dksX2_plug_4 9 rfl rfl)
theorem dX2_plug_104 : decode cX2_plug 104 = .ok (.getfield 20, 3) := dk_180 0 20 (dk_at dksX2_plug_4 10 rfl rfl)
theorem dX2_plug_107 : decode cX2_plug 107 = .ok (.aload_n 0, 1) := dk_42 (dk_at dksX2_plug_4 13 rfl rfl)
theorem dX2_plug_108 : decode cX2_plug 108 = .ok (.getfield 203, 3) := dk_180 0 203 (dk_at dksX2_plug_4 14 rfl rfl)
theorem dX2_plug_111 : decode cX2_plug 111 = .ok (.iload_n 1, 1) := dk_27 (dk_at dksX2_plug_4 17 rfl rfl)
theorem dX2_plug_112 : decode cX2_plug 112 = .ok (.iastore, 1) := dk_79 (dk_at dksX2_plug_4 18 rfl rfl)
theorem dX2_plug_113 : decode cX2_plug 113 = .ok (.aload_n 0, 1) := dk_42 (dk_at dksX2_plug_4 19 rfl rfl)
theorem dX2_plug_114 : decode cX2_plug 114 = .ok (.getfield 23, 3) := dk_180 0 23 (dk_at dksX2_plug_4 20 rfl rfl)
theorem dX2_plug_117 : decode cX2_plug 117 = .ok (.aload_n 0, 1) := dk_42 (dk_at dksX2_plug_4 23 rfl rfl)
theorem dX2_plug_118 : decode cX2_plug 118 = .ok (.getfield 203, 3) := dk_180 0 203 (dk_at dksX2_plug_5 0 rfl rfl)
theorem dX2_plug_121 : decode cX2_plug 121 = .ok (.iload_n 2, 1) := dk_28 (dk_at dksX2_plug_5 3 rfl rfl)
theorem dX2_plug_122 : decode cX2_plug 122 = .ok (.invokestatic 173, 3) := dk_184 0 173 (dk_at dksX2_plug_5 4 rfl rfl)
theorem dX2_plug_125 : decode cX2_plug 125 = .ok (.fastore, 1) := dk_81 (dk_at dksX2_plug_5 7 rfl rfl)
theorem dX2_plug_126 : decode cX2_plug 126 = .ok (.aload_n 0, 1) := dk_42 (dk_at dksX2_plug_5 8 rfl rfl)
theorem dX2_plug_127 : decode cX2_plug 127 = .ok (.getfield 27, 3) := dk_180 0 27 (dk_at dksX2_plug_5 9 rfl rfl)
theorem dX2_plug_130 : decode cX2_plug 130 = .ok (.aload_n 0, 1) := dk_42 (dk_at dksX2_plug_5 12 rfl rfl)
theorem dX2_plug_131 : decode cX2_plug 131 = .ok (.getfield 203, 3) := dk_180 0 203 (dk_at dksX2_plug_5 13 rfl rfl)
theorem dX2_plug_134 : decode cX2_plug 134 = .ok (.iload_n 3, 1) := dk_29 (dk_at dksX2_plug_5 16 rfl rfl)
theorem dX2_plug_135 : decode cX2_plug 135 = .ok (.iastore, 1) := dk_79 (dk_at dksX2_plug_5 17 rfl rfl)
theorem dX2_plug_136 : decode cX2_plug 136 = .ok (.aload_n 0, 1) := dk_42 (dk_at dksX2_plug_5 18 rfl rfl)
theorem dX2_plug_137 : decode cX2_plug 137 = .ok (.getfield 36, 3) := dk_180 0 36 (dk_at dksX2_plug_5 19 rfl rfl)
theorem dX2_plug_140 : decode cX2_plug 140 = .ok (.aload_n 0, 1) := dk_42 (dk_at dksX2_plug_5 22 rfl rfl)
theorem dX2_plug_141 : decode cX2_plug 141 = .ok (.getfield 203, 3) := dk_180 0 203 (dk_at dksX2_plug_6 0 rfl rfl)
theorem dX2_plug_144 : decode cX2_plug 144 = .ok (.iload_n 1, 1) := dk_27 (dk_at dksX2_plug_6 3 rfl rfl)
theorem dX2_plug_145 : decode cX2_plug 145 = .ok (.invokestatic 199, 3) := dk_184 0 199 (dk_at dksX2_plug_6 4 rfl rfl)
theorem dX2_plug_148 : decode cX2_plug 148 = .ok (.ifCond .eq 7, 3) := dk_153 0 7 (dk_at dksX2_plug_6 7 rfl rfl)
theorem dX2_plug_151 : decode cX2_plug 151 = .ok (.iload_n 3, 1) := dk_29 (dk_at dksX2_plug_6 10 rfl rfl)
theorem dX2_plug_152 : decode cX2_plug 152 = .ok (.goto 4, 3) := dk_167 0 4 (dk_at dksX2_plug_6 11 rfl rfl)
theorem dX2_plug_155 : decode cX2_plug 155 = .ok (.iconst (-1), 1) := dk_2 (dk_at dksX2_plug_6 14 rfl rfl)
theorem dX2_plug_156 : decode cX2_plug 156 = .ok (.iastore, 1) := dk_79 (dk_at dksX2_plug_6 15 rfl rfl)
theorem dX2_plug_157 : decode cX2_plug 157 = .ok (.aload_n 0, 1) := dk_42 (dk_at dksX2_plug_6 16 rfl rfl)
theorem dX2_plug_158 : decode cX2_plug 158 = .ok (.dup, 1) := dk_89 (dk_at dksX2_plug_6 17 rfl rfl)
theorem dX2_plug_159 : decode cX2_plug 159 = .ok (.getfield 203, 3) := dk_180 0 203 (dk_at dksX2_plug_6 18 rfl rfl)
theorem dX2_plug_162 : decode cX2_plug 162 = .ok (.iconst 1, 1) := dk_4 (dk_at dksX2_plug_6 21 rfl rfl)
theorem dX2_plug_163 : decode cX2_plug 163 = .ok (.iadd, 1) := dk_96 (dk_at dksX2_plug_6 22 rfl rfl)
theorem dX2_plug_164 : decode cX2_plug 164 = .ok (.putfield 203, 3) := dk_181 0 203 (dk_at dksX2_plug_7 0 rfl rfl)
theorem dX2_plug_167 : decode cX2_plug 167 = .ok (.aload_n 0, 1) := dk_42 (dk_at dksX2_plug_7 3 rfl rfl)
theorem dX2_plug_168 : decode cX2_plug 168 = .ok (.getfield 203, 3) := dk_180 0 203 (dk_at dksX2_plug_7 4 rfl rfl)
theorem dX2_plug_171 : decode cX2_plug 171 = .ok (.iconst 1, 1) := dk_4 (dk_at dksX2_plug_7 7 rfl rfl)
theorem dX2_plug_172 : decode cX2_plug 172 = .ok (.isub, 1) := dk_100 (dk_at dksX2_plug_7 8 rfl rfl)
theorem dX2_plug_173 : decode cX2_plug 173 = .ok (.ireturn, 1) := dk_172 (dk_at dksX2_plug_7 9 rfl rfl)
abbrev cX2_isWithin : ByteArray := prog_14_method_11_code
def yX2_isWithin : MethodName := ⟨RX2, "isWithin", "(IF)Z"⟩
def dkwX2_isWithin_1 : List UInt8 := [18, 134, 150, 157, 0, 7, 4, 167, 0, 4, 3, 172]
abbrev dktX2_isWithin_1 : List UInt8 := dkwX2_isWithin_1 ++ []
def dkwX2_isWithin_0 : List UInt8 := [26, 18, 193, 126, 18, 194, 164, 0, 5, 3, 172, 26, 184, 0, 173, 69, 36, 35, 149, 155, 0, 14, 36]
abbrev dktX2_isWithin_0 : List UInt8 := dkwX2_isWithin_0 ++ dktX2_isWithin_1
theorem dksX2_isWithin_0 : cX2_isWithin.data.toList.drop 0 = dktX2_isWithin_0 := by decide +kernel
theorem dksX2_isWithin_1 : cX2_isWithin.data.toList.drop 23 = dktX2_isWithin_1 := dk_seg dksX2_isWithin_0 23 rfl rfl
theorem dX2_isWithin_0 : decode cX2_isWithin 0 = .ok (.iload_n 0, 1) := dk_26 (dk_at dksX2_isWithin_0 0 rfl rfl)
theorem dX2_isWithin_1 : decode cX2_isWithin 1 = .ok (.ldc 193, 2) := dk_18 193 (dk_at dksX2_isWithin_0 1 rfl rfl)
theorem dX2_isWithin_3 : decode cX2_isWithin 3 = .ok (.iand, 1) := dk_126 (dk_at dksX2_isWithin_0 3 rfl rfl)
theorem dX2_isWithin_4 : decode cX2_isWithin 4 = .ok (.ldc 194, 2) := dk_18 194 (dk_at dksX2_isWithin_0 4 rfl rfl)
theorem dX2_isWithin_6 : decode cX2_isWithin 6 = .ok (.if_icmp .le 5, 3) := dk_164 0 5 (dk_at dksX2_isWithin_0 6 rfl rfl)
theorem dX2_isWithin_9 : decode cX2_isWithin 9 = .ok (.iconst 0, 1) := dk_3 (dk_at dksX2_isWithin_0 9 rfl rfl)
theorem dX2_isWithin_10 : decode cX2_isWithin 10 = .ok (.ireturn, 1) := dk_172 (dk_at dksX2_isWithin_0 10 rfl rfl)
theorem dX2_isWithin_11 : decode cX2_isWithin 11 = .ok (.iload_n 0, 1) := dk_26 (dk_at dksX2_isWithin_0 11 rfl rfl)
theorem dX2_isWithin_12 : decode cX2_isWithin 12 = .ok (.invokestatic 173, 3) := dk_184 0 173 (dk_at dksX2_isWithin_0 12 rfl rfl)
theorem dX2_isWithin_15 : decode cX2_isWithin 15 = .ok (.fstore_n 2, 1) := dk_69 (dk_at dksX2_isWithin_0 15 rfl rfl)
theorem dX2_isWithin_16 : decode cX2_isWithin 16 = .ok (.fload_n 2, 1) := dk_36 (dk_at dksX2_isWithin_0 16 rfl rfl)
theorem dX2_isWithin_17 : decode cX2_isWithin 17 = .ok (.fload_n 1, 1) := dk_35 (dk_at dksX2_isWithin_0 17 rfl rfl)
theorem dX2_isWithin_18 : decode cX2_isWithin 18 = .ok (.fcmp .l, 1) := dk_149 (dk_at dksX2_isWithin_0 18 rfl rfl)
theorem dX2_isWithin_19 : decode cX2_isWithin 19 = .ok (.ifCond .lt 14, 3) := dk_155 0 14 (dk_at dksX2_isWithin_0 19 rfl rfl)
theorem dX2_isWithin_22 : decode cX2_isWithin 22 = .ok (.fload_n 2, 1) := dk_36 (dk_at dksX2_isWithin_0 22 rfl rfl)
theorem dX2_isWithin_23 : decode cX2_isWithin 23 = .ok (.ldc 134, 2) := dk_18 134 (dk_at dksX2_isWithin_1 0 rfl rfl)
theorem dX2_isWithin_25 : decode cX2_isWithin 25 = .ok (.fcmp .g, 1) := dk_150 (dk_at dksX2_isWithin_1 2 rfl rfl)
theorem dX2_isWithin_26 : decode cX2_isWithin 26 = .ok (.ifCond .gt 7, 3) := dk_157 0 7 (dk_at dksX2_isWithin_1 3 rfl rfl)
theorem dX2_isWithin_29 : decode cX2_isWithin 29 = .ok (.iconst 1, 1) := dk_4 (dk_at dksX2_isWithin_1 6 rfl rfl)
theorem dX2_isWithin_30 : decode cX2_isWithin 30 = .ok (.goto 4, 3) := dk_167 0 4 (dk_at dksX2_isWithin_1 7 rfl rfl)
theorem dX2_isWithin_33 : decode cX2_isWithin 33 = .ok (.iconst 0, 1) := dk_3 (dk_at dksX2_isWithin_1 10 rfl rfl)
theorem dX2_isWithin_34 : decode cX2_isWithin 34 = .ok (.ireturn, 1) := dk_172 (dk_at dksX2_isWithin_1 11 rfl rfl)
abbrev cX2_isEcho : ByteArray := prog_14_method_12_code
def yX2_isEcho : MethodName := ⟨RX2, "isEcho", "(I)Z"⟩
def dkwX2_isEcho_0 : List UInt8 := [26, 7, 159, 0, 8, 26, 8, 160, 0, 7, 4, 167, 0, 4, 3, 172]
abbrev dktX2_isEcho_0 : List UInt8 := dkwX2_isEcho_0 ++ []
theorem dksX2_isEcho_0 : cX2_isEcho.data.toList.drop 0 = dktX2_isEcho_0 := by decide +kernel
theorem dX2_isEcho_0 : decode cX2_isEcho 0 = .ok (.iload_n 0, 1) := dk_26 (dk_at dksX2_isEcho_0 0 rfl rfl)
theorem dX2_isEcho_1 : decode cX2_isEcho 1 = .ok (.iconst 4, 1) := dk_7 (dk_at dksX2_isEcho_0 1 rfl rfl)
theorem dX2_isEcho_2 : decode cX2_isEcho 2 = .ok (.if_icmp .eq 8, 3) := dk_159 0 8 (dk_at dksX2_isEcho_0 2 rfl rfl)
theorem dX2_isEcho_5 : decode cX2_isEcho 5 = .ok (.iload_n 0, 1) := dk_26 (dk_at dksX2_isEcho_0 5 rfl rfl)
theorem dX2_isEcho_6 : decode cX2_isEcho 6 = .ok (.iconst 5, 1) := dk_8 (dk_at dksX2_isEcho_0 6 rfl rfl)
theorem dX2_isEcho_7 : decode cX2_isEcho 7 = .ok (.if_icmp .ne 7, 3) := dk_160 0 7 (dk_at dksX2_isEcho_0 7 rfl rfl)
theorem dX2_isEcho_10 : decode cX2_isEcho 10 = .ok (.iconst 1, 1) := dk_4 (dk_at dksX2_isEcho_0 10 rfl rfl)
theorem dX2_isEcho_11 : decode cX2_isEcho 11 = .ok (.goto 4, 3) := dk_167 0 4 (dk_at dksX2_isEcho_0 11 rfl rfl)
theorem dX2_isEcho_14 : decode cX2_isEcho 14 = .ok (.iconst 0, 1) := dk_3 (dk_at dksX2_isEcho_0 14 rfl rfl)
theorem dX2_isEcho_15 : decode cX2_isEcho 15 = .ok (.ireturn, 1) := dk_172 (dk_at dksX2_isEcho_0 15 rfl rfl)
abbrev cX2_plugged : ByteArray := prog_14_method_15_code
def yX2_plugged : MethodName := ⟨RX2, "plugged", "(II)I"⟩
def dkwX2_plugged_7 : List UInt8 := [172]
abbrev dktX2_plugged_7 : List UInt8 := dkwX2_plugged_7 ++ []
def dkwX2_plugged_6 : List UInt8 := [42, 180, 0, 39, 16, 16, 27, 104, 28, 96, 8, 100, 48, 184, 0, 189, 167, 0, 8, 42, 5, 182, 0, 143]
abbrev dktX2_plugged_6 : List UInt8 := dkwX2_plugged_6 ++ dktX2_plugged_7
def dkwX2_plugged_5 : List UInt8 := [180, 0, 36, 27, 46, 172, 28, 8, 100, 3, 42, 180, 0, 36, 27, 46, 4, 100, 184, 0, 136, 153, 0, 22]
abbrev dktX2_plugged_5 : List UInt8 := dkwX2_plugged_5 ++ dktX2_plugged_6
def dkwX2_plugged_4 : List UInt8 := [46, 172, 42, 180, 0, 36, 27, 46, 2, 160, 0, 9, 42, 4, 182, 0, 143, 172, 28, 7, 160, 0, 10, 42]
abbrev dktX2_plugged_4 : List UInt8 := dkwX2_plugged_4 ++ dktX2_plugged_5
def dkwX2_plugged_3 : List UInt8 := [27, 46, 184, 0, 199, 154, 0, 9, 42, 6, 182, 0, 143, 172, 28, 6, 160, 0, 10, 42, 180, 0, 33, 27]
abbrev dktX2_plugged_3 : List UInt8 := dkwX2_plugged_3 ++ dktX2_plugged_4
def dkwX2_plugged_2 : List UInt8 := [28, 4, 160, 0, 11, 42, 27, 182, 0, 206, 167, 0, 9, 42, 180, 0, 30, 27, 46, 172, 42, 180, 0, 20]
abbrev dktX2_plugged_2 : List UInt8 := dkwX2_plugged_2 ++ dktX2_plugged_3
def dkwX2_plugged_1 : List UInt8 := [154, 0, 6, 16, 154, 172, 28, 6, 162, 0, 36, 28, 154, 0, 12, 42, 180, 0, 20, 27, 46, 167, 0, 22]
abbrev dktX2_plugged_1 : List UInt8 := dkwX2_plugged_1 ++ dktX2_plugged_2
def dkwX2_plugged_0 : List UInt8 := [27, 3, 42, 180, 0, 203, 4, 100, 184, 0, 136, 154, 0, 6, 16, 155, 172, 28, 3, 16, 20, 184, 0, 136]
abbrev dktX2_plugged_0 : List UInt8 := dkwX2_plugged_0 ++ dktX2_plugged_1
theorem dksX2_plugged_0 : cX2_plugged.data.toList.drop 0 = dktX2_plugged_0 := by decide +kernel
theorem dksX2_plugged_1 : cX2_plugged.data.toList.drop 24 = dktX2_plugged_1 := dk_seg dksX2_plugged_0 24 rfl rfl
theorem dksX2_plugged_2 : cX2_plugged.data.toList.drop 48 = dktX2_plugged_2 := dk_seg dksX2_plugged_1 24 rfl rfl
theorem dksX2_plugged_3 : cX2_plugged.data.toList.drop 72 = dktX2_plugged_3 := dk_seg dksX2_plugged_2 24 rfl rfl
theorem dksX2_plugged_4 : cX2_plugged.data.toList.drop 96 = dktX2_plugged_4 := dk_seg dksX2_plugged_3 24 rfl rfl
theorem dksX2_plugged_5 : cX2_plugged.data.toList.drop 120 = dktX2_plugged_5 := dk_seg dksX2_plugged_4 24 rfl rfl
theorem dksX2_plugged_6 : cX2_plugged.data.toList.drop 144 = dktX2_plugged_6 := dk_seg dksX2_plugged_5 24 rfl rfl
theorem dksX2_plugged_7 : cX2_plugged.data.toList.drop 168 = dktX2_plugged_7 := dk_seg dksX2_plugged_6 24 rfl rfl
theorem dX2_plugged_0 : decode cX2_plugged 0 = .ok (.iload_n 1, 1) := dk_27 (dk_at dksX2_plugged_0 0 rfl rfl)
theorem dX2_plugged_1 : decode cX2_plugged 1 = .ok (.iconst 0, 1) := dk_3 (dk_at dksX2_plugged_0 1 rfl rfl)
theorem dX2_plugged_2 : decode cX2_plugged 2 = .ok (.aload_n 0, 1) := dk_42 (dk_at dksX2_plugged_0 2 rfl rfl)
theorem dX2_plugged_3 : decode cX2_plugged 3 = .ok (.getfield 203, 3) := dk_180 0 203 (dk_at dksX2_plugged_0 3 rfl rfl)
theorem dX2_plugged_6 : decode cX2_plugged 6 = .ok (.iconst 1, 1) := dk_4 (dk_at dksX2_plugged_0 6 rfl rfl)
theorem dX2_plugged_7 : decode cX2_plugged 7 = .ok (.isub, 1) := dk_100 (dk_at dksX2_plugged_0 7 rfl rfl)
theorem dX2_plugged_8 : decode cX2_plugged 8 = .ok (.invokestatic 136, 3) := dk_184 0 136 (dk_at dksX2_plugged_0 8 rfl rfl)
theorem dX2_plugged_11 : decode cX2_plugged 11 = .ok (.ifCond .ne 6, 3) := dk_154 0 6 (dk_at dksX2_plugged_0 11 rfl rfl)
theorem dX2_plugged_14 : decode cX2_plugged 14 = .ok (.bipush (-101), 2) := dk_16 155 (dk_at dksX2_plugged_0 14 rfl rfl)
theorem dX2_plugged_16 : decode cX2_plugged 16 = .ok (.ireturn, 1) := dk_172 (dk_at dksX2_plugged_0 16 rfl rfl)
theorem dX2_plugged_17 : decode cX2_plugged 17 = .ok (.iload_n 2, 1) := dk_28 (dk_at dksX2_plugged_0 17 rfl rfl)
theorem dX2_plugged_18 : decode cX2_plugged 18 = .ok (.iconst 0, 1) := dk_3 (dk_at dksX2_plugged_0 18 rfl rfl)
theorem dX2_plugged_19 : decode cX2_plugged 19 = .ok (.bipush 20, 2) := dk_16 20 (dk_at dksX2_plugged_0 19 rfl rfl)
theorem dX2_plugged_21 : decode cX2_plugged 21 = .ok (.invokestatic 136, 3) := dk_184 0 136 (dk_at dksX2_plugged_0 21 rfl rfl)
theorem dX2_plugged_24 : decode cX2_plugged 24 = .ok (.ifCond .ne 6, 3) := dk_154 0 6 (dk_at dksX2_plugged_1 0 rfl rfl)
theorem dX2_plugged_27 : decode cX2_plugged 27 = .ok (.bipush (-102), 2) := dk_16 154 (dk_at dksX2_plugged_1 3 rfl rfl)
theorem dX2_plugged_29 : decode cX2_plugged 29 = .ok (.ireturn, 1) := dk_172 (dk_at dksX2_plugged_1 5 rfl rfl)
theorem dX2_plugged_30 : decode cX2_plugged 30 = .ok (.iload_n 2, 1) := dk_28 (dk_at dksX2_plugged_1 6 rfl rfl)
theorem dX2_plugged_31 : decode cX2_plugged 31 = .ok (.iconst 3, 1) := dk_6 (dk_at dksX2_plugged_1 7 rfl rfl)
theorem dX2_plugged_32 : decode cX2_plugged 32 = .ok (.if_icmp .ge 36, 3) := dk_162 0 36 (dk_at dksX2_plugged_1 8 rfl rfl)
theorem dX2_plugged_35 : decode cX2_plugged 35 = .ok (.iload_n 2, 1) := dk_28 (dk_at dksX2_plugged_1 11 rfl rfl)
theorem dX2_plugged_36 : decode cX2_plugged 36 = .ok (.ifCond .ne 12, 3) := dk_154 0 12 (dk_at dksX2_plugged_1 12 rfl rfl)
theorem dX2_plugged_39 : decode cX2_plugged 39 = .ok (.aload_n 0, 1) := dk_42 (dk_at dksX2_plugged_1 15 rfl rfl)
theorem dX2_plugged_40 : decode cX2_plugged 40 = .ok (.getfield 20, 3) := dk_180 0 20 (dk_at dksX2_plugged_1 16 rfl rfl)
theorem dX2_plugged_43 : decode cX2_plugged 43 = .ok (.iload_n 1, 1) := dk_27 (dk_at dksX2_plugged_1 19 rfl rfl)
theorem dX2_plugged_44 : decode cX2_plugged 44 = .ok (.iaload, 1) := dk_46 (dk_at dksX2_plugged_1 20 rfl rfl)
theorem dX2_plugged_45 : decode cX2_plugged 45 = .ok (.goto 22, 3) := dk_167 0 22 (dk_at dksX2_plugged_1 21 rfl rfl)
theorem dX2_plugged_48 : decode cX2_plugged 48 = .ok (.iload_n 2, 1) := dk_28 (dk_at dksX2_plugged_2 0 rfl rfl)
theorem dX2_plugged_49 : decode cX2_plugged 49 = .ok (.iconst 1, 1) := dk_4 (dk_at dksX2_plugged_2 1 rfl rfl)
theorem dX2_plugged_50 : decode cX2_plugged 50 = .ok (.if_icmp .ne 11, 3) := dk_160 0 11 (dk_at dksX2_plugged_2 2 rfl rfl)
theorem dX2_plugged_53 : decode cX2_plugged 53 = .ok (.aload_n 0, 1) := dk_42 (dk_at dksX2_plugged_2 5 rfl rfl)
theorem dX2_plugged_54 : decode cX2_plugged 54 = .ok (.iload_n 1, 1) := dk_27 (dk_at dksX2_plugged_2 6 rfl rfl)
theorem dX2_plugged_55 : decode cX2_plugged 55 = .ok (.invokevirtual 206, 3) := dk_182 0 206 (dk_at dksX2_plugged_2 7 rfl rfl)
theorem dX2_plugged_58 : decode cX2_plugged 58 = .ok (.goto 9, 3) := dk_167 0 9 (dk_at dksX2_plugged_2 10 rfl rfl)
theorem dX2_plugged_61 : decode cX2_plugged 61 = .ok (.aload_n 0, 1) := dk_42 (dk_at dksX2_plugged_2 13 rfl rfl)
theorem dX2_plugged_62 : decode cX2_plugged 62 = .ok (.getfield 30, 3) := dk_180 0 30 (dk_at dksX2_plugged_2 14 rfl rfl)
theorem dX2_plugged_65 : decode cX2_plugged 65 = .ok (.iload_n 1, 1) := dk_27 (dk_at dksX2_plugged_2 17 rfl rfl)
theorem dX2_plugged_66 : decode cX2_plugged 66 = .ok (.iaload, 1) := dk_46 (dk_at dksX2_plugged_2 18 rfl rfl)
theorem dX2_plugged_67 : decode cX2_plugged 67 = .ok (.ireturn, 1) := dk_172 (dk_at dksX2_plugged_2 19 rfl rfl)
theorem dX2_plugged_68 : decode cX2_plugged 68 = .ok (.aload_n 0, 1) := dk_42 (dk_at dksX2_plugged_2 20 rfl rfl)
theorem dX2_plugged_69 : decode cX2_plugged 69 = .ok (.getfield 20, 3) := dk_180 0 20 (dk_at dksX2_plugged_2 21 rfl rfl)
theorem dX2_plugged_72 : decode cX2_plugged 72 = .ok (.iload_n 1, 1) := dk_27 (dk_at dksX2_plugged_3 0 rfl rfl)
theorem dX2_plugged_73 : decode cX2_plugged 73 = .ok (.iaload, 1) := dk_46 (dk_at dksX2_plugged_3 1 rfl rfl)
theorem dX2_plugged_74 : decode cX2_plugged 74 = .ok (.invokestatic 199, 3) := dk_184 0 199 (dk_at dksX2_plugged_3 2 rfl rfl)
theorem dX2_plugged_77 : decode cX2_plugged 77 = .ok (.ifCond .ne 9, 3) := dk_154 0 9 (dk_at dksX2_plugged_3 5 rfl rfl)
theorem dX2_plugged_80 : decode cX2_plugged 80 = .ok (.aload_n 0, 1) := dk_42 (dk_at dksX2_plugged_3 8 rfl rfl)
theorem dX2_plugged_81 : decode cX2_plugged 81 = .ok (.iconst 3, 1) := dk_6 (dk_at dksX2_plugged_3 9 rfl rfl)
theorem dX2_plugged_82 : decode cX2_plugged 82 = .ok (.invokevirtual 143, 3) := dk_182 0 143 (dk_at dksX2_plugged_3 10 rfl rfl)
theorem dX2_plugged_85 : decode cX2_plugged 85 = .ok (.ireturn, 1) := dk_172 (dk_at dksX2_plugged_3 13 rfl rfl)
theorem dX2_plugged_86 : decode cX2_plugged 86 = .ok (.iload_n 2, 1) := dk_28 (dk_at dksX2_plugged_3 14 rfl rfl)
theorem dX2_plugged_87 : decode cX2_plugged 87 = .ok (.iconst 3, 1) := dk_6 (dk_at dksX2_plugged_3 15 rfl rfl)
theorem dX2_plugged_88 : decode cX2_plugged 88 = .ok (.if_icmp .ne 10, 3) := dk_160 0 10 (dk_at dksX2_plugged_3 16 rfl rfl)
theorem dX2_plugged_91 : decode cX2_plugged 91 = .ok (.aload_n 0, 1) := dk_42 (dk_at dksX2_plugged_3 19 rfl rfl)
theorem dX2_plugged_92 : decode cX2_plugged 92 = .ok (.getfield 33, 3) := dk_180 0 33 (dk_at dksX2_plugged_3 20 rfl rfl)
theorem dX2_plugged_95 : decode cX2_plugged 95 = .ok (.iload_n 1, 1) := dk_27 (dk_at dksX2_plugged_3 23 rfl rfl)
theorem dX2_plugged_96 : decode cX2_plugged 96 = .ok (.iaload, 1) := dk_46 (dk_at dksX2_plugged_4 0 rfl rfl)
theorem dX2_plugged_97 : decode cX2_plugged 97 = .ok (.ireturn, 1) := dk_172 (dk_at dksX2_plugged_4 1 rfl rfl)
theorem dX2_plugged_98 : decode cX2_plugged 98 = .ok (.aload_n 0, 1) := dk_42 (dk_at dksX2_plugged_4 2 rfl rfl)
theorem dX2_plugged_99 : decode cX2_plugged 99 = .ok (.getfield 36, 3) := dk_180 0 36 (dk_at dksX2_plugged_4 3 rfl rfl)
theorem dX2_plugged_102 : decode cX2_plugged 102 = .ok (.iload_n 1, 1) := dk_27 (dk_at dksX2_plugged_4 6 rfl rfl)
theorem dX2_plugged_103 : decode cX2_plugged 103 = .ok (.iaload, 1) := dk_46 (dk_at dksX2_plugged_4 7 rfl rfl)
theorem dX2_plugged_104 : decode cX2_plugged 104 = .ok (.iconst (-1), 1) := dk_2 (dk_at dksX2_plugged_4 8 rfl rfl)
theorem dX2_plugged_105 : decode cX2_plugged 105 = .ok (.if_icmp .ne 9, 3) := dk_160 0 9 (dk_at dksX2_plugged_4 9 rfl rfl)
theorem dX2_plugged_108 : decode cX2_plugged 108 = .ok (.aload_n 0, 1) := dk_42 (dk_at dksX2_plugged_4 12 rfl rfl)
theorem dX2_plugged_109 : decode cX2_plugged 109 = .ok (.iconst 1, 1) := dk_4 (dk_at dksX2_plugged_4 13 rfl rfl)
theorem dX2_plugged_110 : decode cX2_plugged 110 = .ok (.invokevirtual 143, 3) := dk_182 0 143 (dk_at dksX2_plugged_4 14 rfl rfl)
theorem dX2_plugged_113 : decode cX2_plugged 113 = .ok (.ireturn, 1) := dk_172 (dk_at dksX2_plugged_4 17 rfl rfl)
theorem dX2_plugged_114 : decode cX2_plugged 114 = .ok (.iload_n 2, 1) := dk_28 (dk_at dksX2_plugged_4 18 rfl rfl)
theorem dX2_plugged_115 : decode cX2_plugged 115 = .ok (.iconst 4, 1) := dk_7 (dk_at dksX2_plugged_4 19 rfl rfl)
theorem dX2_plugged_116 : decode cX2_plugged 116 = .ok (.if_icmp .ne 10, 3) := dk_160 0 10 (dk_at dksX2_plugged_4 20 rfl rfl)
theorem dX2_plugged_119 : decode cX2_plugged 119 = .ok (.aload_n 0, 1) := dk_42 (dk_at dksX2_plugged_4 23 rfl rfl)
theorem dX2_plugged_120 : decode cX2_plugged 120 = .ok (.getfield 36, 3) := dk_180 0 36 (dk_at dksX2_plugged_5 0 rfl rfl)
theorem dX2_plugged_123 : decode cX2_plugged 123 = .ok (.iload_n 1, 1) := dk_27 (dk_at dksX2_plugged_5 3 rfl rfl)
theorem dX2_plugged_124 : decode cX2_plugged 124 = .ok (.iaload, 1) := dk_46 (dk_at dksX2_plugged_5 4 rfl rfl)
theorem dX2_plugged_125 : decode cX2_plugged 125 = .ok (.ireturn, 1) := dk_172 (dk_at dksX2_plugged_5 5 rfl rfl)
theorem dX2_plugged_126 : decode cX2_plugged 126 = .ok (.iload_n 2, 1) := dk_28 (dk_at dksX2_plugged_5 6 rfl rfl)
theorem dX2_plugged_127 : decode cX2_plugged 127 = .ok (.iconst 5, 1) := dk_8 (dk_at dksX2_plugged_5 7 rfl rfl)
theorem dX2_plugged_128 : decode cX2_plugged 128 = .ok (.isub, 1) := dk_100 (dk_at dksX2_plugged_5 8 rfl rfl)
theorem dX2_plugged_129 : decode cX2_plugged 129 = .ok (.iconst 0, 1) := dk_3 (dk_at dksX2_plugged_5 9 rfl rfl)
theorem dX2_plugged_130 : decode cX2_plugged 130 = .ok (.aload_n 0, 1) := dk_42 (dk_at dksX2_plugged_5 10 rfl rfl)
theorem dX2_plugged_131 : decode cX2_plugged 131 = .ok (.getfield 36, 3) := dk_180 0 36 (dk_at dksX2_plugged_5 11 rfl rfl)
theorem dX2_plugged_134 : decode cX2_plugged 134 = .ok (.iload_n 1, 1) := dk_27 (dk_at dksX2_plugged_5 14 rfl rfl)
theorem dX2_plugged_135 : decode cX2_plugged 135 = .ok (.iaload, 1) := dk_46 (dk_at dksX2_plugged_5 15 rfl rfl)
theorem dX2_plugged_136 : decode cX2_plugged 136 = .ok (.iconst 1, 1) := dk_4 (dk_at dksX2_plugged_5 16 rfl rfl)
theorem dX2_plugged_137 : decode cX2_plugged 137 = .ok (.isub, 1) := dk_100 (dk_at dksX2_plugged_5 17 rfl rfl)
theorem dX2_plugged_138 : decode cX2_plugged 138 = .ok (.invokestatic 136, 3) := dk_184 0 136 (dk_at dksX2_plugged_5 18 rfl rfl)
theorem dX2_plugged_141 : decode cX2_plugged 141 = .ok (.ifCond .eq 22, 3) := dk_153 0 22 (dk_at dksX2_plugged_5 21 rfl rfl)
theorem dX2_plugged_144 : decode cX2_plugged 144 = .ok (.aload_n 0, 1) := dk_42 (dk_at dksX2_plugged_6 0 rfl rfl)
theorem dX2_plugged_145 : decode cX2_plugged 145 = .ok (.getfield 39, 3) := dk_180 0 39 (dk_at dksX2_plugged_6 1 rfl rfl)
theorem dX2_plugged_148 : decode cX2_plugged 148 = .ok (.bipush 16, 2) := dk_16 16 (dk_at dksX2_plugged_6 4 rfl rfl)
theorem dX2_plugged_150 : decode cX2_plugged 150 = .ok (.iload_n 1, 1) := dk_27 (dk_at dksX2_plugged_6 6 rfl rfl)
theorem dX2_plugged_151 : decode cX2_plugged 151 = .ok (.imul, 1) := dk_104 (dk_at dksX2_plugged_6 7 rfl rfl)
theorem dX2_plugged_152 : decode cX2_plugged 152 = .ok (.iload_n 2, 1) := dk_28 (dk_at dksX2_plugged_6 8 rfl rfl)
theorem dX2_plugged_153 : decode cX2_plugged 153 = .ok (.iadd, 1) := dk_96 (dk_at dksX2_plugged_6 9 rfl rfl)
theorem dX2_plugged_154 : decode cX2_plugged 154 = .ok (.iconst 5, 1) := dk_8 (dk_at dksX2_plugged_6 10 rfl rfl)
theorem dX2_plugged_155 : decode cX2_plugged 155 = .ok (.isub, 1) := dk_100 (dk_at dksX2_plugged_6 11 rfl rfl)
theorem dX2_plugged_156 : decode cX2_plugged 156 = .ok (.faload, 1) := dk_48 (dk_at dksX2_plugged_6 12 rfl rfl)
theorem dX2_plugged_157 : decode cX2_plugged 157 = .ok (.invokestatic 189, 3) := dk_184 0 189 (dk_at dksX2_plugged_6 13 rfl rfl)
theorem dX2_plugged_160 : decode cX2_plugged 160 = .ok (.goto 8, 3) := dk_167 0 8 (dk_at dksX2_plugged_6 16 rfl rfl)
theorem dX2_plugged_163 : decode cX2_plugged 163 = .ok (.aload_n 0, 1) := dk_42 (dk_at dksX2_plugged_6 19 rfl rfl)
theorem dX2_plugged_164 : decode cX2_plugged 164 = .ok (.iconst 2, 1) := dk_5 (dk_at dksX2_plugged_6 20 rfl rfl)
theorem dX2_plugged_165 : decode cX2_plugged 165 = .ok (.invokevirtual 143, 3) := dk_182 0 143 (dk_at dksX2_plugged_6 21 rfl rfl)
theorem dX2_plugged_168 : decode cX2_plugged 168 = .ok (.ireturn, 1) := dk_172 (dk_at dksX2_plugged_7 0 rfl rfl)
abbrev cX2_tail : ByteArray := prog_14_method_14_code
def yX2_tail : MethodName := ⟨RX2, "tail", "(I)I"⟩
def dkwX2_tail_2 : List UInt8 := [4, 172, 6, 172, 42, 180, 0, 27, 27, 46, 172, 42, 180, 0, 27, 27, 46, 6, 96, 172, 3, 172]
abbrev dktX2_tail_2 : List UInt8 := dkwX2_tail_2 ++ []
def dkwX2_tail_1 : List UInt8 := [170, 0, 0, 0, 0, 54, 0, 0, 0, 1, 0, 0, 0, 5, 0, 0, 0, 34, 0, 0, 0, 36, 0, 0, 0, 54, 0, 0, 0, 38, 0, 0, 0, 45]
abbrev dktX2_tail_1 : List UInt8 := dkwX2_tail_1 ++ dktX2_tail_2
def dkwX2_tail_0 : List UInt8 := [42, 180, 0, 20, 27, 46]
abbrev dktX2_tail_0 : List UInt8 := dkwX2_tail_0 ++ dktX2_tail_1
theorem dksX2_tail_0 : cX2_tail.data.toList.drop 0 = dktX2_tail_0 := by decide +kernel
theorem dksX2_tail_1 : cX2_tail.data.toList.drop 6 = dktX2_tail_1 := dk_seg dksX2_tail_0 6 rfl rfl
theorem dksX2_tail_2 : cX2_tail.data.toList.drop 40 = dktX2_tail_2 := dk_seg dksX2_tail_1 34 rfl rfl
theorem dX2_tail_0 : decode cX2_tail 0 = .ok (.aload_n 0, 1) := dk_42 (dk_at dksX2_tail_0 0 rfl rfl)
theorem dX2_tail_1 : decode cX2_tail 1 = .ok (.getfield 20, 3) := dk_180 0 20 (dk_at dksX2_tail_0 1 rfl rfl)
theorem dX2_tail_4 : decode cX2_tail 4 = .ok (.iload_n 1, 1) := dk_27 (dk_at dksX2_tail_0 4 rfl rfl)
theorem dX2_tail_5 : decode cX2_tail 5 = .ok (.iaload, 1) := dk_46 (dk_at dksX2_tail_0 5 rfl rfl)
theorem dX2_tail_6 : decode cX2_tail 6 = .ok (.tableswitch 54 1 5 #[34, 36, 54, 38, 45], 34) := by decide +kernel
theorem dX2_tail_40 : decode cX2_tail 40 = .ok (.iconst 1, 1) := dk_4 (dk_at dksX2_tail_2 0 rfl rfl)
theorem dX2_tail_41 : decode cX2_tail 41 = .ok (.ireturn, 1) := dk_172 (dk_at dksX2_tail_2 1 rfl rfl)
theorem dX2_tail_42 : decode cX2_tail 42 = .ok (.iconst 3, 1) := dk_6 (dk_at dksX2_tail_2 2 rfl rfl)
theorem dX2_tail_43 : decode cX2_tail 43 = .ok (.ireturn, 1) := dk_172 (dk_at dksX2_tail_2 3 rfl rfl)
theorem dX2_tail_44 : decode cX2_tail 44 = .ok (.aload_n 0, 1) := dk_42 (dk_at dksX2_tail_2 4 rfl rfl)
theorem dX2_tail_45 : decode cX2_tail 45 = .ok (.getfield 27, 3) := dk_180 0 27 (dk_at dksX2_tail_2 5 rfl rfl)
theorem dX2_tail_48 : decode cX2_tail 48 = .ok (.iload_n 1, 1) := dk_27 (dk_at dksX2_tail_2 8 rfl rfl)
theorem dX2_tail_49 : decode cX2_tail 49 = .ok (.iaload, 1) := dk_46 (dk_at dksX2_tail_2 9 rfl rfl)
theorem dX2_tail_50 : decode cX2_tail 50 = .ok (.ireturn, 1) := dk_172 (dk_at dksX2_tail_2 10 rfl rfl)
theorem dX2_tail_51 : decode cX2_tail 51 = .ok (.aload_n 0, 1) := dk_42 (dk_at dksX2_tail_2 11 rfl rfl)
theorem dX2_tail_52 : decode cX2_tail 52 = .ok (.getfield 27, 3) := dk_180 0 27 (dk_at dksX2_tail_2 12 rfl rfl)
theorem dX2_tail_55 : decode cX2_tail 55 = .ok (.iload_n 1, 1) := dk_27 (dk_at dksX2_tail_2 15 rfl rfl)
theorem dX2_tail_56 : decode cX2_tail 56 = .ok (.iaload, 1) := dk_46 (dk_at dksX2_tail_2 16 rfl rfl)
theorem dX2_tail_57 : decode cX2_tail 57 = .ok (.iconst 3, 1) := dk_6 (dk_at dksX2_tail_2 17 rfl rfl)
theorem dX2_tail_58 : decode cX2_tail 58 = .ok (.iadd, 1) := dk_96 (dk_at dksX2_tail_2 18 rfl rfl)
theorem dX2_tail_59 : decode cX2_tail 59 = .ok (.ireturn, 1) := dk_172 (dk_at dksX2_tail_2 19 rfl rfl)
theorem dX2_tail_60 : decode cX2_tail 60 = .ok (.iconst 0, 1) := dk_3 (dk_at dksX2_tail_2 20 rfl rfl)
theorem dX2_tail_61 : decode cX2_tail 61 = .ok (.ireturn, 1) := dk_172 (dk_at dksX2_tail_2 21 rfl rfl)
abbrev cX2_track : ByteArray := prog_14_method_22_code
def yX2_track : MethodName := ⟨RX2, "track", "(IIIZ)I"⟩
def dkwX2_track_1 : List UInt8 := [42, 3, 27, 28, 29, 21, 4, 153, 0, 7, 4, 167, 0, 4, 3, 182, 0, 235, 172]
abbrev dktX2_track_1 : List UInt8 := dkwX2_track_1 ++ []
def dkwX2_track_0 : List UInt8 := [27, 184, 0, 232, 153, 0, 17, 28, 2, 42, 180, 0, 140, 4, 100, 184, 0, 136, 154, 0, 6, 16, 155, 172]
abbrev dktX2_track_0 : List UInt8 := dkwX2_track_0 ++ dktX2_track_1
theorem dksX2_track_0 : cX2_track.data.toList.drop 0 = dktX2_track_0 := by decide +kernel
theorem dksX2_track_1 : cX2_track.data.toList.drop 24 = dktX2_track_1 := dk_seg dksX2_track_0 24 rfl rfl
theorem dX2_track_0 : decode cX2_track 0 = .ok (.iload_n 1, 1) := dk_27 (dk_at dksX2_track_0 0 rfl rfl)
theorem dX2_track_1 : decode cX2_track 1 = .ok (.invokestatic 232, 3) := dk_184 0 232 (dk_at dksX2_track_0 1 rfl rfl)
theorem dX2_track_4 : decode cX2_track 4 = .ok (.ifCond .eq 17, 3) := dk_153 0 17 (dk_at dksX2_track_0 4 rfl rfl)
theorem dX2_track_7 : decode cX2_track 7 = .ok (.iload_n 2, 1) := dk_28 (dk_at dksX2_track_0 7 rfl rfl)
theorem dX2_track_8 : decode cX2_track 8 = .ok (.iconst (-1), 1) := dk_2 (dk_at dksX2_track_0 8 rfl rfl)
theorem dX2_track_9 : decode cX2_track 9 = .ok (.aload_n 0, 1) := dk_42 (dk_at dksX2_track_0 9 rfl rfl)
theorem dX2_track_10 : decode cX2_track 10 = .ok (.getfield 140, 3) := dk_180 0 140 (dk_at dksX2_track_0 10 rfl rfl)
theorem dX2_track_13 : decode cX2_track 13 = .ok (.iconst 1, 1) := dk_4 (dk_at dksX2_track_0 13 rfl rfl)
theorem dX2_track_14 : decode cX2_track 14 = .ok (.isub, 1) := dk_100 (dk_at dksX2_track_0 14 rfl rfl)
theorem dX2_track_15 : decode cX2_track 15 = .ok (.invokestatic 136, 3) := dk_184 0 136 (dk_at dksX2_track_0 15 rfl rfl)
theorem dX2_track_18 : decode cX2_track 18 = .ok (.ifCond .ne 6, 3) := dk_154 0 6 (dk_at dksX2_track_0 18 rfl rfl)
theorem dX2_track_21 : decode cX2_track 21 = .ok (.bipush (-101), 2) := dk_16 155 (dk_at dksX2_track_0 21 rfl rfl)
theorem dX2_track_23 : decode cX2_track 23 = .ok (.ireturn, 1) := dk_172 (dk_at dksX2_track_0 23 rfl rfl)
theorem dX2_track_24 : decode cX2_track 24 = .ok (.aload_n 0, 1) := dk_42 (dk_at dksX2_track_1 0 rfl rfl)
theorem dX2_track_25 : decode cX2_track 25 = .ok (.iconst 0, 1) := dk_3 (dk_at dksX2_track_1 1 rfl rfl)
theorem dX2_track_26 : decode cX2_track 26 = .ok (.iload_n 1, 1) := dk_27 (dk_at dksX2_track_1 2 rfl rfl)
theorem dX2_track_27 : decode cX2_track 27 = .ok (.iload_n 2, 1) := dk_28 (dk_at dksX2_track_1 3 rfl rfl)
theorem dX2_track_28 : decode cX2_track 28 = .ok (.iload_n 3, 1) := dk_29 (dk_at dksX2_track_1 4 rfl rfl)
theorem dX2_track_29 : decode cX2_track 29 = .ok (.iload 4, 2) := dk_21 4 (dk_at dksX2_track_1 5 rfl rfl)
theorem dX2_track_31 : decode cX2_track 31 = .ok (.ifCond .eq 7, 3) := dk_153 0 7 (dk_at dksX2_track_1 7 rfl rfl)
theorem dX2_track_34 : decode cX2_track 34 = .ok (.iconst 1, 1) := dk_4 (dk_at dksX2_track_1 10 rfl rfl)
theorem dX2_track_35 : decode cX2_track 35 = .ok (.goto 4, 3) := dk_167 0 4 (dk_at dksX2_track_1 11 rfl rfl)
theorem dX2_track_38 : decode cX2_track 38 = .ok (.iconst 0, 1) := dk_3 (dk_at dksX2_track_1 14 rfl rfl)
theorem dX2_track_39 : decode cX2_track 39 = .ok (.invokevirtual 235, 3) := dk_182 0 235 (dk_at dksX2_track_1 15 rfl rfl)
theorem dX2_track_42 : decode cX2_track 42 = .ok (.ireturn, 1) := dk_172 (dk_at dksX2_track_1 18 rfl rfl)
abbrev cX2_isTrack : ByteArray := prog_14_method_21_code
def yX2_isTrack : MethodName := ⟨RX2, "isTrack", "(I)Z"⟩
def dkwX2_isTrack_0 : List UInt8 := [26, 3, 16, 7, 184, 0, 136, 172]
abbrev dktX2_isTrack_0 : List UInt8 := dkwX2_isTrack_0 ++ []
theorem dksX2_isTrack_0 : cX2_isTrack.data.toList.drop 0 = dktX2_isTrack_0 := by decide +kernel
theorem dX2_isTrack_0 : decode cX2_isTrack 0 = .ok (.iload_n 0, 1) := dk_26 (dk_at dksX2_isTrack_0 0 rfl rfl)
theorem dX2_isTrack_1 : decode cX2_isTrack 1 = .ok (.iconst 0, 1) := dk_3 (dk_at dksX2_isTrack_0 1 rfl rfl)
theorem dX2_isTrack_2 : decode cX2_isTrack 2 = .ok (.bipush 7, 2) := dk_16 7 (dk_at dksX2_isTrack_0 2 rfl rfl)
theorem dX2_isTrack_4 : decode cX2_isTrack 4 = .ok (.invokestatic 136, 3) := dk_184 0 136 (dk_at dksX2_isTrack_0 4 rfl rfl)
theorem dX2_isTrack_7 : decode cX2_isTrack 7 = .ok (.ireturn, 1) := dk_172 (dk_at dksX2_isTrack_0 7 rfl rfl)
abbrev cX2_edit : ByteArray := prog_14_method_19_code
def yX2_edit : MethodName := ⟨RX2, "edit", "(IIIII)I"⟩
def dkwX2_edit_4 : List UInt8 := [3, 172]
abbrev dktX2_edit_4 : List UInt8 := dkwX2_edit_4 ++ []
def dkwX2_edit_3 : List UInt8 := [21, 4, 79, 42, 180, 0, 122, 42, 180, 0, 226, 21, 5, 79, 42, 89, 180, 0, 226, 4, 96, 181, 0, 226]
abbrev dktX2_edit_3 : List UInt8 := dkwX2_edit_3 ++ dktX2_edit_4
def dkwX2_edit_2 : List UInt8 := [180, 0, 226, 28, 79, 42, 180, 0, 116, 42, 180, 0, 226, 29, 79, 42, 180, 0, 119, 42, 180, 0, 226]
abbrev dktX2_edit_2 : List UInt8 := dkwX2_edit_2 ++ dktX2_edit_3
def dkwX2_edit_1 : List UInt8 := [16, 30, 160, 0, 6, 16, 152, 172, 42, 180, 0, 110, 42, 180, 0, 226, 27, 79, 42, 180, 0, 113, 42]
abbrev dktX2_edit_1 : List UInt8 := dkwX2_edit_1 ++ dktX2_edit_2
def dkwX2_edit_0 : List UInt8 := [42, 180, 0, 159, 154, 0, 15, 42, 27, 28, 29, 21, 4, 21, 5, 182, 0, 222, 172, 42, 180, 0, 226]
abbrev dktX2_edit_0 : List UInt8 := dkwX2_edit_0 ++ dktX2_edit_1
theorem dksX2_edit_0 : cX2_edit.data.toList.drop 0 = dktX2_edit_0 := by decide +kernel
theorem dksX2_edit_1 : cX2_edit.data.toList.drop 23 = dktX2_edit_1 := dk_seg dksX2_edit_0 23 rfl rfl
theorem dksX2_edit_2 : cX2_edit.data.toList.drop 46 = dktX2_edit_2 := dk_seg dksX2_edit_1 23 rfl rfl
theorem dksX2_edit_3 : cX2_edit.data.toList.drop 69 = dktX2_edit_3 := dk_seg dksX2_edit_2 23 rfl rfl
theorem dksX2_edit_4 : cX2_edit.data.toList.drop 93 = dktX2_edit_4 := dk_seg dksX2_edit_3 24 rfl rfl
theorem dX2_edit_0 : decode cX2_edit 0 = .ok (.aload_n 0, 1) := dk_42 (dk_at dksX2_edit_0 0 rfl rfl)
theorem dX2_edit_1 : decode cX2_edit 1 = .ok (.getfield 159, 3) := dk_180 0 159 (dk_at dksX2_edit_0 1 rfl rfl)
theorem dX2_edit_4 : decode cX2_edit 4 = .ok (.ifCond .ne 15, 3) := dk_154 0 15 (dk_at dksX2_edit_0 4 rfl rfl)
theorem dX2_edit_7 : decode cX2_edit 7 = .ok (.aload_n 0, 1) := dk_42 (dk_at dksX2_edit_0 7 rfl rfl)
theorem dX2_edit_8 : decode cX2_edit 8 = .ok (.iload_n 1, 1) := dk_27 (dk_at dksX2_edit_0 8 rfl rfl)
theorem dX2_edit_9 : decode cX2_edit 9 = .ok (.iload_n 2, 1) := dk_28 (dk_at dksX2_edit_0 9 rfl rfl)
theorem dX2_edit_10 : decode cX2_edit 10 = .ok (.iload_n 3, 1) := dk_29 (dk_at dksX2_edit_0 10 rfl rfl)
theorem dX2_edit_11 : decode cX2_edit 11 = .ok (.iload 4, 2) := dk_21 4 (dk_at dksX2_edit_0 11 rfl rfl)
theorem dX2_edit_13 : decode cX2_edit 13 = .ok (.iload 5, 2) := dk_21 5 (dk_at dksX2_edit_0 13 rfl rfl)
theorem dX2_edit_15 : decode cX2_edit 15 = .ok (.invokevirtual 222, 3) := dk_182 0 222 (dk_at dksX2_edit_0 15 rfl rfl)
theorem dX2_edit_18 : decode cX2_edit 18 = .ok (.ireturn, 1) := dk_172 (dk_at dksX2_edit_0 18 rfl rfl)
theorem dX2_edit_19 : decode cX2_edit 19 = .ok (.aload_n 0, 1) := dk_42 (dk_at dksX2_edit_0 19 rfl rfl)
theorem dX2_edit_20 : decode cX2_edit 20 = .ok (.getfield 226, 3) := dk_180 0 226 (dk_at dksX2_edit_0 20 rfl rfl)
theorem dX2_edit_23 : decode cX2_edit 23 = .ok (.bipush 30, 2) := dk_16 30 (dk_at dksX2_edit_1 0 rfl rfl)
theorem dX2_edit_25 : decode cX2_edit 25 = .ok (.if_icmp .ne 6, 3) := dk_160 0 6 (dk_at dksX2_edit_1 2 rfl rfl)
theorem dX2_edit_28 : decode cX2_edit 28 = .ok (.bipush (-104), 2) := dk_16 152 (dk_at dksX2_edit_1 5 rfl rfl)
theorem dX2_edit_30 : decode cX2_edit 30 = .ok (.ireturn, 1) := dk_172 (dk_at dksX2_edit_1 7 rfl rfl)
theorem dX2_edit_31 : decode cX2_edit 31 = .ok (.aload_n 0, 1) := dk_42 (dk_at dksX2_edit_1 8 rfl rfl)
theorem dX2_edit_32 : decode cX2_edit 32 = .ok (.getfield 110, 3) := dk_180 0 110 (dk_at dksX2_edit_1 9 rfl rfl)
theorem dX2_edit_35 : decode cX2_edit 35 = .ok (.aload_n 0, 1) := dk_42 (dk_at dksX2_edit_1 12 rfl rfl)
theorem dX2_edit_36 : decode cX2_edit 36 = .ok (.getfield 226, 3) := dk_180 0 226 (dk_at dksX2_edit_1 13 rfl rfl)
theorem dX2_edit_39 : decode cX2_edit 39 = .ok (.iload_n 1, 1) := dk_27 (dk_at dksX2_edit_1 16 rfl rfl)
theorem dX2_edit_40 : decode cX2_edit 40 = .ok (.iastore, 1) := dk_79 (dk_at dksX2_edit_1 17 rfl rfl)
theorem dX2_edit_41 : decode cX2_edit 41 = .ok (.aload_n 0, 1) := dk_42 (dk_at dksX2_edit_1 18 rfl rfl)
theorem dX2_edit_42 : decode cX2_edit 42 = .ok (.getfield 113, 3) := dk_180 0 113 (dk_at dksX2_edit_1 19 rfl rfl)
theorem dX2_edit_45 : decode cX2_edit 45 = .ok (.aload_n 0, 1) := dk_42 (dk_at dksX2_edit_1 22 rfl rfl)
theorem dX2_edit_46 : decode cX2_edit 46 = .ok (.getfield 226, 3) := dk_180 0 226 (dk_at dksX2_edit_2 0 rfl rfl)
theorem dX2_edit_49 : decode cX2_edit 49 = .ok (.iload_n 2, 1) := dk_28 (dk_at dksX2_edit_2 3 rfl rfl)
theorem dX2_edit_50 : decode cX2_edit 50 = .ok (.iastore, 1) := dk_79 (dk_at dksX2_edit_2 4 rfl rfl)
theorem dX2_edit_51 : decode cX2_edit 51 = .ok (.aload_n 0, 1) := dk_42 (dk_at dksX2_edit_2 5 rfl rfl)
theorem dX2_edit_52 : decode cX2_edit 52 = .ok (.getfield 116, 3) := dk_180 0 116 (dk_at dksX2_edit_2 6 rfl rfl)
theorem dX2_edit_55 : decode cX2_edit 55 = .ok (.aload_n 0, 1) := dk_42 (dk_at dksX2_edit_2 9 rfl rfl)
theorem dX2_edit_56 : decode cX2_edit 56 = .ok (.getfield 226, 3) := dk_180 0 226 (dk_at dksX2_edit_2 10 rfl rfl)
theorem dX2_edit_59 : decode cX2_edit 59 = .ok (.iload_n 3, 1) := dk_29 (dk_at dksX2_edit_2 13 rfl rfl)
theorem dX2_edit_60 : decode cX2_edit 60 = .ok (.iastore, 1) := dk_79 (dk_at dksX2_edit_2 14 rfl rfl)
theorem dX2_edit_61 : decode cX2_edit 61 = .ok (.aload_n 0, 1) := dk_42 (dk_at dksX2_edit_2 15 rfl rfl)
theorem dX2_edit_62 : decode cX2_edit 62 = .ok (.getfield 119, 3) := dk_180 0 119 (dk_at dksX2_edit_2 16 rfl rfl)
theorem dX2_edit_65 : decode cX2_edit 65 = .ok (.aload_n 0, 1) := dk_42 (dk_at dksX2_edit_2 19 rfl rfl)
theorem dX2_edit_66 : decode cX2_edit 66 = .ok (.getfield 226, 3) := dk_180 0 226 (dk_at dksX2_edit_2 20 rfl rfl)
theorem dX2_edit_69 : decode cX2_edit 69 = .ok (.iload 4, 2) := dk_21 4 (dk_at dksX2_edit_3 0 rfl rfl)
theorem dX2_edit_71 : decode cX2_edit 71 = .ok (.iastore, 1) := dk_79 (dk_at dksX2_edit_3 2 rfl rfl)
theorem dX2_edit_72 : decode cX2_edit 72 = .ok (.aload_n 0, 1) := dk_42 (dk_at dksX2_edit_3 3 rfl rfl)
theorem dX2_edit_73 : decode cX2_edit 73 = .ok (.getfield 122, 3) := dk_180 0 122 (dk_at dksX2_edit_3 4 rfl rfl)
theorem dX2_edit_76 : decode cX2_edit 76 = .ok (.aload_n 0, 1) := dk_42 (dk_at dksX2_edit_3 7 rfl rfl)
theorem dX2_edit_77 : decode cX2_edit 77 = .ok (.getfield 226, 3) := dk_180 0 226 (dk_at dksX2_edit_3 8 rfl rfl)
theorem dX2_edit_80 : decode cX2_edit 80 = .ok (.iload 5, 2) := dk_21 5 (dk_at dksX2_edit_3 11 rfl rfl)
theorem dX2_edit_82 : decode cX2_edit 82 = .ok (.iastore, 1) := dk_79 (dk_at dksX2_edit_3 13 rfl rfl)
theorem dX2_edit_83 : decode cX2_edit 83 = .ok (.aload_n 0, 1) := dk_42 (dk_at dksX2_edit_3 14 rfl rfl)
theorem dX2_edit_84 : decode cX2_edit 84 = .ok (.dup, 1) := dk_89 (dk_at dksX2_edit_3 15 rfl rfl)
theorem dX2_edit_85 : decode cX2_edit 85 = .ok (.getfield 226, 3) := dk_180 0 226 (dk_at dksX2_edit_3 16 rfl rfl)
theorem dX2_edit_88 : decode cX2_edit 88 = .ok (.iconst 1, 1) := dk_4 (dk_at dksX2_edit_3 19 rfl rfl)
theorem dX2_edit_89 : decode cX2_edit 89 = .ok (.iadd, 1) := dk_96 (dk_at dksX2_edit_3 20 rfl rfl)
theorem dX2_edit_90 : decode cX2_edit 90 = .ok (.putfield 226, 3) := dk_181 0 226 (dk_at dksX2_edit_3 21 rfl rfl)
theorem dX2_edit_93 : decode cX2_edit 93 = .ok (.iconst 0, 1) := dk_3 (dk_at dksX2_edit_4 0 rfl rfl)
theorem dX2_edit_94 : decode cX2_edit 94 = .ok (.ireturn, 1) := dk_172 (dk_at dksX2_edit_4 1 rfl rfl)
abbrev cX2_does : ByteArray := prog_14_method_20_code
def yX2_does : MethodName := ⟨RX2, "does", "(IIIII)I"⟩
def dkwX2_does_11 : List UInt8 := [21, 6, 96, 11, 81, 132, 6, 1, 167, 255, 233, 42, 89, 180, 0, 229, 4, 96, 181, 0, 229, 4, 172]
abbrev dktX2_does_11 : List UInt8 := dkwX2_does_11 ++ []
def dkwX2_does_10 : List UInt8 := [180, 0, 33, 28, 3, 79, 3, 54, 6, 21, 6, 16, 16, 162, 0, 22, 42, 180, 0, 39, 16, 16, 28, 104]
abbrev dktX2_does_10 : List UInt8 := dkwX2_does_10 ++ dktX2_does_11
def dkwX2_does_9 : List UInt8 := [182, 0, 143, 172, 29, 2, 162, 0, 9, 42, 8, 182, 0, 143, 172, 42, 180, 0, 36, 28, 29, 79, 42]
abbrev dktX2_does_9 : List UInt8 := dkwX2_does_9 ++ dktX2_does_10
def dkwX2_does_8 : List UInt8 := [167, 0, 4, 3, 84, 167, 0, 75, 42, 180, 0, 20, 28, 46, 184, 0, 199, 154, 0, 9, 42, 6]
abbrev dktX2_does_8 : List UInt8 := dkwX2_does_8 ++ dktX2_does_9
def dkwX2_does_7 : List UInt8 := [29, 184, 0, 173, 81, 167, 0, 99, 27, 7, 160, 0, 22, 42, 180, 0, 45, 28, 29, 4, 160, 0, 7, 4]
abbrev dktX2_does_7 : List UInt8 := dkwX2_does_7 ++ dktX2_does_8
def dkwX2_does_6 : List UInt8 := [180, 0, 64, 7, 28, 104, 29, 96, 21, 4, 79, 167, 0, 117, 27, 6, 160, 0, 16, 42, 180, 0, 58, 28]
abbrev dktX2_does_6 : List UInt8 := dkwX2_does_6 ++ dktX2_does_7
def dkwX2_does_5 : List UInt8 := [21, 4, 2, 159, 0, 20, 42, 180, 0, 20, 21, 4, 46, 5, 164, 0, 9, 42, 7, 182, 0, 143, 172, 42]
abbrev dktX2_does_5 : List UInt8 := dkwX2_does_5 ++ dktX2_does_6
def dkwX2_does_4 : List UInt8 := [29, 3, 6, 184, 0, 136, 154, 0, 9, 42, 5, 182, 0, 143, 172, 42, 180, 0, 61, 28, 51, 153, 0, 26]
abbrev dktX2_does_4 : List UInt8 := dkwX2_does_4 ++ dktX2_does_5
def dkwX2_does_3 : List UInt8 := [42, 180, 0, 61, 28, 29, 4, 160, 0, 7, 4, 167, 0, 4, 3, 84, 167, 0, 184, 27, 5, 160, 0, 65]
abbrev dktX2_does_3 : List UInt8 := dkwX2_does_3 ++ dktX2_does_4
def dkwX2_does_2 : List UInt8 := [21, 6, 7, 162, 0, 21, 42, 180, 0, 64, 7, 28, 104, 21, 6, 96, 2, 79, 132, 6, 1, 167, 255, 235]
abbrev dktX2_does_2 : List UInt8 := dkwX2_does_2 ++ dktX2_does_3
def dkwX2_does_1 : List UInt8 := [21, 5, 4, 160, 0, 7, 4, 167, 0, 4, 3, 84, 167, 0, 235, 27, 4, 160, 0, 49, 3, 54, 6]
abbrev dktX2_does_1 : List UInt8 := dkwX2_does_1 ++ dktX2_does_2
def dkwX2_does_0 : List UInt8 := [27, 154, 0, 38, 42, 180, 0, 49, 28, 29, 79, 42, 180, 0, 52, 28, 21, 4, 79, 42, 180, 0, 55, 28]
abbrev dktX2_does_0 : List UInt8 := dkwX2_does_0 ++ dktX2_does_1
theorem dksX2_does_0 : cX2_does.data.toList.drop 0 = dktX2_does_0 := by decide +kernel
theorem dksX2_does_1 : cX2_does.data.toList.drop 24 = dktX2_does_1 := dk_seg dksX2_does_0 24 rfl rfl
theorem dksX2_does_2 : cX2_does.data.toList.drop 47 = dktX2_does_2 := dk_seg dksX2_does_1 23 rfl rfl
theorem dksX2_does_3 : cX2_does.data.toList.drop 71 = dktX2_does_3 := dk_seg dksX2_does_2 24 rfl rfl
theorem dksX2_does_4 : cX2_does.data.toList.drop 95 = dktX2_does_4 := dk_seg dksX2_does_3 24 rfl rfl
theorem dksX2_does_5 : cX2_does.data.toList.drop 119 = dktX2_does_5 := dk_seg dksX2_does_4 24 rfl rfl
theorem dksX2_does_6 : cX2_does.data.toList.drop 143 = dktX2_does_6 := dk_seg dksX2_does_5 24 rfl rfl
theorem dksX2_does_7 : cX2_does.data.toList.drop 167 = dktX2_does_7 := dk_seg dksX2_does_6 24 rfl rfl
theorem dksX2_does_8 : cX2_does.data.toList.drop 191 = dktX2_does_8 := dk_seg dksX2_does_7 24 rfl rfl
theorem dksX2_does_9 : cX2_does.data.toList.drop 213 = dktX2_does_9 := dk_seg dksX2_does_8 22 rfl rfl
theorem dksX2_does_10 : cX2_does.data.toList.drop 236 = dktX2_does_10 := dk_seg dksX2_does_9 23 rfl rfl
theorem dksX2_does_11 : cX2_does.data.toList.drop 260 = dktX2_does_11 := dk_seg dksX2_does_10 24 rfl rfl
theorem dX2_does_0 : decode cX2_does 0 = .ok (.iload_n 1, 1) := dk_27 (dk_at dksX2_does_0 0 rfl rfl)
theorem dX2_does_1 : decode cX2_does 1 = .ok (.ifCond .ne 38, 3) := dk_154 0 38 (dk_at dksX2_does_0 1 rfl rfl)
theorem dX2_does_4 : decode cX2_does 4 = .ok (.aload_n 0, 1) := dk_42 (dk_at dksX2_does_0 4 rfl rfl)
theorem dX2_does_5 : decode cX2_does 5 = .ok (.getfield 49, 3) := dk_180 0 49 (dk_at dksX2_does_0 5 rfl rfl)
theorem dX2_does_8 : decode cX2_does 8 = .ok (.iload_n 2, 1) := dk_28 (dk_at dksX2_does_0 8 rfl rfl)
theorem dX2_does_9 : decode cX2_does 9 = .ok (.iload_n 3, 1) := dk_29 (dk_at dksX2_does_0 9 rfl rfl)
theorem dX2_does_10 : decode cX2_does 10 = .ok (.iastore, 1) := dk_79 (dk_at dksX2_does_0 10 rfl rfl)
theorem dX2_does_11 : decode cX2_does 11 = .ok (.aload_n 0, 1) := dk_42 (dk_at dksX2_does_0 11 rfl rfl)
theorem dX2_does_12 : decode cX2_does 12 = .ok (.getfield 52, 3) := dk_180 0 52 (dk_at dksX2_does_0 12 rfl rfl)
theorem dX2_does_15 : decode cX2_does 15 = .ok (.iload_n 2, 1) := dk_28 (dk_at dksX2_does_0 15 rfl rfl)
theorem dX2_does_16 : decode cX2_does 16 = .ok (.iload 4, 2) := dk_21 4 (dk_at dksX2_does_0 16 rfl rfl)
theorem dX2_does_18 : decode cX2_does 18 = .ok (.iastore, 1) := dk_79 (dk_at dksX2_does_0 18 rfl rfl)
theorem dX2_does_19 : decode cX2_does 19 = .ok (.aload_n 0, 1) := dk_42 (dk_at dksX2_does_0 19 rfl rfl)
theorem dX2_does_20 : decode cX2_does 20 = .ok (.getfield 55, 3) := dk_180 0 55 (dk_at dksX2_does_0 20 rfl rfl)
theorem dX2_does_23 : decode cX2_does 23 = .ok (.iload_n 2, 1) := dk_28 (dk_at dksX2_does_0 23 rfl rfl)
theorem dX2_does_24 : decode cX2_does 24 = .ok (.iload 5, 2) := dk_21 5 (dk_at dksX2_does_1 0 rfl rfl)
theorem dX2_does_26 : decode cX2_does 26 = .ok (.iconst 1, 1) := dk_4 (dk_at dksX2_does_1 2 rfl rfl)
theorem dX2_does_27 : decode cX2_does 27 = .ok (.if_icmp .ne 7, 3) := dk_160 0 7 (dk_at dksX2_does_1 3 rfl rfl)
theorem dX2_does_30 : decode cX2_does 30 = .ok (.iconst 1, 1) := dk_4 (dk_at dksX2_does_1 6 rfl rfl)
theorem dX2_does_31 : decode cX2_does 31 = .ok (.goto 4, 3) := dk_167 0 4 (dk_at dksX2_does_1 7 rfl rfl)
theorem dX2_does_34 : decode cX2_does 34 = .ok (.iconst 0, 1) := dk_3 (dk_at dksX2_does_1 10 rfl rfl)
theorem dX2_does_35 : decode cX2_does 35 = .ok (.bastore, 1) := dk_84 (dk_at dksX2_does_1 11 rfl rfl)
theorem dX2_does_36 : decode cX2_does 36 = .ok (.goto 235, 3) := dk_167 0 235 (dk_at dksX2_does_1 12 rfl rfl)
theorem dX2_does_39 : decode cX2_does 39 = .ok (.iload_n 1, 1) := dk_27 (dk_at dksX2_does_1 15 rfl rfl)
theorem dX2_does_40 : decode cX2_does 40 = .ok (.iconst 1, 1) := dk_4 (dk_at dksX2_does_1 16 rfl rfl)
theorem dX2_does_41 : decode cX2_does 41 = .ok (.if_icmp .ne 49, 3) := dk_160 0 49 (dk_at dksX2_does_1 17 rfl rfl)
theorem dX2_does_44 : decode cX2_does 44 = .ok (.iconst 0, 1) := dk_3 (dk_at dksX2_does_1 20 rfl rfl)
theorem dX2_does_45 : decode cX2_does 45 = .ok (.istore 6, 2) := dk_54 6 (dk_at dksX2_does_1 21 rfl rfl)
theorem dX2_does_47 : decode cX2_does 47 = .ok (.iload 6, 2) := dk_21 6 (dk_at dksX2_does_2 0 rfl rfl)
theorem dX2_does_49 : decode cX2_does 49 = .ok (.iconst 4, 1) := dk_7 (dk_at dksX2_does_2 2 rfl rfl)
theorem dX2_does_50 : decode cX2_does 50 = .ok (.if_icmp .ge 21, 3) := dk_162 0 21 (dk_at dksX2_does_2 3 rfl rfl)
theorem dX2_does_53 : decode cX2_does 53 = .ok (.aload_n 0, 1) := dk_42 (dk_at dksX2_does_2 6 rfl rfl)
theorem dX2_does_54 : decode cX2_does 54 = .ok (.getfield 64, 3) := dk_180 0 64 (dk_at dksX2_does_2 7 rfl rfl)
theorem dX2_does_57 : decode cX2_does 57 = .ok (.iconst 4, 1) := dk_7 (dk_at dksX2_does_2 10 rfl rfl)
theorem dX2_does_58 : decode cX2_does 58 = .ok (.iload_n 2, 1) := dk_28 (dk_at dksX2_does_2 11 rfl rfl)
theorem dX2_does_59 : decode cX2_does 59 = .ok (.imul, 1) := dk_104 (dk_at dksX2_does_2 12 rfl rfl)
theorem dX2_does_60 : decode cX2_does 60 = .ok (.iload 6, 2) := dk_21 6 (dk_at dksX2_does_2 13 rfl rfl)
theorem dX2_does_62 : decode cX2_does 62 = .ok (.iadd, 1) := dk_96 (dk_at dksX2_does_2 15 rfl rfl)
theorem dX2_does_63 : decode cX2_does 63 = .ok (.iconst (-1), 1) := dk_2 (dk_at dksX2_does_2 16 rfl rfl)
theorem dX2_does_64 : decode cX2_does 64 = .ok (.iastore, 1) := dk_79 (dk_at dksX2_does_2 17 rfl rfl)
theorem dX2_does_65 : decode cX2_does 65 = .ok (.iinc 6 1, 3) := dk_132 6 1 (dk_at dksX2_does_2 18 rfl rfl)
theorem dX2_does_68 : decode cX2_does 68 = .ok (.goto (-21), 3) := dk_167 255 235 (dk_at dksX2_does_2 21 rfl rfl)
theorem dX2_does_71 : decode cX2_does 71 = .ok (.aload_n 0, 1) := dk_42 (dk_at dksX2_does_3 0 rfl rfl)
theorem dX2_does_72 : decode cX2_does 72 = .ok (.getfield 61, 3) := dk_180 0 61 (dk_at dksX2_does_3 1 rfl rfl)
theorem dX2_does_75 : decode cX2_does 75 = .ok (.iload_n 2, 1) := dk_28 (dk_at dksX2_does_3 4 rfl rfl)
theorem dX2_does_76 : decode cX2_does 76 = .ok (.iload_n 3, 1) := dk_29 (dk_at dksX2_does_3 5 rfl rfl)
theorem dX2_does_77 : decode cX2_does 77 = .ok (.iconst 1, 1) := dk_4 (dk_at dksX2_does_3 6 rfl rfl)
theorem dX2_does_78 : decode cX2_does 78 = .ok (.if_icmp .ne 7, 3) := dk_160 0 7 (dk_at dksX2_does_3 7 rfl rfl)
theorem dX2_does_81 : decode cX2_does 81 = .ok (.iconst 1, 1) := dk_4 (dk_at dksX2_does_3 10 rfl rfl)
theorem dX2_does_82 : decode cX2_does 82 = .ok (.goto 4, 3) := dk_167 0 4 (dk_at dksX2_does_3 11 rfl rfl)
theorem dX2_does_85 : decode cX2_does 85 = .ok (.iconst 0, 1) := dk_3 (dk_at dksX2_does_3 14 rfl rfl)
theorem dX2_does_86 : decode cX2_does 86 = .ok (.bastore, 1) := dk_84 (dk_at dksX2_does_3 15 rfl rfl)
theorem dX2_does_87 : decode cX2_does 87 = .ok (.goto 184, 3) := dk_167 0 184 (dk_at dksX2_does_3 16 rfl rfl)
theorem dX2_does_90 : decode cX2_does 90 = .ok (.iload_n 1, 1) := dk_27 (dk_at dksX2_does_3 19 rfl rfl)
theorem dX2_does_91 : decode cX2_does 91 = .ok (.iconst 2, 1) := dk_5 (dk_at dksX2_does_3 20 rfl rfl)
theorem dX2_does_92 : decode cX2_does 92 = .ok (.if_icmp .ne 65, 3) := dk_160 0 65 (dk_at dksX2_does_3 21 rfl rfl)
theorem dX2_does_95 : decode cX2_does 95 = .ok (.iload_n 3, 1) := dk_29 (dk_at dksX2_does_4 0 rfl rfl)
theorem dX2_does_96 : decode cX2_does 96 = .ok (.iconst 0, 1) := dk_3 (dk_at dksX2_does_4 1 rfl rfl)
theorem dX2_does_97 : decode cX2_does 97 = .ok (.iconst 3, 1) := dk_6 (dk_at dksX2_does_4 2 rfl rfl)
theorem dX2_does_98 : decode cX2_does 98 = .ok (.invokestatic 136, 3) := dk_184 0 136 (dk_at dksX2_does_4 3 rfl rfl)
theorem dX2_does_101 : decode cX2_does 101 = .ok (.ifCond .ne 9, 3) := dk_154 0 9 (dk_at dksX2_does_4 6 rfl rfl)
theorem dX2_does_104 : decode cX2_does 104 = .ok (.aload_n 0, 1) := dk_42 (dk_at dksX2_does_4 9 rfl rfl)
theorem dX2_does_105 : decode cX2_does 105 = .ok (.iconst 2, 1) := dk_5 (dk_at dksX2_does_4 10 rfl rfl)
theorem dX2_does_106 : decode cX2_does 106 = .ok (.invokevirtual 143, 3) := dk_182 0 143 (dk_at dksX2_does_4 11 rfl rfl)
theorem dX2_does_109 : decode cX2_does 109 = .ok (.ireturn, 1) := dk_172 (dk_at dksX2_does_4 14 rfl rfl)
theorem dX2_does_110 : decode cX2_does 110 = .ok (.aload_n 0, 1) := dk_42 (dk_at dksX2_does_4 15 rfl rfl)
theorem dX2_does_111 : decode cX2_does 111 = .ok (.getfield 61, 3) := dk_180 0 61 (dk_at dksX2_does_4 16 rfl rfl)
theorem dX2_does_114 : decode cX2_does 114 = .ok (.iload_n 2, 1) := dk_28 (dk_at dksX2_does_4 19 rfl rfl)
theorem dX2_does_115 : decode cX2_does 115 = .ok (.baload, 1) := dk_51 (dk_at dksX2_does_4 20 rfl rfl)
theorem dX2_does_116 : decode cX2_does 116 = .ok (.ifCond .eq 26, 3) := dk_153 0 26 (dk_at dksX2_does_4 21 rfl rfl)
theorem dX2_does_119 : decode cX2_does 119 = .ok (.iload 4, 2) := dk_21 4 (dk_at dksX2_does_5 0 rfl rfl)
theorem dX2_does_121 : decode cX2_does 121 = .ok (.iconst (-1), 1) := dk_2 (dk_at dksX2_does_5 2 rfl rfl)
theorem dX2_does_122 : decode cX2_does 122 = .ok (.if_icmp .eq 20, 3) := dk_159 0 20 (dk_at dksX2_does_5 3 rfl rfl)
theorem dX2_does_125 : decode cX2_does 125 = .ok (.aload_n 0, 1) := dk_42 (dk_at dksX2_does_5 6 rfl rfl)
theorem dX2_does_126 : decode cX2_does 126 = .ok (.getfield 20, 3) := dk_180 0 20 (dk_at dksX2_does_5 7 rfl rfl)
theorem dX2_does_129 : decode cX2_does 129 = .ok (.iload 4, 2) := dk_21 4 (dk_at dksX2_does_5 10 rfl rfl)
theorem dX2_does_131 : decode cX2_does 131 = .ok (.iaload, 1) := dk_46 (dk_at dksX2_does_5 12 rfl rfl)
theorem dX2_does_132 : decode cX2_does 132 = .ok (.iconst 2, 1) := dk_5 (dk_at dksX2_does_5 13 rfl rfl)
theorem dX2_does_133 : decode cX2_does 133 = .ok (.if_icmp .le 9, 3) := dk_164 0 9 (dk_at dksX2_does_5 14 rfl rfl)
theorem dX2_does_136 : decode cX2_does 136 = .ok (.aload_n 0, 1) := dk_42 (dk_at dksX2_does_5 17 rfl rfl)
theorem dX2_does_137 : decode cX2_does 137 = .ok (.iconst 4, 1) := dk_7 (dk_at dksX2_does_5 18 rfl rfl)
theorem dX2_does_138 : decode cX2_does 138 = .ok (.invokevirtual 143, 3) := dk_182 0 143 (dk_at dksX2_does_5 19 rfl rfl)
theorem dX2_does_141 : decode cX2_does 141 = .ok (.ireturn, 1) := dk_172 (dk_at dksX2_does_5 22 rfl rfl)
theorem dX2_does_142 : decode cX2_does 142 = .ok (.aload_n 0, 1) := dk_42 (dk_at dksX2_does_5 23 rfl rfl)
theorem dX2_does_143 : decode cX2_does 143 = .ok (.getfield 64, 3) := dk_180 0 64 (dk_at dksX2_does_6 0 rfl rfl)
theorem dX2_does_146 : decode cX2_does 146 = .ok (.iconst 4, 1) := dk_7 (dk_at dksX2_does_6 3 rfl rfl)
theorem dX2_does_147 : decode cX2_does 147 = .ok (.iload_n 2, 1) := dk_28 (dk_at dksX2_does_6 4 rfl rfl)
theorem dX2_does_148 : decode cX2_does 148 = .ok (.imul, 1) := dk_104 (dk_at dksX2_does_6 5 rfl rfl)
theorem dX2_does_149 : decode cX2_does 149 = .ok (.iload_n 3, 1) := dk_29 (dk_at dksX2_does_6 6 rfl rfl)
theorem dX2_does_150 : decode cX2_does 150 = .ok (.iadd, 1) := dk_96 (dk_at dksX2_does_6 7 rfl rfl)
theorem dX2_does_151 : decode cX2_does 151 = .ok (.iload 4, 2) := dk_21 4 (dk_at dksX2_does_6 8 rfl rfl)
theorem dX2_does_153 : decode cX2_does 153 = .ok (.iastore, 1) := dk_79 (dk_at dksX2_does_6 10 rfl rfl)
theorem dX2_does_154 : decode cX2_does 154 = .ok (.goto 117, 3) := dk_167 0 117 (dk_at dksX2_does_6 11 rfl rfl)
theorem dX2_does_157 : decode cX2_does 157 = .ok (.iload_n 1, 1) := dk_27 (dk_at dksX2_does_6 14 rfl rfl)
theorem dX2_does_158 : decode cX2_does 158 = .ok (.iconst 3, 1) := dk_6 (dk_at dksX2_does_6 15 rfl rfl)
theorem dX2_does_159 : decode cX2_does 159 = .ok (.if_icmp .ne 16, 3) := dk_160 0 16 (dk_at dksX2_does_6 16 rfl rfl)
theorem dX2_does_162 : decode cX2_does 162 = .ok (.aload_n 0, 1) := dk_42 (dk_at dksX2_does_6 19 rfl rfl)
theorem dX2_does_163 : decode cX2_does 163 = .ok (.getfield 58, 3) := dk_180 0 58 (dk_at dksX2_does_6 20 rfl rfl)
theorem dX2_does_166 : decode cX2_does 166 = .ok (.iload_n 2, 1) := dk_28 (dk_at dksX2_does_6 23 rfl rfl)
theorem dX2_does_167 : decode cX2_does 167 = .ok (.iload_n 3, 1) := dk_29 (dk_at dksX2_does_7 0 rfl rfl)
theorem dX2_does_168 : decode cX2_does 168 = .ok (.invokestatic 173, 3) := dk_184 0 173 (dk_at dksX2_does_7 1 rfl rfl)
theorem dX2_does_171 : decode cX2_does 171 = .ok (.fastore, 1) := dk_81 (dk_at dksX2_does_7 4 rfl rfl)
theorem dX2_does_172 : decode cX2_does 172 = .ok (.goto 99, 3) := dk_167 0 99 (dk_at dksX2_does_7 5 rfl rfl)
theorem dX2_does_175 : decode cX2_does 175 = .ok (.iload_n 1, 1) := dk_27 (dk_at dksX2_does_7 8 rfl rfl)
theorem dX2_does_176 : decode cX2_does 176 = .ok (.iconst 4, 1) := dk_7 (dk_at dksX2_does_7 9 rfl rfl)
theorem dX2_does_177 : decode cX2_does 177 = .ok (.if_icmp .ne 22, 3) := dk_160 0 22 (dk_at dksX2_does_7 10 rfl rfl)
theorem dX2_does_180 : decode cX2_does 180 = .ok (.aload_n 0, 1) := dk_42 (dk_at dksX2_does_7 13 rfl rfl)
theorem dX2_does_181 : decode cX2_does 181 = .ok (.getfield 45, 3) := dk_180 0 45 (dk_at dksX2_does_7 14 rfl rfl)
theorem dX2_does_184 : decode cX2_does 184 = .ok (.iload_n 2, 1) := dk_28 (dk_at dksX2_does_7 17 rfl rfl)
theorem dX2_does_185 : decode cX2_does 185 = .ok (.iload_n 3, 1) := dk_29 (dk_at dksX2_does_7 18 rfl rfl)
theorem dX2_does_186 : decode cX2_does 186 = .ok (.iconst 1, 1) := dk_4 (dk_at dksX2_does_7 19 rfl rfl)
theorem dX2_does_187 : decode cX2_does 187 = .ok (.if_icmp .ne 7, 3) := dk_160 0 7 (dk_at dksX2_does_7 20 rfl rfl)
theorem dX2_does_190 : decode cX2_does 190 = .ok (.iconst 1, 1) := dk_4 (dk_at dksX2_does_7 23 rfl rfl)
theorem dX2_does_191 : decode cX2_does 191 = .ok (.goto 4, 3) := dk_167 0 4 (dk_at dksX2_does_8 0 rfl rfl)
theorem dX2_does_194 : decode cX2_does 194 = .ok (.iconst 0, 1) := dk_3 (dk_at dksX2_does_8 3 rfl rfl)
theorem dX2_does_195 : decode cX2_does 195 = .ok (.bastore, 1) := dk_84 (dk_at dksX2_does_8 4 rfl rfl)
theorem dX2_does_196 : decode cX2_does 196 = .ok (.goto 75, 3) := dk_167 0 75 (dk_at dksX2_does_8 5 rfl rfl)
theorem dX2_does_199 : decode cX2_does 199 = .ok (.aload_n 0, 1) := dk_42 (dk_at dksX2_does_8 8 rfl rfl)
theorem dX2_does_200 : decode cX2_does 200 = .ok (.getfield 20, 3) := dk_180 0 20 (dk_at dksX2_does_8 9 rfl rfl)
theorem dX2_does_203 : decode cX2_does 203 = .ok (.iload_n 2, 1) := dk_28 (dk_at dksX2_does_8 12 rfl rfl)
theorem dX2_does_204 : decode cX2_does 204 = .ok (.iaload, 1) := dk_46 (dk_at dksX2_does_8 13 rfl rfl)
theorem dX2_does_205 : decode cX2_does 205 = .ok (.invokestatic 199, 3) := dk_184 0 199 (dk_at dksX2_does_8 14 rfl rfl)
theorem dX2_does_208 : decode cX2_does 208 = .ok (.ifCond .ne 9, 3) := dk_154 0 9 (dk_at dksX2_does_8 17 rfl rfl)
theorem dX2_does_211 : decode cX2_does 211 = .ok (.aload_n 0, 1) := dk_42 (dk_at dksX2_does_8 20 rfl rfl)
theorem dX2_does_212 : decode cX2_does 212 = .ok (.iconst 3, 1) := dk_6 (dk_at dksX2_does_8 21 rfl rfl)
theorem dX2_does_213 : decode cX2_does 213 = .ok (.invokevirtual 143, 3) := dk_182 0 143 (dk_at dksX2_does_9 0 rfl rfl)
theorem dX2_does_216 : decode cX2_does 216 = .ok (.ireturn, 1) := dk_172 (dk_at dksX2_does_9 3 rfl rfl)
theorem dX2_does_217 : decode cX2_does 217 = .ok (.iload_n 3, 1) := dk_29 (dk_at dksX2_does_9 4 rfl rfl)
theorem dX2_does_218 : decode cX2_does 218 = .ok (.iconst (-1), 1) := dk_2 (dk_at dksX2_does_9 5 rfl rfl)
theorem dX2_does_219 : decode cX2_does 219 = .ok (.if_icmp .ge 9, 3) := dk_162 0 9 (dk_at dksX2_does_9 6 rfl rfl)
theorem dX2_does_222 : decode cX2_does 222 = .ok (.aload_n 0, 1) := dk_42 (dk_at dksX2_does_9 9 rfl rfl)
theorem dX2_does_223 : decode cX2_does 223 = .ok (.iconst 5, 1) := dk_8 (dk_at dksX2_does_9 10 rfl rfl)
theorem dX2_does_224 : decode cX2_does 224 = .ok (.invokevirtual 143, 3) := dk_182 0 143 (dk_at dksX2_does_9 11 rfl rfl)
theorem dX2_does_227 : decode cX2_does 227 = .ok (.ireturn, 1) := dk_172 (dk_at dksX2_does_9 14 rfl rfl)
theorem dX2_does_228 : decode cX2_does 228 = .ok (.aload_n 0, 1) := dk_42 (dk_at dksX2_does_9 15 rfl rfl)
theorem dX2_does_229 : decode cX2_does 229 = .ok (.getfield 36, 3) := dk_180 0 36 (dk_at dksX2_does_9 16 rfl rfl)
theorem dX2_does_232 : decode cX2_does 232 = .ok (.iload_n 2, 1) := dk_28 (dk_at dksX2_does_9 19 rfl rfl)
theorem dX2_does_233 : decode cX2_does 233 = .ok (.iload_n 3, 1) := dk_29 (dk_at dksX2_does_9 20 rfl rfl)
theorem dX2_does_234 : decode cX2_does 234 = .ok (.iastore, 1) := dk_79 (dk_at dksX2_does_9 21 rfl rfl)
theorem dX2_does_235 : decode cX2_does 235 = .ok (.aload_n 0, 1) := dk_42 (dk_at dksX2_does_9 22 rfl rfl)
theorem dX2_does_236 : decode cX2_does 236 = .ok (.getfield 33, 3) := dk_180 0 33 (dk_at dksX2_does_10 0 rfl rfl)
theorem dX2_does_239 : decode cX2_does 239 = .ok (.iload_n 2, 1) := dk_28 (dk_at dksX2_does_10 3 rfl rfl)
theorem dX2_does_240 : decode cX2_does 240 = .ok (.iconst 0, 1) := dk_3 (dk_at dksX2_does_10 4 rfl rfl)
theorem dX2_does_241 : decode cX2_does 241 = .ok (.iastore, 1) := dk_79 (dk_at dksX2_does_10 5 rfl rfl)
theorem dX2_does_242 : decode cX2_does 242 = .ok (.iconst 0, 1) := dk_3 (dk_at dksX2_does_10 6 rfl rfl)
theorem dX2_does_243 : decode cX2_does 243 = .ok (.istore 6, 2) := dk_54 6 (dk_at dksX2_does_10 7 rfl rfl)
theorem dX2_does_245 : decode cX2_does 245 = .ok (.iload 6, 2) := dk_21 6 (dk_at dksX2_does_10 9 rfl rfl)
theorem dX2_does_247 : decode cX2_does 247 = .ok (.bipush 16, 2) := dk_16 16 (dk_at dksX2_does_10 11 rfl rfl)
theorem dX2_does_249 : decode cX2_does 249 = .ok (.if_icmp .ge 22, 3) := dk_162 0 22 (dk_at dksX2_does_10 13 rfl rfl)
theorem dX2_does_252 : decode cX2_does 252 = .ok (.aload_n 0, 1) := dk_42 (dk_at dksX2_does_10 16 rfl rfl)
theorem dX2_does_253 : decode cX2_does 253 = .ok (.getfield 39, 3) := dk_180 0 39 (dk_at dksX2_does_10 17 rfl rfl)
theorem dX2_does_256 : decode cX2_does 256 = .ok (.bipush 16, 2) := dk_16 16 (dk_at dksX2_does_10 20 rfl rfl)
theorem dX2_does_258 : decode cX2_does 258 = .ok (.iload_n 2, 1) := dk_28 (dk_at dksX2_does_10 22 rfl rfl)
theorem dX2_does_259 : decode cX2_does 259 = .ok (.imul, 1) := dk_104 (dk_at dksX2_does_10 23 rfl rfl)
theorem dX2_does_260 : decode cX2_does 260 = .ok (.iload 6, 2) := dk_21 6 (dk_at dksX2_does_11 0 rfl rfl)
theorem dX2_does_262 : decode cX2_does 262 = .ok (.iadd, 1) := dk_96 (dk_at dksX2_does_11 2 rfl rfl)
theorem dX2_does_263 : decode cX2_does 263 = .ok (.fconst 0, 1) := dk_11 (dk_at dksX2_does_11 3 rfl rfl)
theorem dX2_does_264 : decode cX2_does 264 = .ok (.fastore, 1) := dk_81 (dk_at dksX2_does_11 4 rfl rfl)
theorem dX2_does_265 : decode cX2_does 265 = .ok (.iinc 6 1, 3) := dk_132 6 1 (dk_at dksX2_does_11 5 rfl rfl)
theorem dX2_does_268 : decode cX2_does 268 = .ok (.goto (-23), 3) := dk_167 255 233 (dk_at dksX2_does_11 8 rfl rfl)
theorem dX2_does_271 : decode cX2_does 271 = .ok (.aload_n 0, 1) := dk_42 (dk_at dksX2_does_11 11 rfl rfl)
theorem dX2_does_272 : decode cX2_does 272 = .ok (.dup, 1) := dk_89 (dk_at dksX2_does_11 12 rfl rfl)
theorem dX2_does_273 : decode cX2_does 273 = .ok (.getfield 229, 3) := dk_180 0 229 (dk_at dksX2_does_11 13 rfl rfl)
theorem dX2_does_276 : decode cX2_does 276 = .ok (.iconst 1, 1) := dk_4 (dk_at dksX2_does_11 16 rfl rfl)
theorem dX2_does_277 : decode cX2_does 277 = .ok (.iadd, 1) := dk_96 (dk_at dksX2_does_11 17 rfl rfl)
theorem dX2_does_278 : decode cX2_does 278 = .ok (.putfield 229, 3) := dk_181 0 229 (dk_at dksX2_does_11 18 rfl rfl)
theorem dX2_does_281 : decode cX2_does 281 = .ok (.iconst 1, 1) := dk_4 (dk_at dksX2_does_11 21 rfl rfl)
theorem dX2_does_282 : decode cX2_does 282 = .ok (.ireturn, 1) := dk_172 (dk_at dksX2_does_11 22 rfl rfl)
abbrev cX2_pure : ByteArray := prog_14_method_23_code
def yX2_pure : MethodName := ⟨RX2, "pure", "(IZ)I"⟩
def dkwX2_pure_1 : List UInt8 := [167, 0, 5, 16, 155, 172]
abbrev dktX2_pure_1 : List UInt8 := dkwX2_pure_1 ++ []
def dkwX2_pure_0 : List UInt8 := [27, 184, 0, 232, 153, 0, 23, 42, 4, 27, 28, 153, 0, 7, 4, 167, 0, 4, 3, 3, 3, 182, 0, 235]
abbrev dktX2_pure_0 : List UInt8 := dkwX2_pure_0 ++ dktX2_pure_1
theorem dksX2_pure_0 : cX2_pure.data.toList.drop 0 = dktX2_pure_0 := by decide +kernel
theorem dksX2_pure_1 : cX2_pure.data.toList.drop 24 = dktX2_pure_1 := dk_seg dksX2_pure_0 24 rfl rfl
theorem dX2_pure_0 : decode cX2_pure 0 = .ok (.iload_n 1, 1) := dk_27 (dk_at dksX2_pure_0 0 rfl rfl)
theorem dX2_pure_1 : decode cX2_pure 1 = .ok (.invokestatic 232, 3) := dk_184 0 232 (dk_at dksX2_pure_0 1 rfl rfl)
theorem dX2_pure_4 : decode cX2_pure 4 = .ok (.ifCond .eq 23, 3) := dk_153 0 23 (dk_at dksX2_pure_0 4 rfl rfl)
theorem dX2_pure_7 : decode cX2_pure 7 = .ok (.aload_n 0, 1) := dk_42 (dk_at dksX2_pure_0 7 rfl rfl)
theorem dX2_pure_8 : decode cX2_pure 8 = .ok (.iconst 1, 1) := dk_4 (dk_at dksX2_pure_0 8 rfl rfl)
theorem dX2_pure_9 : decode cX2_pure 9 = .ok (.iload_n 1, 1) := dk_27 (dk_at dksX2_pure_0 9 rfl rfl)
theorem dX2_pure_10 : decode cX2_pure 10 = .ok (.iload_n 2, 1) := dk_28 (dk_at dksX2_pure_0 10 rfl rfl)
theorem dX2_pure_11 : decode cX2_pure 11 = .ok (.ifCond .eq 7, 3) := dk_153 0 7 (dk_at dksX2_pure_0 11 rfl rfl)
theorem dX2_pure_14 : decode cX2_pure 14 = .ok (.iconst 1, 1) := dk_4 (dk_at dksX2_pure_0 14 rfl rfl)
theorem dX2_pure_15 : decode cX2_pure 15 = .ok (.goto 4, 3) := dk_167 0 4 (dk_at dksX2_pure_0 15 rfl rfl)
theorem dX2_pure_18 : decode cX2_pure 18 = .ok (.iconst 0, 1) := dk_3 (dk_at dksX2_pure_0 18 rfl rfl)
theorem dX2_pure_19 : decode cX2_pure 19 = .ok (.iconst 0, 1) := dk_3 (dk_at dksX2_pure_0 19 rfl rfl)
theorem dX2_pure_20 : decode cX2_pure 20 = .ok (.iconst 0, 1) := dk_3 (dk_at dksX2_pure_0 20 rfl rfl)
theorem dX2_pure_21 : decode cX2_pure 21 = .ok (.invokevirtual 235, 3) := dk_182 0 235 (dk_at dksX2_pure_0 21 rfl rfl)
theorem dX2_pure_24 : decode cX2_pure 24 = .ok (.goto 5, 3) := dk_167 0 5 (dk_at dksX2_pure_1 0 rfl rfl)
theorem dX2_pure_27 : decode cX2_pure 27 = .ok (.bipush (-101), 2) := dk_16 155 (dk_at dksX2_pure_1 3 rfl rfl)
theorem dX2_pure_29 : decode cX2_pure 29 = .ok (.ireturn, 1) := dk_172 (dk_at dksX2_pure_1 5 rfl rfl)
abbrev cX2_chain : ByteArray := prog_14_method_24_code
def yX2_chain : MethodName := ⟨RX2, "chain", "(III)I"⟩
def dkwX2_chain_1 : List UInt8 := [42, 5, 27, 28, 29, 3, 182, 0, 235, 172]
abbrev dktX2_chain_1 : List UInt8 := dkwX2_chain_1 ++ []
def dkwX2_chain_0 : List UInt8 := [27, 184, 0, 232, 153, 0, 17, 29, 2, 42, 180, 0, 203, 4, 100, 184, 0, 136, 154, 0, 6, 16, 155, 172]
abbrev dktX2_chain_0 : List UInt8 := dkwX2_chain_0 ++ dktX2_chain_1
theorem dksX2_chain_0 : cX2_chain.data.toList.drop 0 = dktX2_chain_0 := by decide +kernel
theorem dksX2_chain_1 : cX2_chain.data.toList.drop 24 = dktX2_chain_1 := dk_seg dksX2_chain_0 24 rfl rfl
theorem dX2_chain_0 : decode cX2_chain 0 = .ok (.iload_n 1, 1) := dk_27 (dk_at dksX2_chain_0 0 rfl rfl)
theorem dX2_chain_1 : decode cX2_chain 1 = .ok (.invokestatic 232, 3) := dk_184 0 232 (dk_at dksX2_chain_0 1 rfl rfl)
theorem dX2_chain_4 : decode cX2_chain 4 = .ok (.ifCond .eq 17, 3) := dk_153 0 17 (dk_at dksX2_chain_0 4 rfl rfl)
theorem dX2_chain_7 : decode cX2_chain 7 = .ok (.iload_n 3, 1) := dk_29 (dk_at dksX2_chain_0 7 rfl rfl)
theorem dX2_chain_8 : decode cX2_chain 8 = .ok (.iconst (-1), 1) := dk_2 (dk_at dksX2_chain_0 8 rfl rfl)
theorem dX2_chain_9 : decode cX2_chain 9 = .ok (.aload_n 0, 1) := dk_42 (dk_at dksX2_chain_0 9 rfl rfl)
theorem dX2_chain_10 : decode cX2_chain 10 = .ok (.getfield 203, 3) := dk_180 0 203 (dk_at dksX2_chain_0 10 rfl rfl)
theorem dX2_chain_13 : decode cX2_chain 13 = .ok (.iconst 1, 1) := dk_4 (dk_at dksX2_chain_0 13 rfl rfl)
theorem dX2_chain_14 : decode cX2_chain 14 = .ok (.isub, 1) := dk_100 (dk_at dksX2_chain_0 14 rfl rfl)
theorem dX2_chain_15 : decode cX2_chain 15 = .ok (.invokestatic 136, 3) := dk_184 0 136 (dk_at dksX2_chain_0 15 rfl rfl)
theorem dX2_chain_18 : decode cX2_chain 18 = .ok (.ifCond .ne 6, 3) := dk_154 0 6 (dk_at dksX2_chain_0 18 rfl rfl)
theorem dX2_chain_21 : decode cX2_chain 21 = .ok (.bipush (-101), 2) := dk_16 155 (dk_at dksX2_chain_0 21 rfl rfl)
theorem dX2_chain_23 : decode cX2_chain 23 = .ok (.ireturn, 1) := dk_172 (dk_at dksX2_chain_0 23 rfl rfl)
theorem dX2_chain_24 : decode cX2_chain 24 = .ok (.aload_n 0, 1) := dk_42 (dk_at dksX2_chain_1 0 rfl rfl)
theorem dX2_chain_25 : decode cX2_chain 25 = .ok (.iconst 2, 1) := dk_5 (dk_at dksX2_chain_1 1 rfl rfl)
theorem dX2_chain_26 : decode cX2_chain 26 = .ok (.iload_n 1, 1) := dk_27 (dk_at dksX2_chain_1 2 rfl rfl)
theorem dX2_chain_27 : decode cX2_chain 27 = .ok (.iload_n 2, 1) := dk_28 (dk_at dksX2_chain_1 3 rfl rfl)
theorem dX2_chain_28 : decode cX2_chain 28 = .ok (.iload_n 3, 1) := dk_29 (dk_at dksX2_chain_1 4 rfl rfl)
theorem dX2_chain_29 : decode cX2_chain 29 = .ok (.iconst 0, 1) := dk_3 (dk_at dksX2_chain_1 5 rfl rfl)
theorem dX2_chain_30 : decode cX2_chain 30 = .ok (.invokevirtual 235, 3) := dk_182 0 235 (dk_at dksX2_chain_1 6 rfl rfl)
theorem dX2_chain_33 : decode cX2_chain 33 = .ok (.ireturn, 1) := dk_172 (dk_at dksX2_chain_1 9 rfl rfl)
abbrev cX2_level : ByteArray := prog_14_method_25_code
def yX2_level : MethodName := ⟨RX2, "level", "(II)I"⟩
def dkwX2_level_1 : List UInt8 := [182, 0, 235, 167, 0, 5, 16, 154, 172]
abbrev dktX2_level_1 : List UInt8 := dkwX2_level_1 ++ []
def dkwX2_level_0 : List UInt8 := [27, 184, 0, 232, 154, 0, 6, 16, 155, 172, 28, 11, 184, 0, 195, 153, 0, 15, 42, 6, 27, 28, 3, 3]
abbrev dktX2_level_0 : List UInt8 := dkwX2_level_0 ++ dktX2_level_1
theorem dksX2_level_0 : cX2_level.data.toList.drop 0 = dktX2_level_0 := by decide +kernel
theorem dksX2_level_1 : cX2_level.data.toList.drop 24 = dktX2_level_1 := dk_seg dksX2_level_0 24 rfl rfl
theorem dX2_level_0 : decode cX2_level 0 = .ok (.iload_n 1, 1) := dk_27 (dk_at dksX2_level_0 0 rfl rfl)
theorem dX2_level_1 : decode cX2_level 1 = .ok (.invokestatic 232, 3) := dk_184 0 232 (dk_at dksX2_level_0 1 rfl rfl)
theorem dX2_level_4 : decode cX2_level 4 = .ok (.ifCond .ne 6, 3) := dk_154 0 6 (dk_at dksX2_level_0 4 rfl rfl)
theorem dX2_level_7 : decode cX2_level 7 = .ok (.bipush (-101), 2) := dk_16 155 (dk_at dksX2_level_0 7 rfl rfl)
theorem dX2_level_9 : decode cX2_level 9 = .ok (.ireturn, 1) := dk_172 (dk_at dksX2_level_0 9 rfl rfl)
theorem dX2_level_10 : decode cX2_level 10 = .ok (.iload_n 2, 1) := dk_28 (dk_at dksX2_level_0 10 rfl rfl)
theorem dX2_level_11 : decode cX2_level 11 = .ok (.fconst 0, 1) := dk_11 (dk_at dksX2_level_0 11 rfl rfl)
theorem dX2_level_12 : decode cX2_level 12 = .ok (.invokestatic 195, 3) := dk_184 0 195 (dk_at dksX2_level_0 12 rfl rfl)
theorem dX2_level_15 : decode cX2_level 15 = .ok (.ifCond .eq 15, 3) := dk_153 0 15 (dk_at dksX2_level_0 15 rfl rfl)
theorem dX2_level_18 : decode cX2_level 18 = .ok (.aload_n 0, 1) := dk_42 (dk_at dksX2_level_0 18 rfl rfl)
theorem dX2_level_19 : decode cX2_level 19 = .ok (.iconst 3, 1) := dk_6 (dk_at dksX2_level_0 19 rfl rfl)
theorem dX2_level_20 : decode cX2_level 20 = .ok (.iload_n 1, 1) := dk_27 (dk_at dksX2_level_0 20 rfl rfl)
theorem dX2_level_21 : decode cX2_level 21 = .ok (.iload_n 2, 1) := dk_28 (dk_at dksX2_level_0 21 rfl rfl)
theorem dX2_level_22 : decode cX2_level 22 = .ok (.iconst 0, 1) := dk_3 (dk_at dksX2_level_0 22 rfl rfl)
theorem dX2_level_23 : decode cX2_level 23 = .ok (.iconst 0, 1) := dk_3 (dk_at dksX2_level_0 23 rfl rfl)
theorem dX2_level_24 : decode cX2_level 24 = .ok (.invokevirtual 235, 3) := dk_182 0 235 (dk_at dksX2_level_1 0 rfl rfl)
theorem dX2_level_27 : decode cX2_level 27 = .ok (.goto 5, 3) := dk_167 0 5 (dk_at dksX2_level_1 3 rfl rfl)
theorem dX2_level_30 : decode cX2_level 30 = .ok (.bipush (-102), 2) := dk_16 154 (dk_at dksX2_level_1 6 rfl rfl)
theorem dX2_level_32 : decode cX2_level 32 = .ok (.ireturn, 1) := dk_172 (dk_at dksX2_level_1 8 rfl rfl)
abbrev cX2_on : ByteArray := prog_14_method_26_code
def yX2_on : MethodName := ⟨RX2, "on", "(IZ)I"⟩
def dkwX2_on_1 : List UInt8 := [167, 0, 5, 16, 155, 172]
abbrev dktX2_on_1 : List UInt8 := dkwX2_on_1 ++ []
def dkwX2_on_0 : List UInt8 := [27, 184, 0, 232, 153, 0, 23, 42, 7, 27, 28, 153, 0, 7, 4, 167, 0, 4, 3, 3, 3, 182, 0, 235]
abbrev dktX2_on_0 : List UInt8 := dkwX2_on_0 ++ dktX2_on_1
theorem dksX2_on_0 : cX2_on.data.toList.drop 0 = dktX2_on_0 := by decide +kernel
theorem dksX2_on_1 : cX2_on.data.toList.drop 24 = dktX2_on_1 := dk_seg dksX2_on_0 24 rfl rfl
theorem dX2_on_0 : decode cX2_on 0 = .ok (.iload_n 1, 1) := dk_27 (dk_at dksX2_on_0 0 rfl rfl)
theorem dX2_on_1 : decode cX2_on 1 = .ok (.invokestatic 232, 3) := dk_184 0 232 (dk_at dksX2_on_0 1 rfl rfl)
theorem dX2_on_4 : decode cX2_on 4 = .ok (.ifCond .eq 23, 3) := dk_153 0 23 (dk_at dksX2_on_0 4 rfl rfl)
theorem dX2_on_7 : decode cX2_on 7 = .ok (.aload_n 0, 1) := dk_42 (dk_at dksX2_on_0 7 rfl rfl)
theorem dX2_on_8 : decode cX2_on 8 = .ok (.iconst 4, 1) := dk_7 (dk_at dksX2_on_0 8 rfl rfl)
theorem dX2_on_9 : decode cX2_on 9 = .ok (.iload_n 1, 1) := dk_27 (dk_at dksX2_on_0 9 rfl rfl)
theorem dX2_on_10 : decode cX2_on 10 = .ok (.iload_n 2, 1) := dk_28 (dk_at dksX2_on_0 10 rfl rfl)
theorem dX2_on_11 : decode cX2_on 11 = .ok (.ifCond .eq 7, 3) := dk_153 0 7 (dk_at dksX2_on_0 11 rfl rfl)
theorem dX2_on_14 : decode cX2_on 14 = .ok (.iconst 1, 1) := dk_4 (dk_at dksX2_on_0 14 rfl rfl)
theorem dX2_on_15 : decode cX2_on 15 = .ok (.goto 4, 3) := dk_167 0 4 (dk_at dksX2_on_0 15 rfl rfl)
theorem dX2_on_18 : decode cX2_on 18 = .ok (.iconst 0, 1) := dk_3 (dk_at dksX2_on_0 18 rfl rfl)
theorem dX2_on_19 : decode cX2_on 19 = .ok (.iconst 0, 1) := dk_3 (dk_at dksX2_on_0 19 rfl rfl)
theorem dX2_on_20 : decode cX2_on 20 = .ok (.iconst 0, 1) := dk_3 (dk_at dksX2_on_0 20 rfl rfl)
theorem dX2_on_21 : decode cX2_on 21 = .ok (.invokevirtual 235, 3) := dk_182 0 235 (dk_at dksX2_on_0 21 rfl rfl)
theorem dX2_on_24 : decode cX2_on 24 = .ok (.goto 5, 3) := dk_167 0 5 (dk_at dksX2_on_1 0 rfl rfl)
theorem dX2_on_27 : decode cX2_on 27 = .ok (.bipush (-101), 2) := dk_16 155 (dk_at dksX2_on_1 3 rfl rfl)
theorem dX2_on_29 : decode cX2_on 29 = .ok (.ireturn, 1) := dk_172 (dk_at dksX2_on_1 5 rfl rfl)
abbrev cX2_line : ByteArray := prog_14_method_27_code
def yX2_line : MethodName := ⟨RX2, "line", "(II)I"⟩
def dkwX2_line_1 : List UInt8 := [16, 154, 167, 0, 12, 42, 8, 27, 28, 3, 3, 182, 0, 235, 172]
abbrev dktX2_line_1 : List UInt8 := dkwX2_line_1 ++ []
def dkwX2_line_0 : List UInt8 := [27, 3, 42, 180, 0, 203, 4, 100, 184, 0, 136, 154, 0, 6, 16, 155, 172, 28, 16, 16, 164, 0, 8]
abbrev dktX2_line_0 : List UInt8 := dkwX2_line_0 ++ dktX2_line_1
theorem dksX2_line_0 : cX2_line.data.toList.drop 0 = dktX2_line_0 := by decide +kernel
theorem dksX2_line_1 : cX2_line.data.toList.drop 23 = dktX2_line_1 := dk_seg dksX2_line_0 23 rfl rfl
theorem dX2_line_0 : decode cX2_line 0 = .ok (.iload_n 1, 1) := dk_27 (dk_at dksX2_line_0 0 rfl rfl)
theorem dX2_line_1 : decode cX2_line 1 = .ok (.iconst 0, 1) := dk_3 (dk_at dksX2_line_0 1 rfl rfl)
theorem dX2_line_2 : decode cX2_line 2 = .ok (.aload_n 0, 1) := dk_42 (dk_at dksX2_line_0 2 rfl rfl)
theorem dX2_line_3 : decode cX2_line 3 = .ok (.getfield 203, 3) := dk_180 0 203 (dk_at dksX2_line_0 3 rfl rfl)
theorem dX2_line_6 : decode cX2_line 6 = .ok (.iconst 1, 1) := dk_4 (dk_at dksX2_line_0 6 rfl rfl)
theorem dX2_line_7 : decode cX2_line 7 = .ok (.isub, 1) := dk_100 (dk_at dksX2_line_0 7 rfl rfl)
theorem dX2_line_8 : decode cX2_line 8 = .ok (.invokestatic 136, 3) := dk_184 0 136 (dk_at dksX2_line_0 8 rfl rfl)
theorem dX2_line_11 : decode cX2_line 11 = .ok (.ifCond .ne 6, 3) := dk_154 0 6 (dk_at dksX2_line_0 11 rfl rfl)
theorem dX2_line_14 : decode cX2_line 14 = .ok (.bipush (-101), 2) := dk_16 155 (dk_at dksX2_line_0 14 rfl rfl)
theorem dX2_line_16 : decode cX2_line 16 = .ok (.ireturn, 1) := dk_172 (dk_at dksX2_line_0 16 rfl rfl)
theorem dX2_line_17 : decode cX2_line 17 = .ok (.iload_n 2, 1) := dk_28 (dk_at dksX2_line_0 17 rfl rfl)
theorem dX2_line_18 : decode cX2_line 18 = .ok (.bipush 16, 2) := dk_16 16 (dk_at dksX2_line_0 18 rfl rfl)
theorem dX2_line_20 : decode cX2_line 20 = .ok (.if_icmp .le 8, 3) := dk_164 0 8 (dk_at dksX2_line_0 20 rfl rfl)
theorem dX2_line_23 : decode cX2_line 23 = .ok (.bipush (-102), 2) := dk_16 154 (dk_at dksX2_line_1 0 rfl rfl)
theorem dX2_line_25 : decode cX2_line 25 = .ok (.goto 12, 3) := dk_167 0 12 (dk_at dksX2_line_1 2 rfl rfl)
theorem dX2_line_28 : decode cX2_line 28 = .ok (.aload_n 0, 1) := dk_42 (dk_at dksX2_line_1 5 rfl rfl)
theorem dX2_line_29 : decode cX2_line 29 = .ok (.iconst 5, 1) := dk_8 (dk_at dksX2_line_1 6 rfl rfl)
theorem dX2_line_30 : decode cX2_line 30 = .ok (.iload_n 1, 1) := dk_27 (dk_at dksX2_line_1 7 rfl rfl)
theorem dX2_line_31 : decode cX2_line 31 = .ok (.iload_n 2, 1) := dk_28 (dk_at dksX2_line_1 8 rfl rfl)
theorem dX2_line_32 : decode cX2_line 32 = .ok (.iconst 0, 1) := dk_3 (dk_at dksX2_line_1 9 rfl rfl)
theorem dX2_line_33 : decode cX2_line 33 = .ok (.iconst 0, 1) := dk_3 (dk_at dksX2_line_1 10 rfl rfl)
theorem dX2_line_34 : decode cX2_line 34 = .ok (.invokevirtual 235, 3) := dk_182 0 235 (dk_at dksX2_line_1 11 rfl rfl)
theorem dX2_line_37 : decode cX2_line 37 = .ok (.ireturn, 1) := dk_172 (dk_at dksX2_line_1 14 rfl rfl)
abbrev cX2_hire : ByteArray := prog_14_method_28_code
def yX2_hire : MethodName := ⟨RX2, "hire", "(I)I"⟩
def dkwX2_hire_1 : List UInt8 := [180, 0, 85, 61, 42, 27, 181, 0, 85, 28, 172]
abbrev dktX2_hire_1 : List UInt8 := dkwX2_hire_1 ++ []
def dkwX2_hire_0 : List UInt8 := [27, 4, 7, 184, 0, 136, 154, 0, 6, 16, 154, 172, 42, 180, 0, 159, 153, 0, 6, 16, 153, 172, 42]
abbrev dktX2_hire_0 : List UInt8 := dkwX2_hire_0 ++ dktX2_hire_1
theorem dksX2_hire_0 : cX2_hire.data.toList.drop 0 = dktX2_hire_0 := by decide +kernel
theorem dksX2_hire_1 : cX2_hire.data.toList.drop 23 = dktX2_hire_1 := dk_seg dksX2_hire_0 23 rfl rfl
theorem dX2_hire_0 : decode cX2_hire 0 = .ok (.iload_n 1, 1) := dk_27 (dk_at dksX2_hire_0 0 rfl rfl)
theorem dX2_hire_1 : decode cX2_hire 1 = .ok (.iconst 1, 1) := dk_4 (dk_at dksX2_hire_0 1 rfl rfl)
theorem dX2_hire_2 : decode cX2_hire 2 = .ok (.iconst 4, 1) := dk_7 (dk_at dksX2_hire_0 2 rfl rfl)
theorem dX2_hire_3 : decode cX2_hire 3 = .ok (.invokestatic 136, 3) := dk_184 0 136 (dk_at dksX2_hire_0 3 rfl rfl)
theorem dX2_hire_6 : decode cX2_hire 6 = .ok (.ifCond .ne 6, 3) := dk_154 0 6 (dk_at dksX2_hire_0 6 rfl rfl)
theorem dX2_hire_9 : decode cX2_hire 9 = .ok (.bipush (-102), 2) := dk_16 154 (dk_at dksX2_hire_0 9 rfl rfl)
theorem dX2_hire_11 : decode cX2_hire 11 = .ok (.ireturn, 1) := dk_172 (dk_at dksX2_hire_0 11 rfl rfl)
theorem dX2_hire_12 : decode cX2_hire 12 = .ok (.aload_n 0, 1) := dk_42 (dk_at dksX2_hire_0 12 rfl rfl)
theorem dX2_hire_13 : decode cX2_hire 13 = .ok (.getfield 159, 3) := dk_180 0 159 (dk_at dksX2_hire_0 13 rfl rfl)
theorem dX2_hire_16 : decode cX2_hire 16 = .ok (.ifCond .eq 6, 3) := dk_153 0 6 (dk_at dksX2_hire_0 16 rfl rfl)
theorem dX2_hire_19 : decode cX2_hire 19 = .ok (.bipush (-103), 2) := dk_16 153 (dk_at dksX2_hire_0 19 rfl rfl)
theorem dX2_hire_21 : decode cX2_hire 21 = .ok (.ireturn, 1) := dk_172 (dk_at dksX2_hire_0 21 rfl rfl)
theorem dX2_hire_22 : decode cX2_hire 22 = .ok (.aload_n 0, 1) := dk_42 (dk_at dksX2_hire_0 22 rfl rfl)
theorem dX2_hire_23 : decode cX2_hire 23 = .ok (.getfield 85, 3) := dk_180 0 85 (dk_at dksX2_hire_1 0 rfl rfl)
theorem dX2_hire_26 : decode cX2_hire 26 = .ok (.istore_n 2, 1) := dk_61 (dk_at dksX2_hire_1 3 rfl rfl)
theorem dX2_hire_27 : decode cX2_hire 27 = .ok (.aload_n 0, 1) := dk_42 (dk_at dksX2_hire_1 4 rfl rfl)
theorem dX2_hire_28 : decode cX2_hire 28 = .ok (.iload_n 1, 1) := dk_27 (dk_at dksX2_hire_1 5 rfl rfl)
theorem dX2_hire_29 : decode cX2_hire 29 = .ok (.putfield 85, 3) := dk_181 0 85 (dk_at dksX2_hire_1 6 rfl rfl)
theorem dX2_hire_32 : decode cX2_hire 32 = .ok (.iload_n 2, 1) := dk_28 (dk_at dksX2_hire_1 9 rfl rfl)
theorem dX2_hire_33 : decode cX2_hire 33 = .ok (.ireturn, 1) := dk_172 (dk_at dksX2_hire_1 10 rfl rfl)
abbrev cX2_render : ByteArray := prog_14_method_30_code
def yX2_render : MethodName := ⟨RX2, "render", "(I)I"⟩
def dkwX2_render_2 : List UInt8 := [27, 181, 0, 244, 42, 182, 0, 247, 42, 180, 0, 238, 172]
abbrev dktX2_render_2 : List UInt8 := dkwX2_render_2 ++ []
def dkwX2_render_1 : List UInt8 := [180, 0, 238, 27, 96, 16, 64, 164, 0, 6, 16, 152, 172, 42, 4, 181, 0, 159, 42, 3, 181, 0, 241, 42]
abbrev dktX2_render_1 : List UInt8 := dkwX2_render_1 ++ dktX2_render_2
def dkwX2_render_0 : List UInt8 := [27, 4, 16, 8, 184, 0, 136, 154, 0, 6, 16, 154, 172, 42, 180, 0, 159, 153, 0, 6, 16, 153, 172, 42]
abbrev dktX2_render_0 : List UInt8 := dkwX2_render_0 ++ dktX2_render_1
theorem dksX2_render_0 : cX2_render.data.toList.drop 0 = dktX2_render_0 := by decide +kernel
theorem dksX2_render_1 : cX2_render.data.toList.drop 24 = dktX2_render_1 := dk_seg dksX2_render_0 24 rfl rfl
theorem dksX2_render_2 : cX2_render.data.toList.drop 48 = dktX2_render_2 := dk_seg dksX2_render_1 24 rfl rfl
theorem dX2_render_0 : decode cX2_render 0 = .ok (.iload_n 1, 1) := dk_27 (dk_at dksX2_render_0 0 rfl rfl)
theorem dX2_render_1 : decode cX2_render 1 = .ok (.iconst 1, 1) := dk_4 (dk_at dksX2_render_0 1 rfl rfl)
theorem dX2_render_2 : decode cX2_render 2 = .ok (.bipush 8, 2) := dk_16 8 (dk_at dksX2_render_0 2 rfl rfl)
theorem dX2_render_4 : decode cX2_render 4 = .ok (.invokestatic 136, 3) := dk_184 0 136 (dk_at dksX2_render_0 4 rfl rfl)
theorem dX2_render_7 : decode cX2_render 7 = .ok (.ifCond .ne 6, 3) := dk_154 0 6 (dk_at dksX2_render_0 7 rfl rfl)
theorem dX2_render_10 : decode cX2_render 10 = .ok (.bipush (-102), 2) := dk_16 154 (dk_at dksX2_render_0 10 rfl rfl)
theorem dX2_render_12 : decode cX2_render 12 = .ok (.ireturn, 1) := dk_172 (dk_at dksX2_render_0 12 rfl rfl)
theorem dX2_render_13 : decode cX2_render 13 = .ok (.aload_n 0, 1) := dk_42 (dk_at dksX2_render_0 13 rfl rfl)
theorem dX2_render_14 : decode cX2_render 14 = .ok (.getfield 159, 3) := dk_180 0 159 (dk_at dksX2_render_0 14 rfl rfl)
theorem dX2_render_17 : decode cX2_render 17 = .ok (.ifCond .eq 6, 3) := dk_153 0 6 (dk_at dksX2_render_0 17 rfl rfl)
theorem dX2_render_20 : decode cX2_render 20 = .ok (.bipush (-103), 2) := dk_16 153 (dk_at dksX2_render_0 20 rfl rfl)
theorem dX2_render_22 : decode cX2_render 22 = .ok (.ireturn, 1) := dk_172 (dk_at dksX2_render_0 22 rfl rfl)
theorem dX2_render_23 : decode cX2_render 23 = .ok (.aload_n 0, 1) := dk_42 (dk_at dksX2_render_0 23 rfl rfl)
theorem dX2_render_24 : decode cX2_render 24 = .ok (.getfield 238, 3) := dk_180 0 238 (dk_at dksX2_render_1 0 rfl rfl)
theorem dX2_render_27 : decode cX2_render 27 = .ok (.iload_n 1, 1) := dk_27 (dk_at dksX2_render_1 3 rfl rfl)
theorem dX2_render_28 : decode cX2_render 28 = .ok (.iadd, 1) := dk_96 (dk_at dksX2_render_1 4 rfl rfl)
theorem dX2_render_29 : decode cX2_render 29 = .ok (.bipush 64, 2) := dk_16 64 (dk_at dksX2_render_1 5 rfl rfl)
theorem dX2_render_31 : decode cX2_render 31 = .ok (.if_icmp .le 6, 3) := dk_164 0 6 (dk_at dksX2_render_1 7 rfl rfl)
theorem dX2_render_34 : decode cX2_render 34 = .ok (.bipush (-104), 2) := dk_16 152 (dk_at dksX2_render_1 10 rfl rfl)
theorem dX2_render_36 : decode cX2_render 36 = .ok (.ireturn, 1) := dk_172 (dk_at dksX2_render_1 12 rfl rfl)
theorem dX2_render_37 : decode cX2_render 37 = .ok (.aload_n 0, 1) := dk_42 (dk_at dksX2_render_1 13 rfl rfl)
theorem dX2_render_38 : decode cX2_render 38 = .ok (.iconst 1, 1) := dk_4 (dk_at dksX2_render_1 14 rfl rfl)
theorem dX2_render_39 : decode cX2_render 39 = .ok (.putfield 159, 3) := dk_181 0 159 (dk_at dksX2_render_1 15 rfl rfl)
theorem dX2_render_42 : decode cX2_render 42 = .ok (.aload_n 0, 1) := dk_42 (dk_at dksX2_render_1 18 rfl rfl)
theorem dX2_render_43 : decode cX2_render 43 = .ok (.iconst 0, 1) := dk_3 (dk_at dksX2_render_1 19 rfl rfl)
theorem dX2_render_44 : decode cX2_render 44 = .ok (.putfield 241, 3) := dk_181 0 241 (dk_at dksX2_render_1 20 rfl rfl)
theorem dX2_render_47 : decode cX2_render 47 = .ok (.aload_n 0, 1) := dk_42 (dk_at dksX2_render_1 23 rfl rfl)
theorem dX2_render_48 : decode cX2_render 48 = .ok (.iload_n 1, 1) := dk_27 (dk_at dksX2_render_2 0 rfl rfl)
theorem dX2_render_49 : decode cX2_render 49 = .ok (.putfield 244, 3) := dk_181 0 244 (dk_at dksX2_render_2 1 rfl rfl)
theorem dX2_render_52 : decode cX2_render 52 = .ok (.aload_n 0, 1) := dk_42 (dk_at dksX2_render_2 4 rfl rfl)
theorem dX2_render_53 : decode cX2_render 53 = .ok (.invokevirtual 247, 3) := dk_182 0 247 (dk_at dksX2_render_2 5 rfl rfl)
theorem dX2_render_56 : decode cX2_render 56 = .ok (.aload_n 0, 1) := dk_42 (dk_at dksX2_render_2 8 rfl rfl)
theorem dX2_render_57 : decode cX2_render 57 = .ok (.getfield 238, 3) := dk_180 0 238 (dk_at dksX2_render_2 9 rfl rfl)
theorem dX2_render_60 : decode cX2_render 60 = .ok (.ireturn, 1) := dk_172 (dk_at dksX2_render_2 12 rfl rfl)
abbrev cX2_beginBlock : ByteArray := prog_14_method_29_code
def yX2_beginBlock : MethodName := ⟨RX2, "beginBlock", "()V"⟩
def dkwX2_beginBlock_2 : List UInt8 := [167, 255, 213, 177]
abbrev dktX2_beginBlock_2 : List UInt8 := dkwX2_beginBlock_2 ++ []
def dkwX2_beginBlock_1 : List UInt8 := [167, 0, 4, 3, 79, 42, 180, 0, 70, 27, 3, 79, 42, 180, 0, 73, 27, 3, 79, 132, 1, 1]
abbrev dktX2_beginBlock_1 : List UInt8 := dkwX2_beginBlock_1 ++ dktX2_beginBlock_2
def dkwX2_beginBlock_0 : List UInt8 := [3, 60, 27, 16, 8, 162, 0, 43, 42, 180, 0, 67, 27, 42, 180, 0, 45, 27, 51, 153, 0, 7, 4]
abbrev dktX2_beginBlock_0 : List UInt8 := dkwX2_beginBlock_0 ++ dktX2_beginBlock_1
theorem dksX2_beginBlock_0 : cX2_beginBlock.data.toList.drop 0 = dktX2_beginBlock_0 := by decide +kernel
theorem dksX2_beginBlock_1 : cX2_beginBlock.data.toList.drop 23 = dktX2_beginBlock_1 := dk_seg dksX2_beginBlock_0 23 rfl rfl
theorem dksX2_beginBlock_2 : cX2_beginBlock.data.toList.drop 45 = dktX2_beginBlock_2 := dk_seg dksX2_beginBlock_1 22 rfl rfl
theorem dX2_beginBlock_0 : decode cX2_beginBlock 0 = .ok (.iconst 0, 1) := dk_3 (dk_at dksX2_beginBlock_0 0 rfl rfl)
theorem dX2_beginBlock_1 : decode cX2_beginBlock 1 = .ok (.istore_n 1, 1) := dk_60 (dk_at dksX2_beginBlock_0 1 rfl rfl)
theorem dX2_beginBlock_2 : decode cX2_beginBlock 2 = .ok (.iload_n 1, 1) := dk_27 (dk_at dksX2_beginBlock_0 2 rfl rfl)
theorem dX2_beginBlock_3 : decode cX2_beginBlock 3 = .ok (.bipush 8, 2) := dk_16 8 (dk_at dksX2_beginBlock_0 3 rfl rfl)
theorem dX2_beginBlock_5 : decode cX2_beginBlock 5 = .ok (.if_icmp .ge 43, 3) := dk_162 0 43 (dk_at dksX2_beginBlock_0 5 rfl rfl)
theorem dX2_beginBlock_8 : decode cX2_beginBlock 8 = .ok (.aload_n 0, 1) := dk_42 (dk_at dksX2_beginBlock_0 8 rfl rfl)
theorem dX2_beginBlock_9 : decode cX2_beginBlock 9 = .ok (.getfield 67, 3) := dk_180 0 67 (dk_at dksX2_beginBlock_0 9 rfl rfl)
theorem dX2_beginBlock_12 : decode cX2_beginBlock 12 = .ok (.iload_n 1, 1) := dk_27 (dk_at dksX2_beginBlock_0 12 rfl rfl)
theorem dX2_beginBlock_13 : decode cX2_beginBlock 13 = .ok (.aload_n 0, 1) := dk_42 (dk_at dksX2_beginBlock_0 13 rfl rfl)
theorem dX2_beginBlock_14 : decode cX2_beginBlock 14 = .ok (.getfield 45, 3) := dk_180 0 45 (dk_at dksX2_beginBlock_0 14 rfl rfl)
theorem dX2_beginBlock_17 : decode cX2_beginBlock 17 = .ok (.iload_n 1, 1) := dk_27 (dk_at dksX2_beginBlock_0 17 rfl rfl)
theorem dX2_beginBlock_18 : decode cX2_beginBlock 18 = .ok (.baload, 1) := dk_51 (dk_at dksX2_beginBlock_0 18 rfl rfl)
theorem dX2_beginBlock_19 : decode cX2_beginBlock 19 = .ok (.ifCond .eq 7, 3) := dk_153 0 7 (dk_at dksX2_beginBlock_0 19 rfl rfl)
theorem dX2_beginBlock_22 : decode cX2_beginBlock 22 = .ok (.iconst 1, 1) := dk_4 (dk_at dksX2_beginBlock_0 22 rfl rfl)
theorem dX2_beginBlock_23 : decode cX2_beginBlock 23 = .ok (.goto 4, 3) := dk_167 0 4 (dk_at dksX2_beginBlock_1 0 rfl rfl)
theorem dX2_beginBlock_26 : decode cX2_beginBlock 26 = .ok (.iconst 0, 1) := dk_3 (dk_at dksX2_beginBlock_1 3 rfl rfl)
theorem dX2_beginBlock_27 : decode cX2_beginBlock 27 = .ok (.iastore, 1) := dk_79 (dk_at dksX2_beginBlock_1 4 rfl rfl)
theorem dX2_beginBlock_28 : decode cX2_beginBlock 28 = .ok (.aload_n 0, 1) := dk_42 (dk_at dksX2_beginBlock_1 5 rfl rfl)
theorem dX2_beginBlock_29 : decode cX2_beginBlock 29 = .ok (.getfield 70, 3) := dk_180 0 70 (dk_at dksX2_beginBlock_1 6 rfl rfl)
theorem dX2_beginBlock_32 : decode cX2_beginBlock 32 = .ok (.iload_n 1, 1) := dk_27 (dk_at dksX2_beginBlock_1 9 rfl rfl)
theorem dX2_beginBlock_33 : decode cX2_beginBlock 33 = .ok (.iconst 0, 1) := dk_3 (dk_at dksX2_beginBlock_1 10 rfl rfl)
theorem dX2_beginBlock_34 : decode cX2_beginBlock 34 = .ok (.iastore, 1) := dk_79 (dk_at dksX2_beginBlock_1 11 rfl rfl)
theorem dX2_beginBlock_35 : decode cX2_beginBlock 35 = .ok (.aload_n 0, 1) := dk_42 (dk_at dksX2_beginBlock_1 12 rfl rfl)
theorem dX2_beginBlock_36 : decode cX2_beginBlock 36 = .ok (.getfield 73, 3) := dk_180 0 73 (dk_at dksX2_beginBlock_1 13 rfl rfl)
theorem dX2_beginBlock_39 : decode cX2_beginBlock 39 = .ok (.iload_n 1, 1) := dk_27 (dk_at dksX2_beginBlock_1 16 rfl rfl)
theorem dX2_beginBlock_40 : decode cX2_beginBlock 40 = .ok (.iconst 0, 1) := dk_3 (dk_at dksX2_beginBlock_1 17 rfl rfl)
theorem dX2_beginBlock_41 : decode cX2_beginBlock 41 = .ok (.iastore, 1) := dk_79 (dk_at dksX2_beginBlock_1 18 rfl rfl)
theorem dX2_beginBlock_42 : decode cX2_beginBlock 42 = .ok (.iinc 1 1, 3) := dk_132 1 1 (dk_at dksX2_beginBlock_1 19 rfl rfl)
theorem dX2_beginBlock_45 : decode cX2_beginBlock 45 = .ok (.goto (-43), 3) := dk_167 255 213 (dk_at dksX2_beginBlock_2 0 rfl rfl)
theorem dX2_beginBlock_48 : decode cX2_beginBlock 48 = .ok (.return_, 1) := dk_177 (dk_at dksX2_beginBlock_2 3 rfl rfl)
abbrev cX2_turn : ByteArray := prog_14_method_44_code
def yX2_turn : MethodName := ⟨RX2, "turn", "(I)I"⟩
def dkwX2_turn_1 : List UInt8 := [167, 0, 5, 16, 153, 172]
abbrev dktX2_turn_1 : List UInt8 := dkwX2_turn_1 ++ []
def dkwX2_turn_0 : List UInt8 := [42, 27, 182, 1, 45, 154, 0, 6, 16, 155, 172, 42, 180, 0, 159, 153, 0, 11, 42, 27, 182, 1, 48]
abbrev dktX2_turn_0 : List UInt8 := dkwX2_turn_0 ++ dktX2_turn_1
theorem dksX2_turn_0 : cX2_turn.data.toList.drop 0 = dktX2_turn_0 := by decide +kernel
theorem dksX2_turn_1 : cX2_turn.data.toList.drop 23 = dktX2_turn_1 := dk_seg dksX2_turn_0 23 rfl rfl
theorem dX2_turn_0 : decode cX2_turn 0 = .ok (.aload_n 0, 1) := dk_42 (dk_at dksX2_turn_0 0 rfl rfl)
theorem dX2_turn_1 : decode cX2_turn 1 = .ok (.iload_n 1, 1) := dk_27 (dk_at dksX2_turn_0 1 rfl rfl)
theorem dX2_turn_2 : decode cX2_turn 2 = .ok (.invokevirtual 301, 3) := dk_182 1 45 (dk_at dksX2_turn_0 2 rfl rfl)
theorem dX2_turn_5 : decode cX2_turn 5 = .ok (.ifCond .ne 6, 3) := dk_154 0 6 (dk_at dksX2_turn_0 5 rfl rfl)
theorem dX2_turn_8 : decode cX2_turn 8 = .ok (.bipush (-101), 2) := dk_16 155 (dk_at dksX2_turn_0 8 rfl rfl)
theorem dX2_turn_10 : decode cX2_turn 10 = .ok (.ireturn, 1) := dk_172 (dk_at dksX2_turn_0 10 rfl rfl)
theorem dX2_turn_11 : decode cX2_turn 11 = .ok (.aload_n 0, 1) := dk_42 (dk_at dksX2_turn_0 11 rfl rfl)
theorem dX2_turn_12 : decode cX2_turn 12 = .ok (.getfield 159, 3) := dk_180 0 159 (dk_at dksX2_turn_0 12 rfl rfl)
theorem dX2_turn_15 : decode cX2_turn 15 = .ok (.ifCond .eq 11, 3) := dk_153 0 11 (dk_at dksX2_turn_0 15 rfl rfl)
theorem dX2_turn_18 : decode cX2_turn 18 = .ok (.aload_n 0, 1) := dk_42 (dk_at dksX2_turn_0 18 rfl rfl)
theorem dX2_turn_19 : decode cX2_turn 19 = .ok (.iload_n 1, 1) := dk_27 (dk_at dksX2_turn_0 19 rfl rfl)
theorem dX2_turn_20 : decode cX2_turn 20 = .ok (.invokevirtual 304, 3) := dk_182 1 48 (dk_at dksX2_turn_0 20 rfl rfl)
theorem dX2_turn_23 : decode cX2_turn 23 = .ok (.goto 5, 3) := dk_167 0 5 (dk_at dksX2_turn_1 0 rfl rfl)
theorem dX2_turn_26 : decode cX2_turn 26 = .ok (.bipush (-103), 2) := dk_16 153 (dk_at dksX2_turn_1 3 rfl rfl)
theorem dX2_turn_28 : decode cX2_turn 28 = .ok (.ireturn, 1) := dk_172 (dk_at dksX2_turn_1 5 rfl rfl)
abbrev cX2_isWorker : ByteArray := prog_14_method_43_code
def yX2_isWorker : MethodName := ⟨RX2, "isWorker", "(I)Z"⟩
def dkwX2_isWorker_0 : List UInt8 := [27, 3, 42, 180, 0, 85, 4, 100, 184, 0, 136, 172]
abbrev dktX2_isWorker_0 : List UInt8 := dkwX2_isWorker_0 ++ []
theorem dksX2_isWorker_0 : cX2_isWorker.data.toList.drop 0 = dktX2_isWorker_0 := by decide +kernel
theorem dX2_isWorker_0 : decode cX2_isWorker 0 = .ok (.iload_n 1, 1) := dk_27 (dk_at dksX2_isWorker_0 0 rfl rfl)
theorem dX2_isWorker_1 : decode cX2_isWorker 1 = .ok (.iconst 0, 1) := dk_3 (dk_at dksX2_isWorker_0 1 rfl rfl)
theorem dX2_isWorker_2 : decode cX2_isWorker 2 = .ok (.aload_n 0, 1) := dk_42 (dk_at dksX2_isWorker_0 2 rfl rfl)
theorem dX2_isWorker_3 : decode cX2_isWorker 3 = .ok (.getfield 85, 3) := dk_180 0 85 (dk_at dksX2_isWorker_0 3 rfl rfl)
theorem dX2_isWorker_6 : decode cX2_isWorker 6 = .ok (.iconst 1, 1) := dk_4 (dk_at dksX2_isWorker_0 6 rfl rfl)
theorem dX2_isWorker_7 : decode cX2_isWorker 7 = .ok (.isub, 1) := dk_100 (dk_at dksX2_isWorker_0 7 rfl rfl)
theorem dX2_isWorker_8 : decode cX2_isWorker 8 = .ok (.invokestatic 136, 3) := dk_184 0 136 (dk_at dksX2_isWorker_0 8 rfl rfl)
theorem dX2_isWorker_11 : decode cX2_isWorker 11 = .ok (.ireturn, 1) := dk_172 (dk_at dksX2_isWorker_0 11 rfl rfl)
abbrev cX2_goes : ByteArray := prog_14_method_40_code
def yX2_goes : MethodName := ⟨RX2, "goes", "(I)I"⟩
def dkwX2_goes_5 : List UInt8 := [182, 1, 28, 167, 0, 10, 42, 28, 29, 27, 182, 1, 19, 172, 42, 182, 1, 35, 172]
abbrev dktX2_goes_5 : List UInt8 := dkwX2_goes_5 ++ []
def dkwX2_goes_4 : List UInt8 := [28, 16, 8, 162, 0, 34, 42, 180, 0, 76, 5, 28, 104, 46, 62, 29, 2, 160, 0, 12, 42, 28, 27]
abbrev dktX2_goes_4 : List UInt8 := dkwX2_goes_4 ++ dktX2_goes_5
def dkwX2_goes_3 : List UInt8 := [28, 27, 182, 1, 28, 172, 42, 182, 1, 31, 153, 0, 8, 42, 182, 1, 22, 172, 42, 7, 182, 1, 25, 61]
abbrev dktX2_goes_3 : List UInt8 := dkwX2_goes_3 ++ dktX2_goes_4
def dkwX2_goes_2 : List UInt8 := [182, 1, 19, 167, 0, 7, 42, 182, 1, 22, 172, 42, 4, 182, 1, 25, 61, 28, 16, 8, 162, 0, 10, 42]
abbrev dktX2_goes_2 : List UInt8 := dkwX2_goes_2 ++ dktX2_goes_3
def dkwX2_goes_1 : List UInt8 := [180, 0, 70, 28, 46, 96, 46, 182, 1, 15, 153, 0, 18, 42, 28, 42, 180, 0, 70, 28, 46, 27]
abbrev dktX2_goes_1 : List UInt8 := dkwX2_goes_1 ++ dktX2_goes_2
def dkwX2_goes_0 : List UInt8 := [42, 180, 0, 89, 27, 46, 61, 28, 2, 159, 0, 46, 42, 28, 42, 180, 0, 64, 7, 28, 104, 42]
abbrev dktX2_goes_0 : List UInt8 := dkwX2_goes_0 ++ dktX2_goes_1
theorem dksX2_goes_0 : cX2_goes.data.toList.drop 0 = dktX2_goes_0 := by decide +kernel
theorem dksX2_goes_1 : cX2_goes.data.toList.drop 22 = dktX2_goes_1 := dk_seg dksX2_goes_0 22 rfl rfl
theorem dksX2_goes_2 : cX2_goes.data.toList.drop 44 = dktX2_goes_2 := dk_seg dksX2_goes_1 22 rfl rfl
theorem dksX2_goes_3 : cX2_goes.data.toList.drop 68 = dktX2_goes_3 := dk_seg dksX2_goes_2 24 rfl rfl
theorem dksX2_goes_4 : cX2_goes.data.toList.drop 92 = dktX2_goes_4 := dk_seg dksX2_goes_3 24 rfl rfl
theorem dksX2_goes_5 : cX2_goes.data.toList.drop 115 = dktX2_goes_5 := dk_seg dksX2_goes_4 23 rfl rfl
theorem dX2_goes_0 : decode cX2_goes 0 = .ok (.aload_n 0, 1) := dk_42 (dk_at dksX2_goes_0 0 rfl rfl)
theorem dX2_goes_1 : decode cX2_goes 1 = .ok (.getfield 89, 3) := dk_180 0 89 (dk_at dksX2_goes_0 1 rfl rfl)
theorem dX2_goes_4 : decode cX2_goes 4 = .ok (.iload_n 1, 1) := dk_27 (dk_at dksX2_goes_0 4 rfl rfl)
theorem dX2_goes_5 : decode cX2_goes 5 = .ok (.iaload, 1) := dk_46 (dk_at dksX2_goes_0 5 rfl rfl)
theorem dX2_goes_6 : decode cX2_goes 6 = .ok (.istore_n 2, 1) := dk_61 (dk_at dksX2_goes_0 6 rfl rfl)
theorem dX2_goes_7 : decode cX2_goes 7 = .ok (.iload_n 2, 1) := dk_28 (dk_at dksX2_goes_0 7 rfl rfl)
theorem dX2_goes_8 : decode cX2_goes 8 = .ok (.iconst (-1), 1) := dk_2 (dk_at dksX2_goes_0 8 rfl rfl)
theorem dX2_goes_9 : decode cX2_goes 9 = .ok (.if_icmp .eq 46, 3) := dk_159 0 46 (dk_at dksX2_goes_0 9 rfl rfl)
theorem dX2_goes_12 : decode cX2_goes 12 = .ok (.aload_n 0, 1) := dk_42 (dk_at dksX2_goes_0 12 rfl rfl)
theorem dX2_goes_13 : decode cX2_goes 13 = .ok (.iload_n 2, 1) := dk_28 (dk_at dksX2_goes_0 13 rfl rfl)
theorem dX2_goes_14 : decode cX2_goes 14 = .ok (.aload_n 0, 1) := dk_42 (dk_at dksX2_goes_0 14 rfl rfl)
theorem dX2_goes_15 : decode cX2_goes 15 = .ok (.getfield 64, 3) := dk_180 0 64 (dk_at dksX2_goes_0 15 rfl rfl)
theorem dX2_goes_18 : decode cX2_goes 18 = .ok (.iconst 4, 1) := dk_7 (dk_at dksX2_goes_0 18 rfl rfl)
theorem dX2_goes_19 : decode cX2_goes 19 = .ok (.iload_n 2, 1) := dk_28 (dk_at dksX2_goes_0 19 rfl rfl)
theorem dX2_goes_20 : decode cX2_goes 20 = .ok (.imul, 1) := dk_104 (dk_at dksX2_goes_0 20 rfl rfl)
theorem dX2_goes_21 : decode cX2_goes 21 = .ok (.aload_n 0, 1) := dk_42 (dk_at dksX2_goes_0 21 rfl rfl)
theorem dX2_goes_22 : decode cX2_goes 22 = .ok (.getfield 70, 3) := dk_180 0 70 (dk_at dksX2_goes_1 0 rfl rfl)
theorem dX2_goes_25 : decode cX2_goes 25 = .ok (.iload_n 2, 1) := dk_28 (dk_at dksX2_goes_1 3 rfl rfl)
theorem dX2_goes_26 : decode cX2_goes 26 = .ok (.iaload, 1) := dk_46 (dk_at dksX2_goes_1 4 rfl rfl)
theorem dX2_goes_27 : decode cX2_goes 27 = .ok (.iadd, 1) := dk_96 (dk_at dksX2_goes_1 5 rfl rfl)
theorem dX2_goes_28 : decode cX2_goes 28 = .ok (.iaload, 1) := dk_46 (dk_at dksX2_goes_1 6 rfl rfl)
theorem dX2_goes_29 : decode cX2_goes 29 = .ok (.invokevirtual 271, 3) := dk_182 1 15 (dk_at dksX2_goes_1 7 rfl rfl)
theorem dX2_goes_32 : decode cX2_goes 32 = .ok (.ifCond .eq 18, 3) := dk_153 0 18 (dk_at dksX2_goes_1 10 rfl rfl)
theorem dX2_goes_35 : decode cX2_goes 35 = .ok (.aload_n 0, 1) := dk_42 (dk_at dksX2_goes_1 13 rfl rfl)
theorem dX2_goes_36 : decode cX2_goes 36 = .ok (.iload_n 2, 1) := dk_28 (dk_at dksX2_goes_1 14 rfl rfl)
theorem dX2_goes_37 : decode cX2_goes 37 = .ok (.aload_n 0, 1) := dk_42 (dk_at dksX2_goes_1 15 rfl rfl)
theorem dX2_goes_38 : decode cX2_goes 38 = .ok (.getfield 70, 3) := dk_180 0 70 (dk_at dksX2_goes_1 16 rfl rfl)
theorem dX2_goes_41 : decode cX2_goes 41 = .ok (.iload_n 2, 1) := dk_28 (dk_at dksX2_goes_1 19 rfl rfl)
theorem dX2_goes_42 : decode cX2_goes 42 = .ok (.iaload, 1) := dk_46 (dk_at dksX2_goes_1 20 rfl rfl)
theorem dX2_goes_43 : decode cX2_goes 43 = .ok (.iload_n 1, 1) := dk_27 (dk_at dksX2_goes_1 21 rfl rfl)
theorem dX2_goes_44 : decode cX2_goes 44 = .ok (.invokevirtual 275, 3) := dk_182 1 19 (dk_at dksX2_goes_2 0 rfl rfl)
theorem dX2_goes_47 : decode cX2_goes 47 = .ok (.goto 7, 3) := dk_167 0 7 (dk_at dksX2_goes_2 3 rfl rfl)
theorem dX2_goes_50 : decode cX2_goes 50 = .ok (.aload_n 0, 1) := dk_42 (dk_at dksX2_goes_2 6 rfl rfl)
theorem dX2_goes_51 : decode cX2_goes 51 = .ok (.invokevirtual 278, 3) := dk_182 1 22 (dk_at dksX2_goes_2 7 rfl rfl)
theorem dX2_goes_54 : decode cX2_goes 54 = .ok (.ireturn, 1) := dk_172 (dk_at dksX2_goes_2 10 rfl rfl)
theorem dX2_goes_55 : decode cX2_goes 55 = .ok (.aload_n 0, 1) := dk_42 (dk_at dksX2_goes_2 11 rfl rfl)
theorem dX2_goes_56 : decode cX2_goes 56 = .ok (.iconst 1, 1) := dk_4 (dk_at dksX2_goes_2 12 rfl rfl)
theorem dX2_goes_57 : decode cX2_goes 57 = .ok (.invokevirtual 281, 3) := dk_182 1 25 (dk_at dksX2_goes_2 13 rfl rfl)
theorem dX2_goes_60 : decode cX2_goes 60 = .ok (.istore_n 2, 1) := dk_61 (dk_at dksX2_goes_2 16 rfl rfl)
theorem dX2_goes_61 : decode cX2_goes 61 = .ok (.iload_n 2, 1) := dk_28 (dk_at dksX2_goes_2 17 rfl rfl)
theorem dX2_goes_62 : decode cX2_goes 62 = .ok (.bipush 8, 2) := dk_16 8 (dk_at dksX2_goes_2 18 rfl rfl)
theorem dX2_goes_64 : decode cX2_goes 64 = .ok (.if_icmp .ge 10, 3) := dk_162 0 10 (dk_at dksX2_goes_2 20 rfl rfl)
theorem dX2_goes_67 : decode cX2_goes 67 = .ok (.aload_n 0, 1) := dk_42 (dk_at dksX2_goes_2 23 rfl rfl)
theorem dX2_goes_68 : decode cX2_goes 68 = .ok (.iload_n 2, 1) := dk_28 (dk_at dksX2_goes_3 0 rfl rfl)
theorem dX2_goes_69 : decode cX2_goes 69 = .ok (.iload_n 1, 1) := dk_27 (dk_at dksX2_goes_3 1 rfl rfl)
theorem dX2_goes_70 : decode cX2_goes 70 = .ok (.invokevirtual 284, 3) := dk_182 1 28 (dk_at dksX2_goes_3 2 rfl rfl)
theorem dX2_goes_73 : decode cX2_goes 73 = .ok (.ireturn, 1) := dk_172 (dk_at dksX2_goes_3 5 rfl rfl)
theorem dX2_goes_74 : decode cX2_goes 74 = .ok (.aload_n 0, 1) := dk_42 (dk_at dksX2_goes_3 6 rfl rfl)
theorem dX2_goes_75 : decode cX2_goes 75 = .ok (.invokevirtual 287, 3) := dk_182 1 31 (dk_at dksX2_goes_3 7 rfl rfl)
theorem dX2_goes_78 : decode cX2_goes 78 = .ok (.ifCond .eq 8, 3) := dk_153 0 8 (dk_at dksX2_goes_3 10 rfl rfl)
theorem dX2_goes_81 : decode cX2_goes 81 = .ok (.aload_n 0, 1) := dk_42 (dk_at dksX2_goes_3 13 rfl rfl)
theorem dX2_goes_82 : decode cX2_goes 82 = .ok (.invokevirtual 278, 3) := dk_182 1 22 (dk_at dksX2_goes_3 14 rfl rfl)
theorem dX2_goes_85 : decode cX2_goes 85 = .ok (.ireturn, 1) := dk_172 (dk_at dksX2_goes_3 17 rfl rfl)
theorem dX2_goes_86 : decode cX2_goes 86 = .ok (.aload_n 0, 1) := dk_42 (dk_at dksX2_goes_3 18 rfl rfl)
theorem dX2_goes_87 : decode cX2_goes 87 = .ok (.iconst 4, 1) := dk_7 (dk_at dksX2_goes_3 19 rfl rfl)
theorem dX2_goes_88 : decode cX2_goes 88 = .ok (.invokevirtual 281, 3) := dk_182 1 25 (dk_at dksX2_goes_3 20 rfl rfl)
theorem dX2_goes_91 : decode cX2_goes 91 = .ok (.istore_n 2, 1) := dk_61 (dk_at dksX2_goes_3 23 rfl rfl)
theorem dX2_goes_92 : decode cX2_goes 92 = .ok (.iload_n 2, 1) := dk_28 (dk_at dksX2_goes_4 0 rfl rfl)
theorem dX2_goes_93 : decode cX2_goes 93 = .ok (.bipush 8, 2) := dk_16 8 (dk_at dksX2_goes_4 1 rfl rfl)
theorem dX2_goes_95 : decode cX2_goes 95 = .ok (.if_icmp .ge 34, 3) := dk_162 0 34 (dk_at dksX2_goes_4 3 rfl rfl)
theorem dX2_goes_98 : decode cX2_goes 98 = .ok (.aload_n 0, 1) := dk_42 (dk_at dksX2_goes_4 6 rfl rfl)
theorem dX2_goes_99 : decode cX2_goes 99 = .ok (.getfield 76, 3) := dk_180 0 76 (dk_at dksX2_goes_4 7 rfl rfl)
theorem dX2_goes_102 : decode cX2_goes 102 = .ok (.iconst 2, 1) := dk_5 (dk_at dksX2_goes_4 10 rfl rfl)
theorem dX2_goes_103 : decode cX2_goes 103 = .ok (.iload_n 2, 1) := dk_28 (dk_at dksX2_goes_4 11 rfl rfl)
theorem dX2_goes_104 : decode cX2_goes 104 = .ok (.imul, 1) := dk_104 (dk_at dksX2_goes_4 12 rfl rfl)
theorem dX2_goes_105 : decode cX2_goes 105 = .ok (.iaload, 1) := dk_46 (dk_at dksX2_goes_4 13 rfl rfl)
theorem dX2_goes_106 : decode cX2_goes 106 = .ok (.istore_n 3, 1) := dk_62 (dk_at dksX2_goes_4 14 rfl rfl)
theorem dX2_goes_107 : decode cX2_goes 107 = .ok (.iload_n 3, 1) := dk_29 (dk_at dksX2_goes_4 15 rfl rfl)
theorem dX2_goes_108 : decode cX2_goes 108 = .ok (.iconst (-1), 1) := dk_2 (dk_at dksX2_goes_4 16 rfl rfl)
theorem dX2_goes_109 : decode cX2_goes 109 = .ok (.if_icmp .ne 12, 3) := dk_160 0 12 (dk_at dksX2_goes_4 17 rfl rfl)
theorem dX2_goes_112 : decode cX2_goes 112 = .ok (.aload_n 0, 1) := dk_42 (dk_at dksX2_goes_4 20 rfl rfl)
theorem dX2_goes_113 : decode cX2_goes 113 = .ok (.iload_n 2, 1) := dk_28 (dk_at dksX2_goes_4 21 rfl rfl)
theorem dX2_goes_114 : decode cX2_goes 114 = .ok (.iload_n 1, 1) := dk_27 (dk_at dksX2_goes_4 22 rfl rfl)
theorem dX2_goes_115 : decode cX2_goes 115 = .ok (.invokevirtual 284, 3) := dk_182 1 28 (dk_at dksX2_goes_5 0 rfl rfl)
theorem dX2_goes_118 : decode cX2_goes 118 = .ok (.goto 10, 3) := dk_167 0 10 (dk_at dksX2_goes_5 3 rfl rfl)
theorem dX2_goes_121 : decode cX2_goes 121 = .ok (.aload_n 0, 1) := dk_42 (dk_at dksX2_goes_5 6 rfl rfl)
theorem dX2_goes_122 : decode cX2_goes 122 = .ok (.iload_n 2, 1) := dk_28 (dk_at dksX2_goes_5 7 rfl rfl)
theorem dX2_goes_123 : decode cX2_goes 123 = .ok (.iload_n 3, 1) := dk_29 (dk_at dksX2_goes_5 8 rfl rfl)
theorem dX2_goes_124 : decode cX2_goes 124 = .ok (.iload_n 1, 1) := dk_27 (dk_at dksX2_goes_5 9 rfl rfl)
theorem dX2_goes_125 : decode cX2_goes 125 = .ok (.invokevirtual 275, 3) := dk_182 1 19 (dk_at dksX2_goes_5 10 rfl rfl)
theorem dX2_goes_128 : decode cX2_goes 128 = .ok (.ireturn, 1) := dk_172 (dk_at dksX2_goes_5 13 rfl rfl)
theorem dX2_goes_129 : decode cX2_goes 129 = .ok (.aload_n 0, 1) := dk_42 (dk_at dksX2_goes_5 14 rfl rfl)
theorem dX2_goes_130 : decode cX2_goes 130 = .ok (.invokevirtual 291, 3) := dk_182 1 35 (dk_at dksX2_goes_5 15 rfl rfl)
theorem dX2_goes_133 : decode cX2_goes 133 = .ok (.ireturn, 1) := dk_172 (dk_at dksX2_goes_5 18 rfl rfl)
abbrev cX2_mayPass : ByteArray := prog_14_method_32_code
def yX2_mayPass : MethodName := ⟨RX2, "mayPass", "(II)Z"⟩
def dkwX2_mayPass_2 : List UInt8 := [21, 4, 96, 46, 28, 160, 0, 5, 3, 172, 132, 4, 1, 167, 255, 230, 132, 3, 1, 167, 255, 191, 4, 172]
abbrev dktX2_mayPass_2 : List UInt8 := dkwX2_mayPass_2 ++ []
def dkwX2_mayPass_1 : List UInt8 := [160, 0, 40, 42, 180, 0, 70, 29, 46, 54, 4, 21, 4, 7, 162, 0, 26, 42, 180, 0, 64, 7, 29, 104]
abbrev dktX2_mayPass_1 : List UInt8 := dkwX2_mayPass_1 ++ dktX2_mayPass_2
def dkwX2_mayPass_0 : List UInt8 := [3, 62, 29, 27, 162, 0, 66, 42, 180, 0, 67, 29, 46, 4, 159, 0, 13, 42, 180, 0, 67, 29, 46, 5]
abbrev dktX2_mayPass_0 : List UInt8 := dkwX2_mayPass_0 ++ dktX2_mayPass_1
theorem dksX2_mayPass_0 : cX2_mayPass.data.toList.drop 0 = dktX2_mayPass_0 := by decide +kernel
theorem dksX2_mayPass_1 : cX2_mayPass.data.toList.drop 24 = dktX2_mayPass_1 := dk_seg dksX2_mayPass_0 24 rfl rfl
theorem dksX2_mayPass_2 : cX2_mayPass.data.toList.drop 48 = dktX2_mayPass_2 := dk_seg dksX2_mayPass_1 24 rfl rfl
theorem dX2_mayPass_0 : decode cX2_mayPass 0 = .ok (.iconst 0, 1) := dk_3 (dk_at dksX2_mayPass_0 0 rfl rfl)
theorem dX2_mayPass_1 : decode cX2_mayPass 1 = .ok (.istore_n 3, 1) := dk_62 (dk_at dksX2_mayPass_0 1 rfl rfl)
theorem dX2_mayPass_2 : decode cX2_mayPass 2 = .ok (.iload_n 3, 1) := dk_29 (dk_at dksX2_mayPass_0 2 rfl rfl)
theorem dX2_mayPass_3 : decode cX2_mayPass 3 = .ok (.iload_n 1, 1) := dk_27 (dk_at dksX2_mayPass_0 3 rfl rfl)
theorem dX2_mayPass_4 : decode cX2_mayPass 4 = .ok (.if_icmp .ge 66, 3) := dk_162 0 66 (dk_at dksX2_mayPass_0 4 rfl rfl)
theorem dX2_mayPass_7 : decode cX2_mayPass 7 = .ok (.aload_n 0, 1) := dk_42 (dk_at dksX2_mayPass_0 7 rfl rfl)
theorem dX2_mayPass_8 : decode cX2_mayPass 8 = .ok (.getfield 67, 3) := dk_180 0 67 (dk_at dksX2_mayPass_0 8 rfl rfl)
theorem dX2_mayPass_11 : decode cX2_mayPass 11 = .ok (.iload_n 3, 1) := dk_29 (dk_at dksX2_mayPass_0 11 rfl rfl)
theorem dX2_mayPass_12 : decode cX2_mayPass 12 = .ok (.iaload, 1) := dk_46 (dk_at dksX2_mayPass_0 12 rfl rfl)
theorem dX2_mayPass_13 : decode cX2_mayPass 13 = .ok (.iconst 1, 1) := dk_4 (dk_at dksX2_mayPass_0 13 rfl rfl)
theorem dX2_mayPass_14 : decode cX2_mayPass 14 = .ok (.if_icmp .eq 13, 3) := dk_159 0 13 (dk_at dksX2_mayPass_0 14 rfl rfl)
theorem dX2_mayPass_17 : decode cX2_mayPass 17 = .ok (.aload_n 0, 1) := dk_42 (dk_at dksX2_mayPass_0 17 rfl rfl)
theorem dX2_mayPass_18 : decode cX2_mayPass 18 = .ok (.getfield 67, 3) := dk_180 0 67 (dk_at dksX2_mayPass_0 18 rfl rfl)
theorem dX2_mayPass_21 : decode cX2_mayPass 21 = .ok (.iload_n 3, 1) := dk_29 (dk_at dksX2_mayPass_0 21 rfl rfl)
theorem dX2_mayPass_22 : decode cX2_mayPass 22 = .ok (.iaload, 1) := dk_46 (dk_at dksX2_mayPass_0 22 rfl rfl)
theorem dX2_mayPass_23 : decode cX2_mayPass 23 = .ok (.iconst 2, 1) := dk_5 (dk_at dksX2_mayPass_0 23 rfl rfl)
theorem dX2_mayPass_24 : decode cX2_mayPass 24 = .ok (.if_icmp .ne 40, 3) := dk_160 0 40 (dk_at dksX2_mayPass_1 0 rfl rfl)
theorem dX2_mayPass_27 : decode cX2_mayPass 27 = .ok (.aload_n 0, 1) := dk_42 (dk_at dksX2_mayPass_1 3 rfl rfl)
theorem dX2_mayPass_28 : decode cX2_mayPass 28 = .ok (.getfield 70, 3) := dk_180 0 70 (dk_at dksX2_mayPass_1 4 rfl rfl)
theorem dX2_mayPass_31 : decode cX2_mayPass 31 = .ok (.iload_n 3, 1) := dk_29 (dk_at dksX2_mayPass_1 7 rfl rfl)
theorem dX2_mayPass_32 : decode cX2_mayPass 32 = .ok (.iaload, 1) := dk_46 (dk_at dksX2_mayPass_1 8 rfl rfl)
theorem dX2_mayPass_33 : decode cX2_mayPass 33 = .ok (.istore 4, 2) := dk_54 4 (dk_at dksX2_mayPass_1 9 rfl rfl)
theorem dX2_mayPass_35 : decode cX2_mayPass 35 = .ok (.iload 4, 2) := dk_21 4 (dk_at dksX2_mayPass_1 11 rfl rfl)
theorem dX2_mayPass_37 : decode cX2_mayPass 37 = .ok (.iconst 4, 1) := dk_7 (dk_at dksX2_mayPass_1 13 rfl rfl)
theorem dX2_mayPass_38 : decode cX2_mayPass 38 = .ok (.if_icmp .ge 26, 3) := dk_162 0 26 (dk_at dksX2_mayPass_1 14 rfl rfl)
theorem dX2_mayPass_41 : decode cX2_mayPass 41 = .ok (.aload_n 0, 1) := dk_42 (dk_at dksX2_mayPass_1 17 rfl rfl)
theorem dX2_mayPass_42 : decode cX2_mayPass 42 = .ok (.getfield 64, 3) := dk_180 0 64 (dk_at dksX2_mayPass_1 18 rfl rfl)
theorem dX2_mayPass_45 : decode cX2_mayPass 45 = .ok (.iconst 4, 1) := dk_7 (dk_at dksX2_mayPass_1 21 rfl rfl)
theorem dX2_mayPass_46 : decode cX2_mayPass 46 = .ok (.iload_n 3, 1) := dk_29 (dk_at dksX2_mayPass_1 22 rfl rfl)
theorem dX2_mayPass_47 : decode cX2_mayPass 47 = .ok (.imul, 1) := dk_104 (dk_at dksX2_mayPass_1 23 rfl rfl)
theorem dX2_mayPass_48 : decode cX2_mayPass 48 = .ok (.iload 4, 2) := dk_21 4 (dk_at dksX2_mayPass_2 0 rfl rfl)
theorem dX2_mayPass_50 : decode cX2_mayPass 50 = .ok (.iadd, 1) := dk_96 (dk_at dksX2_mayPass_2 2 rfl rfl)
theorem dX2_mayPass_51 : decode cX2_mayPass 51 = .ok (.iaload, 1) := dk_46 (dk_at dksX2_mayPass_2 3 rfl rfl)
theorem dX2_mayPass_52 : decode cX2_mayPass 52 = .ok (.iload_n 2, 1) := dk_28 (dk_at dksX2_mayPass_2 4 rfl rfl)
theorem dX2_mayPass_53 : decode cX2_mayPass 53 = .ok (.if_icmp .ne 5, 3) := dk_160 0 5 (dk_at dksX2_mayPass_2 5 rfl rfl)
theorem dX2_mayPass_56 : decode cX2_mayPass 56 = .ok (.iconst 0, 1) := dk_3 (dk_at dksX2_mayPass_2 8 rfl rfl)
theorem dX2_mayPass_57 : decode cX2_mayPass 57 = .ok (.ireturn, 1) := dk_172 (dk_at dksX2_mayPass_2 9 rfl rfl)
theorem dX2_mayPass_58 : decode cX2_mayPass 58 = .ok (.iinc 4 1, 3) := dk_132 4 1 (dk_at dksX2_mayPass_2 10 rfl rfl)
theorem dX2_mayPass_61 : decode cX2_mayPass 61 = .ok (.goto (-26), 3) := dk_167 255 230 (dk_at dksX2_mayPass_2 13 rfl rfl)
theorem dX2_mayPass_64 : decode cX2_mayPass 64 = .ok (.iinc 3 1, 3) := dk_132 3 1 (dk_at dksX2_mayPass_2 16 rfl rfl)
theorem dX2_mayPass_67 : decode cX2_mayPass 67 = .ok (.goto (-65), 3) := dk_167 255 191 (dk_at dksX2_mayPass_2 19 rfl rfl)
theorem dX2_mayPass_70 : decode cX2_mayPass 70 = .ok (.iconst 1, 1) := dk_4 (dk_at dksX2_mayPass_2 22 rfl rfl)
theorem dX2_mayPass_71 : decode cX2_mayPass 71 = .ok (.ireturn, 1) := dk_172 (dk_at dksX2_mayPass_2 23 rfl rfl)
abbrev cX2_passes : ByteArray := prog_14_method_36_code
def yX2_passes : MethodName := ⟨RX2, "passes", "(III)I"⟩
def dkwX2_passes_10 : List UInt8 := [182, 1, 5, 4, 172]
abbrev dktX2_passes_10 : List UInt8 := dkwX2_passes_10 ++ []
def dkwX2_passes_9 : List UInt8 := [132, 6, 1, 167, 255, 227, 42, 180, 0, 30, 21, 4, 92, 46, 4, 96, 79, 42, 27, 28, 4, 96, 29]
abbrev dktX2_passes_9 : List UInt8 := dkwX2_passes_9 ++ dktX2_passes_10
def dkwX2_passes_8 : List UInt8 := [162, 0, 28, 42, 180, 0, 82, 16, 8, 27, 104, 21, 6, 96, 42, 180, 0, 128, 21, 6, 48, 81]
abbrev dktX2_passes_8 : List UInt8 := dkwX2_passes_8 ++ dktX2_passes_9
def dkwX2_passes_7 : List UInt8 := [81, 132, 6, 1, 167, 255, 226, 42, 27, 28, 29, 182, 1, 1, 172, 3, 54, 6, 21, 6, 16, 8]
abbrev dktX2_passes_7 : List UInt8 := dkwX2_passes_7 ++ dktX2_passes_8
def dkwX2_passes_6 : List UInt8 := [16, 16, 162, 0, 29, 42, 180, 0, 39, 16, 16, 21, 4, 104, 21, 6, 96, 42, 180, 0, 42, 21, 6, 48]
abbrev dktX2_passes_6 : List UInt8 := dkwX2_passes_6 ++ dktX2_passes_7
def dkwX2_passes_5 : List UInt8 := [167, 255, 214, 42, 180, 0, 210, 153, 0, 56, 42, 180, 0, 33, 21, 4, 21, 5, 79, 3, 54, 6, 21, 6]
abbrev dktX2_passes_5 : List UInt8 := dkwX2_passes_5 ++ dktX2_passes_6
def dkwX2_passes_4 : List UInt8 := [21, 6, 42, 21, 4, 42, 180, 0, 82, 16, 8, 27, 104, 21, 6, 96, 48, 182, 1, 9, 81, 132, 6, 1]
abbrev dktX2_passes_4 : List UInt8 := dkwX2_passes_4 ++ dktX2_passes_5
def dkwX2_passes_3 : List UInt8 := [181, 0, 210, 3, 54, 6, 21, 6, 16, 8, 162, 0, 41, 42, 180, 0, 210, 154, 0, 34, 42, 180, 0, 128]
abbrev dktX2_passes_3 : List UInt8 := dkwX2_passes_3 ++ dktX2_passes_4
def dkwX2_passes_2 : List UInt8 := [42, 180, 0, 39, 16, 16, 21, 4, 104, 21, 6, 96, 48, 81, 132, 6, 1, 167, 255, 226, 42, 3]
abbrev dktX2_passes_2 : List UInt8 := dkwX2_passes_2 ++ dktX2_passes_3
def dkwX2_passes_1 : List UInt8 := [180, 0, 33, 21, 4, 46, 54, 5, 3, 54, 6, 21, 6, 16, 16, 162, 0, 29, 42, 180, 0, 42, 21, 6]
abbrev dktX2_passes_1 : List UInt8 := dkwX2_passes_1 ++ dktX2_passes_2
def dkwX2_passes_0 : List UInt8 := [42, 89, 180, 0, 254, 4, 96, 181, 0, 254, 42, 180, 0, 64, 7, 27, 104, 28, 96, 46, 54, 4, 42]
abbrev dktX2_passes_0 : List UInt8 := dkwX2_passes_0 ++ dktX2_passes_1
theorem dksX2_passes_0 : cX2_passes.data.toList.drop 0 = dktX2_passes_0 := by decide +kernel
theorem dksX2_passes_1 : cX2_passes.data.toList.drop 23 = dktX2_passes_1 := dk_seg dksX2_passes_0 23 rfl rfl
theorem dksX2_passes_2 : cX2_passes.data.toList.drop 47 = dktX2_passes_2 := dk_seg dksX2_passes_1 24 rfl rfl
theorem dksX2_passes_3 : cX2_passes.data.toList.drop 69 = dktX2_passes_3 := dk_seg dksX2_passes_2 22 rfl rfl
theorem dksX2_passes_4 : cX2_passes.data.toList.drop 93 = dktX2_passes_4 := dk_seg dksX2_passes_3 24 rfl rfl
theorem dksX2_passes_5 : cX2_passes.data.toList.drop 117 = dktX2_passes_5 := dk_seg dksX2_passes_4 24 rfl rfl
theorem dksX2_passes_6 : cX2_passes.data.toList.drop 141 = dktX2_passes_6 := dk_seg dksX2_passes_5 24 rfl rfl
theorem dksX2_passes_7 : cX2_passes.data.toList.drop 165 = dktX2_passes_7 := dk_seg dksX2_passes_6 24 rfl rfl
theorem dksX2_passes_8 : cX2_passes.data.toList.drop 187 = dktX2_passes_8 := dk_seg dksX2_passes_7 22 rfl rfl
theorem dksX2_passes_9 : cX2_passes.data.toList.drop 209 = dktX2_passes_9 := dk_seg dksX2_passes_8 22 rfl rfl
theorem dksX2_passes_10 : cX2_passes.data.toList.drop 232 = dktX2_passes_10 := dk_seg dksX2_passes_9 23 rfl rfl
theorem dX2_passes_0 : decode cX2_passes 0 = .ok (.aload_n 0, 1) := dk_42 (dk_at dksX2_passes_0 0 rfl rfl)
theorem dX2_passes_1 : decode cX2_passes 1 = .ok (.dup, 1) := dk_89 (dk_at dksX2_passes_0 1 rfl rfl)
theorem dX2_passes_2 : decode cX2_passes 2 = .ok (.getfield 254, 3) := dk_180 0 254 (dk_at dksX2_passes_0 2 rfl rfl)
theorem dX2_passes_5 : decode cX2_passes 5 = .ok (.iconst 1, 1) := dk_4 (dk_at dksX2_passes_0 5 rfl rfl)
theorem dX2_passes_6 : decode cX2_passes 6 = .ok (.iadd, 1) := dk_96 (dk_at dksX2_passes_0 6 rfl rfl)
theorem dX2_passes_7 : decode cX2_passes 7 = .ok (.putfield 254, 3) := dk_181 0 254 (dk_at dksX2_passes_0 7 rfl rfl)
theorem dX2_passes_10 : decode cX2_passes 10 = .ok (.aload_n 0, 1) := dk_42 (dk_at dksX2_passes_0 10 rfl rfl)
theorem dX2_passes_11 : decode cX2_passes 11 = .ok (.getfield 64, 3) := dk_180 0 64 (dk_at dksX2_passes_0 11 rfl rfl)
theorem dX2_passes_14 : decode cX2_passes 14 = .ok (.iconst 4, 1) := dk_7 (dk_at dksX2_passes_0 14 rfl rfl)
theorem dX2_passes_15 : decode cX2_passes 15 = .ok (.iload_n 1, 1) := dk_27 (dk_at dksX2_passes_0 15 rfl rfl)
theorem dX2_passes_16 : decode cX2_passes 16 = .ok (.imul, 1) := dk_104 (dk_at dksX2_passes_0 16 rfl rfl)
theorem dX2_passes_17 : decode cX2_passes 17 = .ok (.iload_n 2, 1) := dk_28 (dk_at dksX2_passes_0 17 rfl rfl)
theorem dX2_passes_18 : decode cX2_passes 18 = .ok (.iadd, 1) := dk_96 (dk_at dksX2_passes_0 18 rfl rfl)
theorem dX2_passes_19 : decode cX2_passes 19 = .ok (.iaload, 1) := dk_46 (dk_at dksX2_passes_0 19 rfl rfl)
theorem dX2_passes_20 : decode cX2_passes 20 = .ok (.istore 4, 2) := dk_54 4 (dk_at dksX2_passes_0 20 rfl rfl)
theorem dX2_passes_22 : decode cX2_passes 22 = .ok (.aload_n 0, 1) := dk_42 (dk_at dksX2_passes_0 22 rfl rfl)
theorem dX2_passes_23 : decode cX2_passes 23 = .ok (.getfield 33, 3) := dk_180 0 33 (dk_at dksX2_passes_1 0 rfl rfl)
theorem dX2_passes_26 : decode cX2_passes 26 = .ok (.iload 4, 2) := dk_21 4 (dk_at dksX2_passes_1 3 rfl rfl)
theorem dX2_passes_28 : decode cX2_passes 28 = .ok (.iaload, 1) := dk_46 (dk_at dksX2_passes_1 5 rfl rfl)
theorem dX2_passes_29 : decode cX2_passes 29 = .ok (.istore 5, 2) := dk_54 5 (dk_at dksX2_passes_1 6 rfl rfl)
theorem dX2_passes_31 : decode cX2_passes 31 = .ok (.iconst 0, 1) := dk_3 (dk_at dksX2_passes_1 8 rfl rfl)
theorem dX2_passes_32 : decode cX2_passes 32 = .ok (.istore 6, 2) := dk_54 6 (dk_at dksX2_passes_1 9 rfl rfl)
theorem dX2_passes_34 : decode cX2_passes 34 = .ok (.iload 6, 2) := dk_21 6 (dk_at dksX2_passes_1 11 rfl rfl)
theorem dX2_passes_36 : decode cX2_passes 36 = .ok (.bipush 16, 2) := dk_16 16 (dk_at dksX2_passes_1 13 rfl rfl)
theorem dX2_passes_38 : decode cX2_passes 38 = .ok (.if_icmp .ge 29, 3) := dk_162 0 29 (dk_at dksX2_passes_1 15 rfl rfl)
theorem dX2_passes_41 : decode cX2_passes 41 = .ok (.aload_n 0, 1) := dk_42 (dk_at dksX2_passes_1 18 rfl rfl)
theorem dX2_passes_42 : decode cX2_passes 42 = .ok (.getfield 42, 3) := dk_180 0 42 (dk_at dksX2_passes_1 19 rfl rfl)
theorem dX2_passes_45 : decode cX2_passes 45 = .ok (.iload 6, 2) := dk_21 6 (dk_at dksX2_passes_1 22 rfl rfl)
theorem dX2_passes_47 : decode cX2_passes 47 = .ok (.aload_n 0, 1) := dk_42 (dk_at dksX2_passes_2 0 rfl rfl)
theorem dX2_passes_48 : decode cX2_passes 48 = .ok (.getfield 39, 3) := dk_180 0 39 (dk_at dksX2_passes_2 1 rfl rfl)
theorem dX2_passes_51 : decode cX2_passes 51 = .ok (.bipush 16, 2) := dk_16 16 (dk_at dksX2_passes_2 4 rfl rfl)
theorem dX2_passes_53 : decode cX2_passes 53 = .ok (.iload 4, 2) := dk_21 4 (dk_at dksX2_passes_2 6 rfl rfl)
theorem dX2_passes_55 : decode cX2_passes 55 = .ok (.imul, 1) := dk_104 (dk_at dksX2_passes_2 8 rfl rfl)
theorem dX2_passes_56 : decode cX2_passes 56 = .ok (.iload 6, 2) := dk_21 6 (dk_at dksX2_passes_2 9 rfl rfl)
theorem dX2_passes_58 : decode cX2_passes 58 = .ok (.iadd, 1) := dk_96 (dk_at dksX2_passes_2 11 rfl rfl)
theorem dX2_passes_59 : decode cX2_passes 59 = .ok (.faload, 1) := dk_48 (dk_at dksX2_passes_2 12 rfl rfl)
theorem dX2_passes_60 : decode cX2_passes 60 = .ok (.fastore, 1) := dk_81 (dk_at dksX2_passes_2 13 rfl rfl)
theorem dX2_passes_61 : decode cX2_passes 61 = .ok (.iinc 6 1, 3) := dk_132 6 1 (dk_at dksX2_passes_2 14 rfl rfl)
theorem dX2_passes_64 : decode cX2_passes 64 = .ok (.goto (-30), 3) := dk_167 255 226 (dk_at dksX2_passes_2 17 rfl rfl)
theorem dX2_passes_67 : decode cX2_passes 67 = .ok (.aload_n 0, 1) := dk_42 (dk_at dksX2_passes_2 20 rfl rfl)
theorem dX2_passes_68 : decode cX2_passes 68 = .ok (.iconst 0, 1) := dk_3 (dk_at dksX2_passes_2 21 rfl rfl)
theorem dX2_passes_69 : decode cX2_passes 69 = .ok (.putfield 210, 3) := dk_181 0 210 (dk_at dksX2_passes_3 0 rfl rfl)
theorem dX2_passes_72 : decode cX2_passes 72 = .ok (.iconst 0, 1) := dk_3 (dk_at dksX2_passes_3 3 rfl rfl)
theorem dX2_passes_73 : decode cX2_passes 73 = .ok (.istore 6, 2) := dk_54 6 (dk_at dksX2_passes_3 4 rfl rfl)
theorem dX2_passes_75 : decode cX2_passes 75 = .ok (.iload 6, 2) := dk_21 6 (dk_at dksX2_passes_3 6 rfl rfl)
theorem dX2_passes_77 : decode cX2_passes 77 = .ok (.bipush 8, 2) := dk_16 8 (dk_at dksX2_passes_3 8 rfl rfl)
theorem dX2_passes_79 : decode cX2_passes 79 = .ok (.if_icmp .ge 41, 3) := dk_162 0 41 (dk_at dksX2_passes_3 10 rfl rfl)
theorem dX2_passes_82 : decode cX2_passes 82 = .ok (.aload_n 0, 1) := dk_42 (dk_at dksX2_passes_3 13 rfl rfl)
theorem dX2_passes_83 : decode cX2_passes 83 = .ok (.getfield 210, 3) := dk_180 0 210 (dk_at dksX2_passes_3 14 rfl rfl)
theorem dX2_passes_86 : decode cX2_passes 86 = .ok (.ifCond .ne 34, 3) := dk_154 0 34 (dk_at dksX2_passes_3 17 rfl rfl)
theorem dX2_passes_89 : decode cX2_passes 89 = .ok (.aload_n 0, 1) := dk_42 (dk_at dksX2_passes_3 20 rfl rfl)
theorem dX2_passes_90 : decode cX2_passes 90 = .ok (.getfield 128, 3) := dk_180 0 128 (dk_at dksX2_passes_3 21 rfl rfl)
theorem dX2_passes_93 : decode cX2_passes 93 = .ok (.iload 6, 2) := dk_21 6 (dk_at dksX2_passes_4 0 rfl rfl)
theorem dX2_passes_95 : decode cX2_passes 95 = .ok (.aload_n 0, 1) := dk_42 (dk_at dksX2_passes_4 2 rfl rfl)
theorem dX2_passes_96 : decode cX2_passes 96 = .ok (.iload 4, 2) := dk_21 4 (dk_at dksX2_passes_4 3 rfl rfl)
theorem dX2_passes_98 : decode cX2_passes 98 = .ok (.aload_n 0, 1) := dk_42 (dk_at dksX2_passes_4 5 rfl rfl)
theorem dX2_passes_99 : decode cX2_passes 99 = .ok (.getfield 82, 3) := dk_180 0 82 (dk_at dksX2_passes_4 6 rfl rfl)
theorem dX2_passes_102 : decode cX2_passes 102 = .ok (.bipush 8, 2) := dk_16 8 (dk_at dksX2_passes_4 9 rfl rfl)
theorem dX2_passes_104 : decode cX2_passes 104 = .ok (.iload_n 1, 1) := dk_27 (dk_at dksX2_passes_4 11 rfl rfl)
theorem dX2_passes_105 : decode cX2_passes 105 = .ok (.imul, 1) := dk_104 (dk_at dksX2_passes_4 12 rfl rfl)
theorem dX2_passes_106 : decode cX2_passes 106 = .ok (.iload 6, 2) := dk_21 6 (dk_at dksX2_passes_4 13 rfl rfl)
theorem dX2_passes_108 : decode cX2_passes 108 = .ok (.iadd, 1) := dk_96 (dk_at dksX2_passes_4 15 rfl rfl)
theorem dX2_passes_109 : decode cX2_passes 109 = .ok (.faload, 1) := dk_48 (dk_at dksX2_passes_4 16 rfl rfl)
theorem dX2_passes_110 : decode cX2_passes 110 = .ok (.invokevirtual 265, 3) := dk_182 1 9 (dk_at dksX2_passes_4 17 rfl rfl)
theorem dX2_passes_113 : decode cX2_passes 113 = .ok (.fastore, 1) := dk_81 (dk_at dksX2_passes_4 20 rfl rfl)
theorem dX2_passes_114 : decode cX2_passes 114 = .ok (.iinc 6 1, 3) := dk_132 6 1 (dk_at dksX2_passes_4 21 rfl rfl)
theorem dX2_passes_117 : decode cX2_passes 117 = .ok (.goto (-42), 3) := dk_167 255 214 (dk_at dksX2_passes_5 0 rfl rfl)
theorem dX2_passes_120 : decode cX2_passes 120 = .ok (.aload_n 0, 1) := dk_42 (dk_at dksX2_passes_5 3 rfl rfl)
theorem dX2_passes_121 : decode cX2_passes 121 = .ok (.getfield 210, 3) := dk_180 0 210 (dk_at dksX2_passes_5 4 rfl rfl)
theorem dX2_passes_124 : decode cX2_passes 124 = .ok (.ifCond .eq 56, 3) := dk_153 0 56 (dk_at dksX2_passes_5 7 rfl rfl)
theorem dX2_passes_127 : decode cX2_passes 127 = .ok (.aload_n 0, 1) := dk_42 (dk_at dksX2_passes_5 10 rfl rfl)
theorem dX2_passes_128 : decode cX2_passes 128 = .ok (.getfield 33, 3) := dk_180 0 33 (dk_at dksX2_passes_5 11 rfl rfl)
theorem dX2_passes_131 : decode cX2_passes 131 = .ok (.iload 4, 2) := dk_21 4 (dk_at dksX2_passes_5 14 rfl rfl)
theorem dX2_passes_133 : decode cX2_passes 133 = .ok (.iload 5, 2) := dk_21 5 (dk_at dksX2_passes_5 16 rfl rfl)
theorem dX2_passes_135 : decode cX2_passes 135 = .ok (.iastore, 1) := dk_79 (dk_at dksX2_passes_5 18 rfl rfl)
theorem dX2_passes_136 : decode cX2_passes 136 = .ok (.iconst 0, 1) := dk_3 (dk_at dksX2_passes_5 19 rfl rfl)
theorem dX2_passes_137 : decode cX2_passes 137 = .ok (.istore 6, 2) := dk_54 6 (dk_at dksX2_passes_5 20 rfl rfl)
theorem dX2_passes_139 : decode cX2_passes 139 = .ok (.iload 6, 2) := dk_21 6 (dk_at dksX2_passes_5 22 rfl rfl)
theorem dX2_passes_141 : decode cX2_passes 141 = .ok (.bipush 16, 2) := dk_16 16 (dk_at dksX2_passes_6 0 rfl rfl)
theorem dX2_passes_143 : decode cX2_passes 143 = .ok (.if_icmp .ge 29, 3) := dk_162 0 29 (dk_at dksX2_passes_6 2 rfl rfl)
theorem dX2_passes_146 : decode cX2_passes 146 = .ok (.aload_n 0, 1) := dk_42 (dk_at dksX2_passes_6 5 rfl rfl)
theorem dX2_passes_147 : decode cX2_passes 147 = .ok (.getfield 39, 3) := dk_180 0 39 (dk_at dksX2_passes_6 6 rfl rfl)
theorem dX2_passes_150 : decode cX2_passes 150 = .ok (.bipush 16, 2) := dk_16 16 (dk_at dksX2_passes_6 9 rfl rfl)
theorem dX2_passes_152 : decode cX2_passes 152 = .ok (.iload 4, 2) := dk_21 4 (dk_at dksX2_passes_6 11 rfl rfl)
theorem dX2_passes_154 : decode cX2_passes 154 = .ok (.imul, 1) := dk_104 (dk_at dksX2_passes_6 13 rfl rfl)
theorem dX2_passes_155 : decode cX2_passes 155 = .ok (.iload 6, 2) := dk_21 6 (dk_at dksX2_passes_6 14 rfl rfl)
theorem dX2_passes_157 : decode cX2_passes 157 = .ok (.iadd, 1) := dk_96 (dk_at dksX2_passes_6 16 rfl rfl)
theorem dX2_passes_158 : decode cX2_passes 158 = .ok (.aload_n 0, 1) := dk_42 (dk_at dksX2_passes_6 17 rfl rfl)
theorem dX2_passes_159 : decode cX2_passes 159 = .ok (.getfield 42, 3) := dk_180 0 42 (dk_at dksX2_passes_6 18 rfl rfl)
theorem dX2_passes_162 : decode cX2_passes 162 = .ok (.iload 6, 2) := dk_21 6 (dk_at dksX2_passes_6 21 rfl rfl)
theorem dX2_passes_164 : decode cX2_passes 164 = .ok (.faload, 1) := dk_48 (dk_at dksX2_passes_6 23 rfl rfl)
theorem dX2_passes_165 : decode cX2_passes 165 = .ok (.fastore, 1) := dk_81 (dk_at dksX2_passes_7 0 rfl rfl)
theorem dX2_passes_166 : decode cX2_passes 166 = .ok (.iinc 6 1, 3) := dk_132 6 1 (dk_at dksX2_passes_7 1 rfl rfl)
theorem dX2_passes_169 : decode cX2_passes 169 = .ok (.goto (-30), 3) := dk_167 255 226 (dk_at dksX2_passes_7 4 rfl rfl)
theorem dX2_passes_172 : decode cX2_passes 172 = .ok (.aload_n 0, 1) := dk_42 (dk_at dksX2_passes_7 7 rfl rfl)
theorem dX2_passes_173 : decode cX2_passes 173 = .ok (.iload_n 1, 1) := dk_27 (dk_at dksX2_passes_7 8 rfl rfl)
theorem dX2_passes_174 : decode cX2_passes 174 = .ok (.iload_n 2, 1) := dk_28 (dk_at dksX2_passes_7 9 rfl rfl)
theorem dX2_passes_175 : decode cX2_passes 175 = .ok (.iload_n 3, 1) := dk_29 (dk_at dksX2_passes_7 10 rfl rfl)
theorem dX2_passes_176 : decode cX2_passes 176 = .ok (.invokevirtual 257, 3) := dk_182 1 1 (dk_at dksX2_passes_7 11 rfl rfl)
theorem dX2_passes_179 : decode cX2_passes 179 = .ok (.ireturn, 1) := dk_172 (dk_at dksX2_passes_7 14 rfl rfl)
theorem dX2_passes_180 : decode cX2_passes 180 = .ok (.iconst 0, 1) := dk_3 (dk_at dksX2_passes_7 15 rfl rfl)
theorem dX2_passes_181 : decode cX2_passes 181 = .ok (.istore 6, 2) := dk_54 6 (dk_at dksX2_passes_7 16 rfl rfl)
theorem dX2_passes_183 : decode cX2_passes 183 = .ok (.iload 6, 2) := dk_21 6 (dk_at dksX2_passes_7 18 rfl rfl)
theorem dX2_passes_185 : decode cX2_passes 185 = .ok (.bipush 8, 2) := dk_16 8 (dk_at dksX2_passes_7 20 rfl rfl)
theorem dX2_passes_187 : decode cX2_passes 187 = .ok (.if_icmp .ge 28, 3) := dk_162 0 28 (dk_at dksX2_passes_8 0 rfl rfl)
theorem dX2_passes_190 : decode cX2_passes 190 = .ok (.aload_n 0, 1) := dk_42 (dk_at dksX2_passes_8 3 rfl rfl)
theorem dX2_passes_191 : decode cX2_passes 191 = .ok (.getfield 82, 3) := dk_180 0 82 (dk_at dksX2_passes_8 4 rfl rfl)
theorem dX2_passes_194 : decode cX2_passes 194 = .ok (.bipush 8, 2) := dk_16 8 (dk_at dksX2_passes_8 7 rfl rfl)
theorem dX2_passes_196 : decode cX2_passes 196 = .ok (.iload_n 1, 1) := dk_27 (dk_at dksX2_passes_8 9 rfl rfl)
theorem dX2_passes_197 : decode cX2_passes 197 = .ok (.imul, 1) := dk_104 (dk_at dksX2_passes_8 10 rfl rfl)
theorem dX2_passes_198 : decode cX2_passes 198 = .ok (.iload 6, 2) := dk_21 6 (dk_at dksX2_passes_8 11 rfl rfl)
theorem dX2_passes_200 : decode cX2_passes 200 = .ok (.iadd, 1) := dk_96 (dk_at dksX2_passes_8 13 rfl rfl)
theorem dX2_passes_201 : decode cX2_passes 201 = .ok (.aload_n 0, 1) := dk_42 (dk_at dksX2_passes_8 14 rfl rfl)
theorem dX2_passes_202 : decode cX2_passes 202 = .ok (.getfield 128, 3) := dk_180 0 128 (dk_at dksX2_passes_8 15 rfl rfl)
theorem dX2_passes_205 : decode cX2_passes 205 = .ok (.iload 6, 2) := dk_21 6 (dk_at dksX2_passes_8 18 rfl rfl)
theorem dX2_passes_207 : decode cX2_passes 207 = .ok (.faload, 1) := dk_48 (dk_at dksX2_passes_8 20 rfl rfl)
theorem dX2_passes_208 : decode cX2_passes 208 = .ok (.fastore, 1) := dk_81 (dk_at dksX2_passes_8 21 rfl rfl)
theorem dX2_passes_209 : decode cX2_passes 209 = .ok (.iinc 6 1, 3) := dk_132 6 1 (dk_at dksX2_passes_9 0 rfl rfl)
theorem dX2_passes_212 : decode cX2_passes 212 = .ok (.goto (-29), 3) := dk_167 255 227 (dk_at dksX2_passes_9 3 rfl rfl)
theorem dX2_passes_215 : decode cX2_passes 215 = .ok (.aload_n 0, 1) := dk_42 (dk_at dksX2_passes_9 6 rfl rfl)
theorem dX2_passes_216 : decode cX2_passes 216 = .ok (.getfield 30, 3) := dk_180 0 30 (dk_at dksX2_passes_9 7 rfl rfl)
theorem dX2_passes_219 : decode cX2_passes 219 = .ok (.iload 4, 2) := dk_21 4 (dk_at dksX2_passes_9 10 rfl rfl)
theorem dX2_passes_221 : decode cX2_passes 221 = .ok (.dup2, 1) := dk_92 (dk_at dksX2_passes_9 12 rfl rfl)
theorem dX2_passes_222 : decode cX2_passes 222 = .ok (.iaload, 1) := dk_46 (dk_at dksX2_passes_9 13 rfl rfl)
theorem dX2_passes_223 : decode cX2_passes 223 = .ok (.iconst 1, 1) := dk_4 (dk_at dksX2_passes_9 14 rfl rfl)
theorem dX2_passes_224 : decode cX2_passes 224 = .ok (.iadd, 1) := dk_96 (dk_at dksX2_passes_9 15 rfl rfl)
theorem dX2_passes_225 : decode cX2_passes 225 = .ok (.iastore, 1) := dk_79 (dk_at dksX2_passes_9 16 rfl rfl)
theorem dX2_passes_226 : decode cX2_passes 226 = .ok (.aload_n 0, 1) := dk_42 (dk_at dksX2_passes_9 17 rfl rfl)
theorem dX2_passes_227 : decode cX2_passes 227 = .ok (.iload_n 1, 1) := dk_27 (dk_at dksX2_passes_9 18 rfl rfl)
theorem dX2_passes_228 : decode cX2_passes 228 = .ok (.iload_n 2, 1) := dk_28 (dk_at dksX2_passes_9 19 rfl rfl)
theorem dX2_passes_229 : decode cX2_passes 229 = .ok (.iconst 1, 1) := dk_4 (dk_at dksX2_passes_9 20 rfl rfl)
theorem dX2_passes_230 : decode cX2_passes 230 = .ok (.iadd, 1) := dk_96 (dk_at dksX2_passes_9 21 rfl rfl)
theorem dX2_passes_231 : decode cX2_passes 231 = .ok (.iload_n 3, 1) := dk_29 (dk_at dksX2_passes_9 22 rfl rfl)
theorem dX2_passes_232 : decode cX2_passes 232 = .ok (.invokevirtual 261, 3) := dk_182 1 5 (dk_at dksX2_passes_10 0 rfl rfl)
theorem dX2_passes_235 : decode cX2_passes 235 = .ok (.iconst 1, 1) := dk_4 (dk_at dksX2_passes_10 3 rfl rfl)
theorem dX2_passes_236 : decode cX2_passes 236 = .ok (.ireturn, 1) := dk_172 (dk_at dksX2_passes_10 4 rfl rfl)
abbrev cX2_through : ByteArray := prog_14_method_18_code
def yX2_through : MethodName := ⟨RX2, "through", "(IF)F"⟩
def dkwX2_through_10 : List UInt8 := [174, 42, 42, 180, 0, 27, 27, 46, 21, 7, 182, 0, 185, 174]
abbrev dktX2_through_10 : List UInt8 := dkwX2_through_10 ++ []
def dkwX2_through_9 : List UInt8 := [180, 0, 13, 42, 180, 0, 27, 27, 46, 46, 4, 100, 184, 0, 136, 154, 0, 10, 42, 5, 181, 0, 210, 11]
abbrev dktX2_through_9 : List UInt8 := dkwX2_through_9 ++ dktX2_through_10
def dkwX2_through_8 : List UInt8 := [126, 184, 0, 173, 174, 36, 18, 134, 98, 18, 221, 106, 56, 6, 23, 6, 139, 54, 7, 21, 7, 3, 42]
abbrev dktX2_through_8 : List UInt8 := dkwX2_through_8 ++ dktX2_through_9
def dkwX2_through_7 : List UInt8 := [150, 156, 0, 8, 37, 118, 167, 0, 4, 37, 149, 155, 0, 7, 36, 167, 0, 13, 36, 184, 0, 189, 18, 220]
abbrev dktX2_through_7 : List UInt8 := dkwX2_through_7 ++ dktX2_through_8
def dkwX2_through_6 : List UInt8 := [155, 0, 8, 23, 5, 167, 0, 4, 37, 174, 36, 11, 150, 156, 0, 8, 36, 118, 167, 0, 4, 36, 37, 11]
abbrev dktX2_through_6 : List UInt8 := dkwX2_through_6 ++ dktX2_through_7
def dkwX2_through_5 : List UInt8 := [182, 0, 216, 56, 5, 23, 5, 37, 149, 157, 0, 18, 23, 5, 37, 149, 154, 0, 16, 23, 5, 184, 0, 189]
abbrev dktX2_through_5 : List UInt8 := dkwX2_through_5 ++ dktX2_through_6
def dkwX2_through_4 : List UInt8 := [23, 4, 106, 184, 0, 213, 23, 4, 110, 184, 0, 165, 174, 42, 27, 36, 182, 0, 216, 174, 42, 27, 36]
abbrev dktX2_through_4 : List UInt8 := dkwX2_through_4 ++ dktX2_through_5
def dkwX2_through_3 : List UInt8 := [154, 0, 11, 42, 16, 6, 181, 0, 210, 11, 174, 16, 64, 42, 180, 0, 27, 27, 46, 108, 134, 56, 4, 36]
abbrev dktX2_through_3 : List UInt8 := dkwX2_through_3 ++ dktX2_through_4
def dkwX2_through_2 : List UInt8 := [36, 37, 106, 184, 0, 165, 174, 36, 37, 106, 184, 0, 165, 12, 114, 174, 42, 180, 0, 27, 27, 46]
abbrev dktX2_through_2 : List UInt8 := dkwX2_through_2 ++ dktX2_through_3
def dkwX2_through_1 : List UInt8 := [170, 0, 0, 0, 0, 0, 189, 0, 0, 0, 0, 0, 0, 0, 6, 0, 0, 0, 43, 0, 0, 0, 43, 0, 0, 0, 50, 0, 0, 0, 59, 0, 0, 0, 102, 0, 0, 0, 109, 0, 0, 0, 146]
abbrev dktX2_through_1 : List UInt8 := dkwX2_through_1 ++ dktX2_through_2
def dkwX2_through_0 : List UInt8 := [42, 180, 0, 23, 27, 48, 70, 42, 180, 0, 20, 27, 46]
abbrev dktX2_through_0 : List UInt8 := dkwX2_through_0 ++ dktX2_through_1
theorem dksX2_through_0 : cX2_through.data.toList.drop 0 = dktX2_through_0 := by decide +kernel
theorem dksX2_through_1 : cX2_through.data.toList.drop 13 = dktX2_through_1 := dk_seg dksX2_through_0 13 rfl rfl
theorem dksX2_through_2 : cX2_through.data.toList.drop 56 = dktX2_through_2 := dk_seg dksX2_through_1 43 rfl rfl
theorem dksX2_through_3 : cX2_through.data.toList.drop 78 = dktX2_through_3 := dk_seg dksX2_through_2 22 rfl rfl
theorem dksX2_through_4 : cX2_through.data.toList.drop 102 = dktX2_through_4 := dk_seg dksX2_through_3 24 rfl rfl
theorem dksX2_through_5 : cX2_through.data.toList.drop 125 = dktX2_through_5 := dk_seg dksX2_through_4 23 rfl rfl
theorem dksX2_through_6 : cX2_through.data.toList.drop 149 = dktX2_through_6 := dk_seg dksX2_through_5 24 rfl rfl
theorem dksX2_through_7 : cX2_through.data.toList.drop 173 = dktX2_through_7 := dk_seg dksX2_through_6 24 rfl rfl
theorem dksX2_through_8 : cX2_through.data.toList.drop 197 = dktX2_through_8 := dk_seg dksX2_through_7 24 rfl rfl
theorem dksX2_through_9 : cX2_through.data.toList.drop 220 = dktX2_through_9 := dk_seg dksX2_through_8 23 rfl rfl
theorem dksX2_through_10 : cX2_through.data.toList.drop 244 = dktX2_through_10 := dk_seg dksX2_through_9 24 rfl rfl
theorem dX2_through_0 : decode cX2_through 0 = .ok (.aload_n 0, 1) := dk_42 (dk_at dksX2_through_0 0 rfl rfl)
theorem dX2_through_1 : decode cX2_through 1 = .ok (.getfield 23, 3) := dk_180 0 23 (dk_at dksX2_through_0 1 rfl rfl)
theorem dX2_through_4 : decode cX2_through 4 = .ok (.iload_n 1, 1) := dk_27 (dk_at dksX2_through_0 4 rfl rfl)
theorem dX2_through_5 : decode cX2_through 5 = .ok (.faload, 1) := dk_48 (dk_at dksX2_through_0 5 rfl rfl)
theorem dX2_through_6 : decode cX2_through 6 = .ok (.fstore_n 3, 1) := dk_70 (dk_at dksX2_through_0 6 rfl rfl)
theorem dX2_through_7 : decode cX2_through 7 = .ok (.aload_n 0, 1) := dk_42 (dk_at dksX2_through_0 7 rfl rfl)
theorem dX2_through_8 : decode cX2_through 8 = .ok (.getfield 20, 3) := dk_180 0 20 (dk_at dksX2_through_0 8 rfl rfl)
theorem dX2_through_11 : decode cX2_through 11 = .ok (.iload_n 1, 1) := dk_27 (dk_at dksX2_through_0 11 rfl rfl)
theorem dX2_through_12 : decode cX2_through 12 = .ok (.iaload, 1) := dk_46 (dk_at dksX2_through_0 12 rfl rfl)
theorem dX2_through_13 : decode cX2_through 13 = .ok (.tableswitch 189 0 6 #[43, 43, 50, 59, 102, 109, 146], 43) := by decide +kernel
theorem dX2_through_56 : decode cX2_through 56 = .ok (.fload_n 2, 1) := dk_36 (dk_at dksX2_through_2 0 rfl rfl)
theorem dX2_through_57 : decode cX2_through 57 = .ok (.fload_n 3, 1) := dk_37 (dk_at dksX2_through_2 1 rfl rfl)
theorem dX2_through_58 : decode cX2_through 58 = .ok (.fmul, 1) := dk_106 (dk_at dksX2_through_2 2 rfl rfl)
theorem dX2_through_59 : decode cX2_through 59 = .ok (.invokestatic 165, 3) := dk_184 0 165 (dk_at dksX2_through_2 3 rfl rfl)
theorem dX2_through_62 : decode cX2_through 62 = .ok (.freturn, 1) := dk_174 (dk_at dksX2_through_2 6 rfl rfl)
theorem dX2_through_63 : decode cX2_through 63 = .ok (.fload_n 2, 1) := dk_36 (dk_at dksX2_through_2 7 rfl rfl)
theorem dX2_through_64 : decode cX2_through 64 = .ok (.fload_n 3, 1) := dk_37 (dk_at dksX2_through_2 8 rfl rfl)
theorem dX2_through_65 : decode cX2_through 65 = .ok (.fmul, 1) := dk_106 (dk_at dksX2_through_2 9 rfl rfl)
theorem dX2_through_66 : decode cX2_through 66 = .ok (.invokestatic 165, 3) := dk_184 0 165 (dk_at dksX2_through_2 10 rfl rfl)
theorem dX2_through_69 : decode cX2_through 69 = .ok (.fconst 1, 1) := dk_12 (dk_at dksX2_through_2 13 rfl rfl)
theorem dX2_through_70 : decode cX2_through 70 = .ok (.frem, 1) := dk_114 (dk_at dksX2_through_2 14 rfl rfl)
theorem dX2_through_71 : decode cX2_through 71 = .ok (.freturn, 1) := dk_174 (dk_at dksX2_through_2 15 rfl rfl)
theorem dX2_through_72 : decode cX2_through 72 = .ok (.aload_n 0, 1) := dk_42 (dk_at dksX2_through_2 16 rfl rfl)
theorem dX2_through_73 : decode cX2_through 73 = .ok (.getfield 27, 3) := dk_180 0 27 (dk_at dksX2_through_2 17 rfl rfl)
theorem dX2_through_76 : decode cX2_through 76 = .ok (.iload_n 1, 1) := dk_27 (dk_at dksX2_through_2 20 rfl rfl)
theorem dX2_through_77 : decode cX2_through 77 = .ok (.iaload, 1) := dk_46 (dk_at dksX2_through_2 21 rfl rfl)
theorem dX2_through_78 : decode cX2_through 78 = .ok (.ifCond .ne 11, 3) := dk_154 0 11 (dk_at dksX2_through_3 0 rfl rfl)
theorem dX2_through_81 : decode cX2_through 81 = .ok (.aload_n 0, 1) := dk_42 (dk_at dksX2_through_3 3 rfl rfl)
theorem dX2_through_82 : decode cX2_through 82 = .ok (.bipush 6, 2) := dk_16 6 (dk_at dksX2_through_3 4 rfl rfl)
theorem dX2_through_84 : decode cX2_through 84 = .ok (.putfield 210, 3) := dk_181 0 210 (dk_at dksX2_through_3 6 rfl rfl)
theorem dX2_through_87 : decode cX2_through 87 = .ok (.fconst 0, 1) := dk_11 (dk_at dksX2_through_3 9 rfl rfl)
theorem dX2_through_88 : decode cX2_through 88 = .ok (.freturn, 1) := dk_174 (dk_at dksX2_through_3 10 rfl rfl)
theorem dX2_through_89 : decode cX2_through 89 = .ok (.bipush 64, 2) := dk_16 64 (dk_at dksX2_through_3 11 rfl rfl)
theorem dX2_through_91 : decode cX2_through 91 = .ok (.aload_n 0, 1) := dk_42 (dk_at dksX2_through_3 13 rfl rfl)
theorem dX2_through_92 : decode cX2_through 92 = .ok (.getfield 27, 3) := dk_180 0 27 (dk_at dksX2_through_3 14 rfl rfl)
theorem dX2_through_95 : decode cX2_through 95 = .ok (.iload_n 1, 1) := dk_27 (dk_at dksX2_through_3 17 rfl rfl)
theorem dX2_through_96 : decode cX2_through 96 = .ok (.iaload, 1) := dk_46 (dk_at dksX2_through_3 18 rfl rfl)
theorem dX2_through_97 : decode cX2_through 97 = .ok (.idiv, 1) := dk_108 (dk_at dksX2_through_3 19 rfl rfl)
theorem dX2_through_98 : decode cX2_through 98 = .ok (.i2f, 1) := dk_134 (dk_at dksX2_through_3 20 rfl rfl)
theorem dX2_through_99 : decode cX2_through 99 = .ok (.fstore 4, 2) := dk_56 4 (dk_at dksX2_through_3 21 rfl rfl)
theorem dX2_through_101 : decode cX2_through 101 = .ok (.fload_n 2, 1) := dk_36 (dk_at dksX2_through_3 23 rfl rfl)
theorem dX2_through_102 : decode cX2_through 102 = .ok (.fload 4, 2) := dk_23 4 (dk_at dksX2_through_4 0 rfl rfl)
theorem dX2_through_104 : decode cX2_through 104 = .ok (.fmul, 1) := dk_106 (dk_at dksX2_through_4 2 rfl rfl)
theorem dX2_through_105 : decode cX2_through 105 = .ok (.invokestatic 213, 3) := dk_184 0 213 (dk_at dksX2_through_4 3 rfl rfl)
theorem dX2_through_108 : decode cX2_through 108 = .ok (.fload 4, 2) := dk_23 4 (dk_at dksX2_through_4 6 rfl rfl)
theorem dX2_through_110 : decode cX2_through 110 = .ok (.fdiv, 1) := dk_110 (dk_at dksX2_through_4 8 rfl rfl)
theorem dX2_through_111 : decode cX2_through 111 = .ok (.invokestatic 165, 3) := dk_184 0 165 (dk_at dksX2_through_4 9 rfl rfl)
theorem dX2_through_114 : decode cX2_through 114 = .ok (.freturn, 1) := dk_174 (dk_at dksX2_through_4 12 rfl rfl)
theorem dX2_through_115 : decode cX2_through 115 = .ok (.aload_n 0, 1) := dk_42 (dk_at dksX2_through_4 13 rfl rfl)
theorem dX2_through_116 : decode cX2_through 116 = .ok (.iload_n 1, 1) := dk_27 (dk_at dksX2_through_4 14 rfl rfl)
theorem dX2_through_117 : decode cX2_through 117 = .ok (.fload_n 2, 1) := dk_36 (dk_at dksX2_through_4 15 rfl rfl)
theorem dX2_through_118 : decode cX2_through 118 = .ok (.invokevirtual 216, 3) := dk_182 0 216 (dk_at dksX2_through_4 16 rfl rfl)
theorem dX2_through_121 : decode cX2_through 121 = .ok (.freturn, 1) := dk_174 (dk_at dksX2_through_4 19 rfl rfl)
theorem dX2_through_122 : decode cX2_through 122 = .ok (.aload_n 0, 1) := dk_42 (dk_at dksX2_through_4 20 rfl rfl)
theorem dX2_through_123 : decode cX2_through 123 = .ok (.iload_n 1, 1) := dk_27 (dk_at dksX2_through_4 21 rfl rfl)
theorem dX2_through_124 : decode cX2_through 124 = .ok (.fload_n 2, 1) := dk_36 (dk_at dksX2_through_4 22 rfl rfl)
theorem dX2_through_125 : decode cX2_through 125 = .ok (.invokevirtual 216, 3) := dk_182 0 216 (dk_at dksX2_through_5 0 rfl rfl)
theorem dX2_through_128 : decode cX2_through 128 = .ok (.fstore 5, 2) := dk_56 5 (dk_at dksX2_through_5 3 rfl rfl)
theorem dX2_through_130 : decode cX2_through 130 = .ok (.fload 5, 2) := dk_23 5 (dk_at dksX2_through_5 5 rfl rfl)
theorem dX2_through_132 : decode cX2_through 132 = .ok (.fload_n 3, 1) := dk_37 (dk_at dksX2_through_5 7 rfl rfl)
theorem dX2_through_133 : decode cX2_through 133 = .ok (.fcmp .l, 1) := dk_149 (dk_at dksX2_through_5 8 rfl rfl)
theorem dX2_through_134 : decode cX2_through 134 = .ok (.ifCond .gt 18, 3) := dk_157 0 18 (dk_at dksX2_through_5 9 rfl rfl)
theorem dX2_through_137 : decode cX2_through 137 = .ok (.fload 5, 2) := dk_23 5 (dk_at dksX2_through_5 12 rfl rfl)
theorem dX2_through_139 : decode cX2_through 139 = .ok (.fload_n 3, 1) := dk_37 (dk_at dksX2_through_5 14 rfl rfl)
theorem dX2_through_140 : decode cX2_through 140 = .ok (.fcmp .l, 1) := dk_149 (dk_at dksX2_through_5 15 rfl rfl)
theorem dX2_through_141 : decode cX2_through 141 = .ok (.ifCond .ne 16, 3) := dk_154 0 16 (dk_at dksX2_through_5 16 rfl rfl)
theorem dX2_through_144 : decode cX2_through 144 = .ok (.fload 5, 2) := dk_23 5 (dk_at dksX2_through_5 19 rfl rfl)
theorem dX2_through_146 : decode cX2_through 146 = .ok (.invokestatic 189, 3) := dk_184 0 189 (dk_at dksX2_through_5 21 rfl rfl)
theorem dX2_through_149 : decode cX2_through 149 = .ok (.ifCond .lt 8, 3) := dk_155 0 8 (dk_at dksX2_through_6 0 rfl rfl)
theorem dX2_through_152 : decode cX2_through 152 = .ok (.fload 5, 2) := dk_23 5 (dk_at dksX2_through_6 3 rfl rfl)
theorem dX2_through_154 : decode cX2_through 154 = .ok (.goto 4, 3) := dk_167 0 4 (dk_at dksX2_through_6 5 rfl rfl)
theorem dX2_through_157 : decode cX2_through 157 = .ok (.fload_n 3, 1) := dk_37 (dk_at dksX2_through_6 8 rfl rfl)
theorem dX2_through_158 : decode cX2_through 158 = .ok (.freturn, 1) := dk_174 (dk_at dksX2_through_6 9 rfl rfl)
theorem dX2_through_159 : decode cX2_through 159 = .ok (.fload_n 2, 1) := dk_36 (dk_at dksX2_through_6 10 rfl rfl)
theorem dX2_through_160 : decode cX2_through 160 = .ok (.fconst 0, 1) := dk_11 (dk_at dksX2_through_6 11 rfl rfl)
theorem dX2_through_161 : decode cX2_through 161 = .ok (.fcmp .g, 1) := dk_150 (dk_at dksX2_through_6 12 rfl rfl)
theorem dX2_through_162 : decode cX2_through 162 = .ok (.ifCond .ge 8, 3) := dk_156 0 8 (dk_at dksX2_through_6 13 rfl rfl)
theorem dX2_through_165 : decode cX2_through 165 = .ok (.fload_n 2, 1) := dk_36 (dk_at dksX2_through_6 16 rfl rfl)
theorem dX2_through_166 : decode cX2_through 166 = .ok (.fneg, 1) := dk_118 (dk_at dksX2_through_6 17 rfl rfl)
theorem dX2_through_167 : decode cX2_through 167 = .ok (.goto 4, 3) := dk_167 0 4 (dk_at dksX2_through_6 18 rfl rfl)
theorem dX2_through_170 : decode cX2_through 170 = .ok (.fload_n 2, 1) := dk_36 (dk_at dksX2_through_6 21 rfl rfl)
theorem dX2_through_171 : decode cX2_through 171 = .ok (.fload_n 3, 1) := dk_37 (dk_at dksX2_through_6 22 rfl rfl)
theorem dX2_through_172 : decode cX2_through 172 = .ok (.fconst 0, 1) := dk_11 (dk_at dksX2_through_6 23 rfl rfl)
theorem dX2_through_173 : decode cX2_through 173 = .ok (.fcmp .g, 1) := dk_150 (dk_at dksX2_through_7 0 rfl rfl)
theorem dX2_through_174 : decode cX2_through 174 = .ok (.ifCond .ge 8, 3) := dk_156 0 8 (dk_at dksX2_through_7 1 rfl rfl)
theorem dX2_through_177 : decode cX2_through 177 = .ok (.fload_n 3, 1) := dk_37 (dk_at dksX2_through_7 4 rfl rfl)
theorem dX2_through_178 : decode cX2_through 178 = .ok (.fneg, 1) := dk_118 (dk_at dksX2_through_7 5 rfl rfl)
theorem dX2_through_179 : decode cX2_through 179 = .ok (.goto 4, 3) := dk_167 0 4 (dk_at dksX2_through_7 6 rfl rfl)
theorem dX2_through_182 : decode cX2_through 182 = .ok (.fload_n 3, 1) := dk_37 (dk_at dksX2_through_7 9 rfl rfl)
theorem dX2_through_183 : decode cX2_through 183 = .ok (.fcmp .l, 1) := dk_149 (dk_at dksX2_through_7 10 rfl rfl)
theorem dX2_through_184 : decode cX2_through 184 = .ok (.ifCond .lt 7, 3) := dk_155 0 7 (dk_at dksX2_through_7 11 rfl rfl)
theorem dX2_through_187 : decode cX2_through 187 = .ok (.fload_n 2, 1) := dk_36 (dk_at dksX2_through_7 14 rfl rfl)
theorem dX2_through_188 : decode cX2_through 188 = .ok (.goto 13, 3) := dk_167 0 13 (dk_at dksX2_through_7 15 rfl rfl)
theorem dX2_through_191 : decode cX2_through 191 = .ok (.fload_n 2, 1) := dk_36 (dk_at dksX2_through_7 18 rfl rfl)
theorem dX2_through_192 : decode cX2_through 192 = .ok (.invokestatic 189, 3) := dk_184 0 189 (dk_at dksX2_through_7 19 rfl rfl)
theorem dX2_through_195 : decode cX2_through 195 = .ok (.ldc 220, 2) := dk_18 220 (dk_at dksX2_through_7 22 rfl rfl)
theorem dX2_through_197 : decode cX2_through 197 = .ok (.iand, 1) := dk_126 (dk_at dksX2_through_8 0 rfl rfl)
theorem dX2_through_198 : decode cX2_through 198 = .ok (.invokestatic 173, 3) := dk_184 0 173 (dk_at dksX2_through_8 1 rfl rfl)
theorem dX2_through_201 : decode cX2_through 201 = .ok (.freturn, 1) := dk_174 (dk_at dksX2_through_8 4 rfl rfl)
theorem dX2_through_202 : decode cX2_through 202 = .ok (.fload_n 2, 1) := dk_36 (dk_at dksX2_through_8 5 rfl rfl)
theorem dX2_through_203 : decode cX2_through 203 = .ok (.ldc 134, 2) := dk_18 134 (dk_at dksX2_through_8 6 rfl rfl)
theorem dX2_through_205 : decode cX2_through 205 = .ok (.fadd, 1) := dk_98 (dk_at dksX2_through_8 8 rfl rfl)
theorem dX2_through_206 : decode cX2_through 206 = .ok (.ldc 221, 2) := dk_18 221 (dk_at dksX2_through_8 9 rfl rfl)
theorem dX2_through_208 : decode cX2_through 208 = .ok (.fmul, 1) := dk_106 (dk_at dksX2_through_8 11 rfl rfl)
theorem dX2_through_209 : decode cX2_through 209 = .ok (.fstore 6, 2) := dk_56 6 (dk_at dksX2_through_8 12 rfl rfl)
theorem dX2_through_211 : decode cX2_through 211 = .ok (.fload 6, 2) := dk_23 6 (dk_at dksX2_through_8 14 rfl rfl)
theorem dX2_through_213 : decode cX2_through 213 = .ok (.f2i, 1) := dk_139 (dk_at dksX2_through_8 16 rfl rfl)
theorem dX2_through_214 : decode cX2_through 214 = .ok (.istore 7, 2) := dk_54 7 (dk_at dksX2_through_8 17 rfl rfl)
theorem dX2_through_216 : decode cX2_through 216 = .ok (.iload 7, 2) := dk_21 7 (dk_at dksX2_through_8 19 rfl rfl)
theorem dX2_through_218 : decode cX2_through 218 = .ok (.iconst 0, 1) := dk_3 (dk_at dksX2_through_8 21 rfl rfl)
theorem dX2_through_219 : decode cX2_through 219 = .ok (.aload_n 0, 1) := dk_42 (dk_at dksX2_through_8 22 rfl rfl)
theorem dX2_through_220 : decode cX2_through 220 = .ok (.getfield 13, 3) := dk_180 0 13 (dk_at dksX2_through_9 0 rfl rfl)
theorem dX2_through_223 : decode cX2_through 223 = .ok (.aload_n 0, 1) := dk_42 (dk_at dksX2_through_9 3 rfl rfl)
theorem dX2_through_224 : decode cX2_through 224 = .ok (.getfield 27, 3) := dk_180 0 27 (dk_at dksX2_through_9 4 rfl rfl)
theorem dX2_through_227 : decode cX2_through 227 = .ok (.iload_n 1, 1) := dk_27 (dk_at dksX2_through_9 7 rfl rfl)
theorem dX2_through_228 : decode cX2_through 228 = .ok (.iaload, 1) := dk_46 (dk_at dksX2_through_9 8 rfl rfl)
theorem dX2_through_229 : decode cX2_through 229 = .ok (.iaload, 1) := dk_46 (dk_at dksX2_through_9 9 rfl rfl)
theorem dX2_through_230 : decode cX2_through 230 = .ok (.iconst 1, 1) := dk_4 (dk_at dksX2_through_9 10 rfl rfl)
theorem dX2_through_231 : decode cX2_through 231 = .ok (.isub, 1) := dk_100 (dk_at dksX2_through_9 11 rfl rfl)
theorem dX2_through_232 : decode cX2_through 232 = .ok (.invokestatic 136, 3) := dk_184 0 136 (dk_at dksX2_through_9 12 rfl rfl)
theorem dX2_through_235 : decode cX2_through 235 = .ok (.ifCond .ne 10, 3) := dk_154 0 10 (dk_at dksX2_through_9 15 rfl rfl)
theorem dX2_through_238 : decode cX2_through 238 = .ok (.aload_n 0, 1) := dk_42 (dk_at dksX2_through_9 18 rfl rfl)
theorem dX2_through_239 : decode cX2_through 239 = .ok (.iconst 2, 1) := dk_5 (dk_at dksX2_through_9 19 rfl rfl)
theorem dX2_through_240 : decode cX2_through 240 = .ok (.putfield 210, 3) := dk_181 0 210 (dk_at dksX2_through_9 20 rfl rfl)
theorem dX2_through_243 : decode cX2_through 243 = .ok (.fconst 0, 1) := dk_11 (dk_at dksX2_through_9 23 rfl rfl)
theorem dX2_through_244 : decode cX2_through 244 = .ok (.freturn, 1) := dk_174 (dk_at dksX2_through_10 0 rfl rfl)
theorem dX2_through_245 : decode cX2_through 245 = .ok (.aload_n 0, 1) := dk_42 (dk_at dksX2_through_10 1 rfl rfl)
theorem dX2_through_246 : decode cX2_through 246 = .ok (.aload_n 0, 1) := dk_42 (dk_at dksX2_through_10 2 rfl rfl)
theorem dX2_through_247 : decode cX2_through 247 = .ok (.getfield 27, 3) := dk_180 0 27 (dk_at dksX2_through_10 3 rfl rfl)
theorem dX2_through_250 : decode cX2_through 250 = .ok (.iload_n 1, 1) := dk_27 (dk_at dksX2_through_10 6 rfl rfl)
theorem dX2_through_251 : decode cX2_through 251 = .ok (.iaload, 1) := dk_46 (dk_at dksX2_through_10 7 rfl rfl)
theorem dX2_through_252 : decode cX2_through 252 = .ok (.iload 7, 2) := dk_21 7 (dk_at dksX2_through_10 8 rfl rfl)
theorem dX2_through_254 : decode cX2_through 254 = .ok (.invokevirtual 185, 3) := dk_182 0 185 (dk_at dksX2_through_10 10 rfl rfl)
theorem dX2_through_257 : decode cX2_through 257 = .ok (.freturn, 1) := dk_174 (dk_at dksX2_through_10 13 rfl rfl)
abbrev cX2_nearest : ByteArray := prog_14_method_16_code
def yX2_nearest : MethodName := ⟨RX2, "nearest", "(F)F"⟩
def dkwX2_nearest_2 : List UInt8 := [36, 174]
abbrev dktX2_nearest_2 : List UInt8 := dkwX2_nearest_2 ++ []
def dkwX2_nearest_1 : List UInt8 := [154, 0, 5, 34, 174, 35, 18, 209, 98, 18, 209, 102, 69, 34, 11, 150, 156, 0, 8, 36, 118, 167, 0, 4]
abbrev dktX2_nearest_1 : List UInt8 := dkwX2_nearest_1 ++ dktX2_nearest_2
def dkwX2_nearest_0 : List UInt8 := [34, 11, 150, 156, 0, 8, 34, 118, 167, 0, 4, 34, 68, 35, 18, 209, 149, 156, 0, 9, 34, 11, 149]
abbrev dktX2_nearest_0 : List UInt8 := dkwX2_nearest_0 ++ dktX2_nearest_1
theorem dksX2_nearest_0 : cX2_nearest.data.toList.drop 0 = dktX2_nearest_0 := by decide +kernel
theorem dksX2_nearest_1 : cX2_nearest.data.toList.drop 23 = dktX2_nearest_1 := dk_seg dksX2_nearest_0 23 rfl rfl
theorem dksX2_nearest_2 : cX2_nearest.data.toList.drop 47 = dktX2_nearest_2 := dk_seg dksX2_nearest_1 24 rfl rfl
theorem dX2_nearest_0 : decode cX2_nearest 0 = .ok (.fload_n 0, 1) := dk_34 (dk_at dksX2_nearest_0 0 rfl rfl)
theorem dX2_nearest_1 : decode cX2_nearest 1 = .ok (.fconst 0, 1) := dk_11 (dk_at dksX2_nearest_0 1 rfl rfl)
theorem dX2_nearest_2 : decode cX2_nearest 2 = .ok (.fcmp .g, 1) := dk_150 (dk_at dksX2_nearest_0 2 rfl rfl)
theorem dX2_nearest_3 : decode cX2_nearest 3 = .ok (.ifCond .ge 8, 3) := dk_156 0 8 (dk_at dksX2_nearest_0 3 rfl rfl)
theorem dX2_nearest_6 : decode cX2_nearest 6 = .ok (.fload_n 0, 1) := dk_34 (dk_at dksX2_nearest_0 6 rfl rfl)
theorem dX2_nearest_7 : decode cX2_nearest 7 = .ok (.fneg, 1) := dk_118 (dk_at dksX2_nearest_0 7 rfl rfl)
theorem dX2_nearest_8 : decode cX2_nearest 8 = .ok (.goto 4, 3) := dk_167 0 4 (dk_at dksX2_nearest_0 8 rfl rfl)
theorem dX2_nearest_11 : decode cX2_nearest 11 = .ok (.fload_n 0, 1) := dk_34 (dk_at dksX2_nearest_0 11 rfl rfl)
theorem dX2_nearest_12 : decode cX2_nearest 12 = .ok (.fstore_n 1, 1) := dk_68 (dk_at dksX2_nearest_0 12 rfl rfl)
theorem dX2_nearest_13 : decode cX2_nearest 13 = .ok (.fload_n 1, 1) := dk_35 (dk_at dksX2_nearest_0 13 rfl rfl)
theorem dX2_nearest_14 : decode cX2_nearest 14 = .ok (.ldc 209, 2) := dk_18 209 (dk_at dksX2_nearest_0 14 rfl rfl)
theorem dX2_nearest_16 : decode cX2_nearest 16 = .ok (.fcmp .l, 1) := dk_149 (dk_at dksX2_nearest_0 16 rfl rfl)
theorem dX2_nearest_17 : decode cX2_nearest 17 = .ok (.ifCond .ge 9, 3) := dk_156 0 9 (dk_at dksX2_nearest_0 17 rfl rfl)
theorem dX2_nearest_20 : decode cX2_nearest 20 = .ok (.fload_n 0, 1) := dk_34 (dk_at dksX2_nearest_0 20 rfl rfl)
theorem dX2_nearest_21 : decode cX2_nearest 21 = .ok (.fconst 0, 1) := dk_11 (dk_at dksX2_nearest_0 21 rfl rfl)
theorem dX2_nearest_22 : decode cX2_nearest 22 = .ok (.fcmp .l, 1) := dk_149 (dk_at dksX2_nearest_0 22 rfl rfl)
theorem dX2_nearest_23 : decode cX2_nearest 23 = .ok (.ifCond .ne 5, 3) := dk_154 0 5 (dk_at dksX2_nearest_1 0 rfl rfl)
theorem dX2_nearest_26 : decode cX2_nearest 26 = .ok (.fload_n 0, 1) := dk_34 (dk_at dksX2_nearest_1 3 rfl rfl)
theorem dX2_nearest_27 : decode cX2_nearest 27 = .ok (.freturn, 1) := dk_174 (dk_at dksX2_nearest_1 4 rfl rfl)
theorem dX2_nearest_28 : decode cX2_nearest 28 = .ok (.fload_n 1, 1) := dk_35 (dk_at dksX2_nearest_1 5 rfl rfl)
theorem dX2_nearest_29 : decode cX2_nearest 29 = .ok (.ldc 209, 2) := dk_18 209 (dk_at dksX2_nearest_1 6 rfl rfl)
theorem dX2_nearest_31 : decode cX2_nearest 31 = .ok (.fadd, 1) := dk_98 (dk_at dksX2_nearest_1 8 rfl rfl)
theorem dX2_nearest_32 : decode cX2_nearest 32 = .ok (.ldc 209, 2) := dk_18 209 (dk_at dksX2_nearest_1 9 rfl rfl)
theorem dX2_nearest_34 : decode cX2_nearest 34 = .ok (.fsub, 1) := dk_102 (dk_at dksX2_nearest_1 11 rfl rfl)
theorem dX2_nearest_35 : decode cX2_nearest 35 = .ok (.fstore_n 2, 1) := dk_69 (dk_at dksX2_nearest_1 12 rfl rfl)
theorem dX2_nearest_36 : decode cX2_nearest 36 = .ok (.fload_n 0, 1) := dk_34 (dk_at dksX2_nearest_1 13 rfl rfl)
theorem dX2_nearest_37 : decode cX2_nearest 37 = .ok (.fconst 0, 1) := dk_11 (dk_at dksX2_nearest_1 14 rfl rfl)
theorem dX2_nearest_38 : decode cX2_nearest 38 = .ok (.fcmp .g, 1) := dk_150 (dk_at dksX2_nearest_1 15 rfl rfl)
theorem dX2_nearest_39 : decode cX2_nearest 39 = .ok (.ifCond .ge 8, 3) := dk_156 0 8 (dk_at dksX2_nearest_1 16 rfl rfl)
theorem dX2_nearest_42 : decode cX2_nearest 42 = .ok (.fload_n 2, 1) := dk_36 (dk_at dksX2_nearest_1 19 rfl rfl)
theorem dX2_nearest_43 : decode cX2_nearest 43 = .ok (.fneg, 1) := dk_118 (dk_at dksX2_nearest_1 20 rfl rfl)
theorem dX2_nearest_44 : decode cX2_nearest 44 = .ok (.goto 4, 3) := dk_167 0 4 (dk_at dksX2_nearest_1 21 rfl rfl)
theorem dX2_nearest_47 : decode cX2_nearest 47 = .ok (.fload_n 2, 1) := dk_36 (dk_at dksX2_nearest_2 0 rfl rfl)
theorem dX2_nearest_48 : decode cX2_nearest 48 = .ok (.freturn, 1) := dk_174 (dk_at dksX2_nearest_2 1 rfl rfl)
abbrev cX2_echo : ByteArray := prog_14_method_17_code
def yX2_echo : MethodName := ⟨RX2, "echo", "(IF)F"⟩
def dkwX2_echo_4 : List UInt8 := [160, 0, 7, 3, 167, 0, 11, 42, 180, 0, 33, 27, 46, 4, 96, 79, 42, 180, 0, 39, 29, 48, 174]
abbrev dktX2_echo_4 : List UInt8 := dkwX2_echo_4 ++ []
def dkwX2_echo_3 : List UInt8 := [184, 0, 165, 81, 42, 180, 0, 33, 27, 42, 180, 0, 33, 27, 46, 4, 96, 42, 180, 0, 36, 27, 46]
abbrev dktX2_echo_3 : List UInt8 := dkwX2_echo_3 ++ dktX2_echo_4
def dkwX2_echo_2 : List UInt8 := [180, 0, 23, 27, 48, 42, 180, 0, 39, 29, 48, 106, 56, 4, 42, 180, 0, 39, 29, 36, 23, 4, 98]
abbrev dktX2_echo_2 : List UInt8 := dkwX2_echo_2 ++ dktX2_echo_3
def dkwX2_echo_1 : List UInt8 := [154, 0, 10, 42, 5, 181, 0, 210, 11, 174, 16, 16, 27, 104, 42, 180, 0, 33, 27, 46, 96, 62, 42]
abbrev dktX2_echo_1 : List UInt8 := dkwX2_echo_1 ++ dktX2_echo_2
def dkwX2_echo_0 : List UInt8 := [42, 180, 0, 36, 27, 46, 2, 160, 0, 10, 42, 4, 181, 0, 210, 11, 174, 42, 180, 0, 36, 27, 46]
abbrev dktX2_echo_0 : List UInt8 := dkwX2_echo_0 ++ dktX2_echo_1
theorem dksX2_echo_0 : cX2_echo.data.toList.drop 0 = dktX2_echo_0 := by decide +kernel
theorem dksX2_echo_1 : cX2_echo.data.toList.drop 23 = dktX2_echo_1 := dk_seg dksX2_echo_0 23 rfl rfl
theorem dksX2_echo_2 : cX2_echo.data.toList.drop 46 = dktX2_echo_2 := dk_seg dksX2_echo_1 23 rfl rfl
theorem dksX2_echo_3 : cX2_echo.data.toList.drop 69 = dktX2_echo_3 := dk_seg dksX2_echo_2 23 rfl rfl
theorem dksX2_echo_4 : cX2_echo.data.toList.drop 92 = dktX2_echo_4 := dk_seg dksX2_echo_3 23 rfl rfl
theorem dX2_echo_0 : decode cX2_echo 0 = .ok (.aload_n 0, 1) := dk_42 (dk_at dksX2_echo_0 0 rfl rfl)
theorem dX2_echo_1 : decode cX2_echo 1 = .ok (.getfield 36, 3) := dk_180 0 36 (dk_at dksX2_echo_0 1 rfl rfl)
theorem dX2_echo_4 : decode cX2_echo 4 = .ok (.iload_n 1, 1) := dk_27 (dk_at dksX2_echo_0 4 rfl rfl)
theorem dX2_echo_5 : decode cX2_echo 5 = .ok (.iaload, 1) := dk_46 (dk_at dksX2_echo_0 5 rfl rfl)
theorem dX2_echo_6 : decode cX2_echo 6 = .ok (.iconst (-1), 1) := dk_2 (dk_at dksX2_echo_0 6 rfl rfl)
theorem dX2_echo_7 : decode cX2_echo 7 = .ok (.if_icmp .ne 10, 3) := dk_160 0 10 (dk_at dksX2_echo_0 7 rfl rfl)
theorem dX2_echo_10 : decode cX2_echo 10 = .ok (.aload_n 0, 1) := dk_42 (dk_at dksX2_echo_0 10 rfl rfl)
theorem dX2_echo_11 : decode cX2_echo 11 = .ok (.iconst 1, 1) := dk_4 (dk_at dksX2_echo_0 11 rfl rfl)
theorem dX2_echo_12 : decode cX2_echo 12 = .ok (.putfield 210, 3) := dk_181 0 210 (dk_at dksX2_echo_0 12 rfl rfl)
theorem dX2_echo_15 : decode cX2_echo 15 = .ok (.fconst 0, 1) := dk_11 (dk_at dksX2_echo_0 15 rfl rfl)
theorem dX2_echo_16 : decode cX2_echo 16 = .ok (.freturn, 1) := dk_174 (dk_at dksX2_echo_0 16 rfl rfl)
theorem dX2_echo_17 : decode cX2_echo 17 = .ok (.aload_n 0, 1) := dk_42 (dk_at dksX2_echo_0 17 rfl rfl)
theorem dX2_echo_18 : decode cX2_echo 18 = .ok (.getfield 36, 3) := dk_180 0 36 (dk_at dksX2_echo_0 18 rfl rfl)
theorem dX2_echo_21 : decode cX2_echo 21 = .ok (.iload_n 1, 1) := dk_27 (dk_at dksX2_echo_0 21 rfl rfl)
theorem dX2_echo_22 : decode cX2_echo 22 = .ok (.iaload, 1) := dk_46 (dk_at dksX2_echo_0 22 rfl rfl)
theorem dX2_echo_23 : decode cX2_echo 23 = .ok (.ifCond .ne 10, 3) := dk_154 0 10 (dk_at dksX2_echo_1 0 rfl rfl)
theorem dX2_echo_26 : decode cX2_echo 26 = .ok (.aload_n 0, 1) := dk_42 (dk_at dksX2_echo_1 3 rfl rfl)
theorem dX2_echo_27 : decode cX2_echo 27 = .ok (.iconst 2, 1) := dk_5 (dk_at dksX2_echo_1 4 rfl rfl)
theorem dX2_echo_28 : decode cX2_echo 28 = .ok (.putfield 210, 3) := dk_181 0 210 (dk_at dksX2_echo_1 5 rfl rfl)
theorem dX2_echo_31 : decode cX2_echo 31 = .ok (.fconst 0, 1) := dk_11 (dk_at dksX2_echo_1 8 rfl rfl)
theorem dX2_echo_32 : decode cX2_echo 32 = .ok (.freturn, 1) := dk_174 (dk_at dksX2_echo_1 9 rfl rfl)
theorem dX2_echo_33 : decode cX2_echo 33 = .ok (.bipush 16, 2) := dk_16 16 (dk_at dksX2_echo_1 10 rfl rfl)
theorem dX2_echo_35 : decode cX2_echo 35 = .ok (.iload_n 1, 1) := dk_27 (dk_at dksX2_echo_1 12 rfl rfl)
theorem dX2_echo_36 : decode cX2_echo 36 = .ok (.imul, 1) := dk_104 (dk_at dksX2_echo_1 13 rfl rfl)
theorem dX2_echo_37 : decode cX2_echo 37 = .ok (.aload_n 0, 1) := dk_42 (dk_at dksX2_echo_1 14 rfl rfl)
theorem dX2_echo_38 : decode cX2_echo 38 = .ok (.getfield 33, 3) := dk_180 0 33 (dk_at dksX2_echo_1 15 rfl rfl)
theorem dX2_echo_41 : decode cX2_echo 41 = .ok (.iload_n 1, 1) := dk_27 (dk_at dksX2_echo_1 18 rfl rfl)
theorem dX2_echo_42 : decode cX2_echo 42 = .ok (.iaload, 1) := dk_46 (dk_at dksX2_echo_1 19 rfl rfl)
theorem dX2_echo_43 : decode cX2_echo 43 = .ok (.iadd, 1) := dk_96 (dk_at dksX2_echo_1 20 rfl rfl)
theorem dX2_echo_44 : decode cX2_echo 44 = .ok (.istore_n 3, 1) := dk_62 (dk_at dksX2_echo_1 21 rfl rfl)
theorem dX2_echo_45 : decode cX2_echo 45 = .ok (.aload_n 0, 1) := dk_42 (dk_at dksX2_echo_1 22 rfl rfl)
theorem dX2_echo_46 : decode cX2_echo 46 = .ok (.getfield 23, 3) := dk_180 0 23 (dk_at dksX2_echo_2 0 rfl rfl)
theorem dX2_echo_49 : decode cX2_echo 49 = .ok (.iload_n 1, 1) := dk_27 (dk_at dksX2_echo_2 3 rfl rfl)
theorem dX2_echo_50 : decode cX2_echo 50 = .ok (.faload, 1) := dk_48 (dk_at dksX2_echo_2 4 rfl rfl)
theorem dX2_echo_51 : decode cX2_echo 51 = .ok (.aload_n 0, 1) := dk_42 (dk_at dksX2_echo_2 5 rfl rfl)
theorem dX2_echo_52 : decode cX2_echo 52 = .ok (.getfield 39, 3) := dk_180 0 39 (dk_at dksX2_echo_2 6 rfl rfl)
theorem dX2_echo_55 : decode cX2_echo 55 = .ok (.iload_n 3, 1) := dk_29 (dk_at dksX2_echo_2 9 rfl rfl)
theorem dX2_echo_56 : decode cX2_echo 56 = .ok (.faload, 1) := dk_48 (dk_at dksX2_echo_2 10 rfl rfl)
theorem dX2_echo_57 : decode cX2_echo 57 = .ok (.fmul, 1) := dk_106 (dk_at dksX2_echo_2 11 rfl rfl)
theorem dX2_echo_58 : decode cX2_echo 58 = .ok (.fstore 4, 2) := dk_56 4 (dk_at dksX2_echo_2 12 rfl rfl)
theorem dX2_echo_60 : decode cX2_echo 60 = .ok (.aload_n 0, 1) := dk_42 (dk_at dksX2_echo_2 14 rfl rfl)
theorem dX2_echo_61 : decode cX2_echo 61 = .ok (.getfield 39, 3) := dk_180 0 39 (dk_at dksX2_echo_2 15 rfl rfl)
theorem dX2_echo_64 : decode cX2_echo 64 = .ok (.iload_n 3, 1) := dk_29 (dk_at dksX2_echo_2 18 rfl rfl)
theorem dX2_echo_65 : decode cX2_echo 65 = .ok (.fload_n 2, 1) := dk_36 (dk_at dksX2_echo_2 19 rfl rfl)
theorem dX2_echo_66 : decode cX2_echo 66 = .ok (.fload 4, 2) := dk_23 4 (dk_at dksX2_echo_2 20 rfl rfl)
theorem dX2_echo_68 : decode cX2_echo 68 = .ok (.fadd, 1) := dk_98 (dk_at dksX2_echo_2 22 rfl rfl)
theorem dX2_echo_69 : decode cX2_echo 69 = .ok (.invokestatic 165, 3) := dk_184 0 165 (dk_at dksX2_echo_3 0 rfl rfl)
theorem dX2_echo_72 : decode cX2_echo 72 = .ok (.fastore, 1) := dk_81 (dk_at dksX2_echo_3 3 rfl rfl)
theorem dX2_echo_73 : decode cX2_echo 73 = .ok (.aload_n 0, 1) := dk_42 (dk_at dksX2_echo_3 4 rfl rfl)
theorem dX2_echo_74 : decode cX2_echo 74 = .ok (.getfield 33, 3) := dk_180 0 33 (dk_at dksX2_echo_3 5 rfl rfl)
theorem dX2_echo_77 : decode cX2_echo 77 = .ok (.iload_n 1, 1) := dk_27 (dk_at dksX2_echo_3 8 rfl rfl)
theorem dX2_echo_78 : decode cX2_echo 78 = .ok (.aload_n 0, 1) := dk_42 (dk_at dksX2_echo_3 9 rfl rfl)
theorem dX2_echo_79 : decode cX2_echo 79 = .ok (.getfield 33, 3) := dk_180 0 33 (dk_at dksX2_echo_3 10 rfl rfl)
theorem dX2_echo_82 : decode cX2_echo 82 = .ok (.iload_n 1, 1) := dk_27 (dk_at dksX2_echo_3 13 rfl rfl)
theorem dX2_echo_83 : decode cX2_echo 83 = .ok (.iaload, 1) := dk_46 (dk_at dksX2_echo_3 14 rfl rfl)
theorem dX2_echo_84 : decode cX2_echo 84 = .ok (.iconst 1, 1) := dk_4 (dk_at dksX2_echo_3 15 rfl rfl)
theorem dX2_echo_85 : decode cX2_echo 85 = .ok (.iadd, 1) := dk_96 (dk_at dksX2_echo_3 16 rfl rfl)
theorem dX2_echo_86 : decode cX2_echo 86 = .ok (.aload_n 0, 1) := dk_42 (dk_at dksX2_echo_3 17 rfl rfl)
theorem dX2_echo_87 : decode cX2_echo 87 = .ok (.getfield 36, 3) := dk_180 0 36 (dk_at dksX2_echo_3 18 rfl rfl)
theorem dX2_echo_90 : decode cX2_echo 90 = .ok (.iload_n 1, 1) := dk_27 (dk_at dksX2_echo_3 21 rfl rfl)
theorem dX2_echo_91 : decode cX2_echo 91 = .ok (.iaload, 1) := dk_46 (dk_at dksX2_echo_3 22 rfl rfl)
theorem dX2_echo_92 : decode cX2_echo 92 = .ok (.if_icmp .ne 7, 3) := dk_160 0 7 (dk_at dksX2_echo_4 0 rfl rfl)
theorem dX2_echo_95 : decode cX2_echo 95 = .ok (.iconst 0, 1) := dk_3 (dk_at dksX2_echo_4 3 rfl rfl)
theorem dX2_echo_96 : decode cX2_echo 96 = .ok (.goto 11, 3) := dk_167 0 11 (dk_at dksX2_echo_4 4 rfl rfl)
theorem dX2_echo_99 : decode cX2_echo 99 = .ok (.aload_n 0, 1) := dk_42 (dk_at dksX2_echo_4 7 rfl rfl)
theorem dX2_echo_100 : decode cX2_echo 100 = .ok (.getfield 33, 3) := dk_180 0 33 (dk_at dksX2_echo_4 8 rfl rfl)
theorem dX2_echo_103 : decode cX2_echo 103 = .ok (.iload_n 1, 1) := dk_27 (dk_at dksX2_echo_4 11 rfl rfl)
theorem dX2_echo_104 : decode cX2_echo 104 = .ok (.iaload, 1) := dk_46 (dk_at dksX2_echo_4 12 rfl rfl)
theorem dX2_echo_105 : decode cX2_echo 105 = .ok (.iconst 1, 1) := dk_4 (dk_at dksX2_echo_4 13 rfl rfl)
theorem dX2_echo_106 : decode cX2_echo 106 = .ok (.iadd, 1) := dk_96 (dk_at dksX2_echo_4 14 rfl rfl)
theorem dX2_echo_107 : decode cX2_echo 107 = .ok (.iastore, 1) := dk_79 (dk_at dksX2_echo_4 15 rfl rfl)
theorem dX2_echo_108 : decode cX2_echo 108 = .ok (.aload_n 0, 1) := dk_42 (dk_at dksX2_echo_4 16 rfl rfl)
theorem dX2_echo_109 : decode cX2_echo 109 = .ok (.getfield 39, 3) := dk_180 0 39 (dk_at dksX2_echo_4 17 rfl rfl)
theorem dX2_echo_112 : decode cX2_echo 112 = .ok (.iload_n 3, 1) := dk_29 (dk_at dksX2_echo_4 20 rfl rfl)
theorem dX2_echo_113 : decode cX2_echo 113 = .ok (.faload, 1) := dk_48 (dk_at dksX2_echo_4 21 rfl rfl)
theorem dX2_echo_114 : decode cX2_echo 114 = .ok (.freturn, 1) := dk_174 (dk_at dksX2_echo_4 22 rfl rfl)
abbrev cX2_fails : ByteArray := prog_14_method_34_code
def yX2_fails : MethodName := ⟨RX2, "fails", "(III)I"⟩
def dkwX2_fails_4 : List UInt8 := [160, 0, 22, 42, 180, 0, 82, 16, 8, 27, 104, 21, 4, 96, 11, 81, 132, 4, 1, 167, 255, 223, 5, 172]
abbrev dktX2_fails_4 : List UInt8 := dkwX2_fails_4 ++ []
def dkwX2_fails_3 : List UInt8 := [167, 0, 4, 8, 79, 3, 54, 4, 21, 4, 16, 8, 162, 0, 32, 42, 180, 0, 73, 27, 46, 5]
abbrev dktX2_fails_3 : List UInt8 := dkwX2_fails_3 ++ dktX2_fails_4
def dkwX2_fails_2 : List UInt8 := [180, 0, 89, 29, 2, 79, 42, 180, 0, 67, 27, 42, 180, 0, 73, 27, 46, 4, 160, 0, 7, 7]
abbrev dktX2_fails_2 : List UInt8 := dkwX2_fails_2 ++ dktX2_fails_3
def dkwX2_fails_1 : List UInt8 := [180, 0, 73, 27, 46, 96, 42, 180, 0, 210, 79, 42, 180, 0, 73, 27, 92, 46, 4, 96, 79, 42]
abbrev dktX2_fails_1 : List UInt8 := dkwX2_fails_1 ++ dktX2_fails_2
def dkwX2_fails_0 : List UInt8 := [42, 180, 0, 76, 5, 27, 104, 42, 180, 0, 73, 27, 46, 96, 28, 79, 42, 180, 0, 79, 5, 27, 104, 42]
abbrev dktX2_fails_0 : List UInt8 := dkwX2_fails_0 ++ dktX2_fails_1
theorem dksX2_fails_0 : cX2_fails.data.toList.drop 0 = dktX2_fails_0 := by decide +kernel
theorem dksX2_fails_1 : cX2_fails.data.toList.drop 24 = dktX2_fails_1 := dk_seg dksX2_fails_0 24 rfl rfl
theorem dksX2_fails_2 : cX2_fails.data.toList.drop 46 = dktX2_fails_2 := dk_seg dksX2_fails_1 22 rfl rfl
theorem dksX2_fails_3 : cX2_fails.data.toList.drop 68 = dktX2_fails_3 := dk_seg dksX2_fails_2 22 rfl rfl
theorem dksX2_fails_4 : cX2_fails.data.toList.drop 90 = dktX2_fails_4 := dk_seg dksX2_fails_3 22 rfl rfl
theorem dX2_fails_0 : decode cX2_fails 0 = .ok (.aload_n 0, 1) := dk_42 (dk_at dksX2_fails_0 0 rfl rfl)
theorem dX2_fails_1 : decode cX2_fails 1 = .ok (.getfield 76, 3) := dk_180 0 76 (dk_at dksX2_fails_0 1 rfl rfl)
theorem dX2_fails_4 : decode cX2_fails 4 = .ok (.iconst 2, 1) := dk_5 (dk_at dksX2_fails_0 4 rfl rfl)
theorem dX2_fails_5 : decode cX2_fails 5 = .ok (.iload_n 1, 1) := dk_27 (dk_at dksX2_fails_0 5 rfl rfl)
theorem dX2_fails_6 : decode cX2_fails 6 = .ok (.imul, 1) := dk_104 (dk_at dksX2_fails_0 6 rfl rfl)
theorem dX2_fails_7 : decode cX2_fails 7 = .ok (.aload_n 0, 1) := dk_42 (dk_at dksX2_fails_0 7 rfl rfl)
theorem dX2_fails_8 : decode cX2_fails 8 = .ok (.getfield 73, 3) := dk_180 0 73 (dk_at dksX2_fails_0 8 rfl rfl)
theorem dX2_fails_11 : decode cX2_fails 11 = .ok (.iload_n 1, 1) := dk_27 (dk_at dksX2_fails_0 11 rfl rfl)
theorem dX2_fails_12 : decode cX2_fails 12 = .ok (.iaload, 1) := dk_46 (dk_at dksX2_fails_0 12 rfl rfl)
theorem dX2_fails_13 : decode cX2_fails 13 = .ok (.iadd, 1) := dk_96 (dk_at dksX2_fails_0 13 rfl rfl)
theorem dX2_fails_14 : decode cX2_fails 14 = .ok (.iload_n 2, 1) := dk_28 (dk_at dksX2_fails_0 14 rfl rfl)
theorem dX2_fails_15 : decode cX2_fails 15 = .ok (.iastore, 1) := dk_79 (dk_at dksX2_fails_0 15 rfl rfl)
theorem dX2_fails_16 : decode cX2_fails 16 = .ok (.aload_n 0, 1) := dk_42 (dk_at dksX2_fails_0 16 rfl rfl)
theorem dX2_fails_17 : decode cX2_fails 17 = .ok (.getfield 79, 3) := dk_180 0 79 (dk_at dksX2_fails_0 17 rfl rfl)
theorem dX2_fails_20 : decode cX2_fails 20 = .ok (.iconst 2, 1) := dk_5 (dk_at dksX2_fails_0 20 rfl rfl)
theorem dX2_fails_21 : decode cX2_fails 21 = .ok (.iload_n 1, 1) := dk_27 (dk_at dksX2_fails_0 21 rfl rfl)
theorem dX2_fails_22 : decode cX2_fails 22 = .ok (.imul, 1) := dk_104 (dk_at dksX2_fails_0 22 rfl rfl)
theorem dX2_fails_23 : decode cX2_fails 23 = .ok (.aload_n 0, 1) := dk_42 (dk_at dksX2_fails_0 23 rfl rfl)
theorem dX2_fails_24 : decode cX2_fails 24 = .ok (.getfield 73, 3) := dk_180 0 73 (dk_at dksX2_fails_1 0 rfl rfl)
theorem dX2_fails_27 : decode cX2_fails 27 = .ok (.iload_n 1, 1) := dk_27 (dk_at dksX2_fails_1 3 rfl rfl)
theorem dX2_fails_28 : decode cX2_fails 28 = .ok (.iaload, 1) := dk_46 (dk_at dksX2_fails_1 4 rfl rfl)
theorem dX2_fails_29 : decode cX2_fails 29 = .ok (.iadd, 1) := dk_96 (dk_at dksX2_fails_1 5 rfl rfl)
theorem dX2_fails_30 : decode cX2_fails 30 = .ok (.aload_n 0, 1) := dk_42 (dk_at dksX2_fails_1 6 rfl rfl)
theorem dX2_fails_31 : decode cX2_fails 31 = .ok (.getfield 210, 3) := dk_180 0 210 (dk_at dksX2_fails_1 7 rfl rfl)
theorem dX2_fails_34 : decode cX2_fails 34 = .ok (.iastore, 1) := dk_79 (dk_at dksX2_fails_1 10 rfl rfl)
theorem dX2_fails_35 : decode cX2_fails 35 = .ok (.aload_n 0, 1) := dk_42 (dk_at dksX2_fails_1 11 rfl rfl)
theorem dX2_fails_36 : decode cX2_fails 36 = .ok (.getfield 73, 3) := dk_180 0 73 (dk_at dksX2_fails_1 12 rfl rfl)
theorem dX2_fails_39 : decode cX2_fails 39 = .ok (.iload_n 1, 1) := dk_27 (dk_at dksX2_fails_1 15 rfl rfl)
theorem dX2_fails_40 : decode cX2_fails 40 = .ok (.dup2, 1) := dk_92 (dk_at dksX2_fails_1 16 rfl rfl)
theorem dX2_fails_41 : decode cX2_fails 41 = .ok (.iaload, 1) := dk_46 (dk_at dksX2_fails_1 17 rfl rfl)
theorem dX2_fails_42 : decode cX2_fails 42 = .ok (.iconst 1, 1) := dk_4 (dk_at dksX2_fails_1 18 rfl rfl)
theorem dX2_fails_43 : decode cX2_fails 43 = .ok (.iadd, 1) := dk_96 (dk_at dksX2_fails_1 19 rfl rfl)
theorem dX2_fails_44 : decode cX2_fails 44 = .ok (.iastore, 1) := dk_79 (dk_at dksX2_fails_1 20 rfl rfl)
theorem dX2_fails_45 : decode cX2_fails 45 = .ok (.aload_n 0, 1) := dk_42 (dk_at dksX2_fails_1 21 rfl rfl)
theorem dX2_fails_46 : decode cX2_fails 46 = .ok (.getfield 89, 3) := dk_180 0 89 (dk_at dksX2_fails_2 0 rfl rfl)
theorem dX2_fails_49 : decode cX2_fails 49 = .ok (.iload_n 3, 1) := dk_29 (dk_at dksX2_fails_2 3 rfl rfl)
theorem dX2_fails_50 : decode cX2_fails 50 = .ok (.iconst (-1), 1) := dk_2 (dk_at dksX2_fails_2 4 rfl rfl)
theorem dX2_fails_51 : decode cX2_fails 51 = .ok (.iastore, 1) := dk_79 (dk_at dksX2_fails_2 5 rfl rfl)
theorem dX2_fails_52 : decode cX2_fails 52 = .ok (.aload_n 0, 1) := dk_42 (dk_at dksX2_fails_2 6 rfl rfl)
theorem dX2_fails_53 : decode cX2_fails 53 = .ok (.getfield 67, 3) := dk_180 0 67 (dk_at dksX2_fails_2 7 rfl rfl)
theorem dX2_fails_56 : decode cX2_fails 56 = .ok (.iload_n 1, 1) := dk_27 (dk_at dksX2_fails_2 10 rfl rfl)
theorem dX2_fails_57 : decode cX2_fails 57 = .ok (.aload_n 0, 1) := dk_42 (dk_at dksX2_fails_2 11 rfl rfl)
theorem dX2_fails_58 : decode cX2_fails 58 = .ok (.getfield 73, 3) := dk_180 0 73 (dk_at dksX2_fails_2 12 rfl rfl)
theorem dX2_fails_61 : decode cX2_fails 61 = .ok (.iload_n 1, 1) := dk_27 (dk_at dksX2_fails_2 15 rfl rfl)
theorem dX2_fails_62 : decode cX2_fails 62 = .ok (.iaload, 1) := dk_46 (dk_at dksX2_fails_2 16 rfl rfl)
theorem dX2_fails_63 : decode cX2_fails 63 = .ok (.iconst 1, 1) := dk_4 (dk_at dksX2_fails_2 17 rfl rfl)
theorem dX2_fails_64 : decode cX2_fails 64 = .ok (.if_icmp .ne 7, 3) := dk_160 0 7 (dk_at dksX2_fails_2 18 rfl rfl)
theorem dX2_fails_67 : decode cX2_fails 67 = .ok (.iconst 4, 1) := dk_7 (dk_at dksX2_fails_2 21 rfl rfl)
theorem dX2_fails_68 : decode cX2_fails 68 = .ok (.goto 4, 3) := dk_167 0 4 (dk_at dksX2_fails_3 0 rfl rfl)
theorem dX2_fails_71 : decode cX2_fails 71 = .ok (.iconst 5, 1) := dk_8 (dk_at dksX2_fails_3 3 rfl rfl)
theorem dX2_fails_72 : decode cX2_fails 72 = .ok (.iastore, 1) := dk_79 (dk_at dksX2_fails_3 4 rfl rfl)
theorem dX2_fails_73 : decode cX2_fails 73 = .ok (.iconst 0, 1) := dk_3 (dk_at dksX2_fails_3 5 rfl rfl)
theorem dX2_fails_74 : decode cX2_fails 74 = .ok (.istore 4, 2) := dk_54 4 (dk_at dksX2_fails_3 6 rfl rfl)
theorem dX2_fails_76 : decode cX2_fails 76 = .ok (.iload 4, 2) := dk_21 4 (dk_at dksX2_fails_3 8 rfl rfl)
theorem dX2_fails_78 : decode cX2_fails 78 = .ok (.bipush 8, 2) := dk_16 8 (dk_at dksX2_fails_3 10 rfl rfl)
theorem dX2_fails_80 : decode cX2_fails 80 = .ok (.if_icmp .ge 32, 3) := dk_162 0 32 (dk_at dksX2_fails_3 12 rfl rfl)
theorem dX2_fails_83 : decode cX2_fails 83 = .ok (.aload_n 0, 1) := dk_42 (dk_at dksX2_fails_3 15 rfl rfl)
theorem dX2_fails_84 : decode cX2_fails 84 = .ok (.getfield 73, 3) := dk_180 0 73 (dk_at dksX2_fails_3 16 rfl rfl)
theorem dX2_fails_87 : decode cX2_fails 87 = .ok (.iload_n 1, 1) := dk_27 (dk_at dksX2_fails_3 19 rfl rfl)
theorem dX2_fails_88 : decode cX2_fails 88 = .ok (.iaload, 1) := dk_46 (dk_at dksX2_fails_3 20 rfl rfl)
theorem dX2_fails_89 : decode cX2_fails 89 = .ok (.iconst 2, 1) := dk_5 (dk_at dksX2_fails_3 21 rfl rfl)
theorem dX2_fails_90 : decode cX2_fails 90 = .ok (.if_icmp .ne 22, 3) := dk_160 0 22 (dk_at dksX2_fails_4 0 rfl rfl)
theorem dX2_fails_93 : decode cX2_fails 93 = .ok (.aload_n 0, 1) := dk_42 (dk_at dksX2_fails_4 3 rfl rfl)
theorem dX2_fails_94 : decode cX2_fails 94 = .ok (.getfield 82, 3) := dk_180 0 82 (dk_at dksX2_fails_4 4 rfl rfl)
theorem dX2_fails_97 : decode cX2_fails 97 = .ok (.bipush 8, 2) := dk_16 8 (dk_at dksX2_fails_4 7 rfl rfl)
theorem dX2_fails_99 : decode cX2_fails 99 = .ok (.iload_n 1, 1) := dk_27 (dk_at dksX2_fails_4 9 rfl rfl)
theorem dX2_fails_100 : decode cX2_fails 100 = .ok (.imul, 1) := dk_104 (dk_at dksX2_fails_4 10 rfl rfl)
theorem dX2_fails_101 : decode cX2_fails 101 = .ok (.iload 4, 2) := dk_21 4 (dk_at dksX2_fails_4 11 rfl rfl)
theorem dX2_fails_103 : decode cX2_fails 103 = .ok (.iadd, 1) := dk_96 (dk_at dksX2_fails_4 13 rfl rfl)
theorem dX2_fails_104 : decode cX2_fails 104 = .ok (.fconst 0, 1) := dk_11 (dk_at dksX2_fails_4 14 rfl rfl)
theorem dX2_fails_105 : decode cX2_fails 105 = .ok (.fastore, 1) := dk_81 (dk_at dksX2_fails_4 15 rfl rfl)
theorem dX2_fails_106 : decode cX2_fails 106 = .ok (.iinc 4 1, 3) := dk_132 4 1 (dk_at dksX2_fails_4 16 rfl rfl)
theorem dX2_fails_109 : decode cX2_fails 109 = .ok (.goto (-33), 3) := dk_167 255 223 (dk_at dksX2_fails_4 19 rfl rfl)
theorem dX2_fails_112 : decode cX2_fails 112 = .ok (.iconst 2, 1) := dk_5 (dk_at dksX2_fails_4 22 rfl rfl)
theorem dX2_fails_113 : decode cX2_fails 113 = .ok (.ireturn, 1) := dk_172 (dk_at dksX2_fails_4 23 rfl rfl)
abbrev cX2_behind : ByteArray := prog_14_method_33_code
def yX2_behind : MethodName := ⟨RX2, "behind", "(III)V"⟩
def dkwX2_behind_2 : List UInt8 := [2, 167, 0, 4, 27, 79, 177]
abbrev dktX2_behind_2 : List UInt8 := dkwX2_behind_2 ++ []
def dkwX2_behind_1 : List UInt8 := [160, 0, 7, 6, 167, 0, 4, 5, 79, 42, 180, 0, 89, 29, 42, 180, 0, 67, 27, 46, 6, 160, 0, 7]
abbrev dktX2_behind_1 : List UInt8 := dkwX2_behind_1 ++ dktX2_behind_2
def dkwX2_behind_0 : List UInt8 := [42, 180, 0, 70, 27, 42, 27, 28, 182, 0, 250, 79, 42, 180, 0, 67, 27, 42, 180, 0, 70, 27, 46, 7]
abbrev dktX2_behind_0 : List UInt8 := dkwX2_behind_0 ++ dktX2_behind_1
theorem dksX2_behind_0 : cX2_behind.data.toList.drop 0 = dktX2_behind_0 := by decide +kernel
theorem dksX2_behind_1 : cX2_behind.data.toList.drop 24 = dktX2_behind_1 := dk_seg dksX2_behind_0 24 rfl rfl
theorem dksX2_behind_2 : cX2_behind.data.toList.drop 48 = dktX2_behind_2 := dk_seg dksX2_behind_1 24 rfl rfl
theorem dX2_behind_0 : decode cX2_behind 0 = .ok (.aload_n 0, 1) := dk_42 (dk_at dksX2_behind_0 0 rfl rfl)
theorem dX2_behind_1 : decode cX2_behind 1 = .ok (.getfield 70, 3) := dk_180 0 70 (dk_at dksX2_behind_0 1 rfl rfl)
theorem dX2_behind_4 : decode cX2_behind 4 = .ok (.iload_n 1, 1) := dk_27 (dk_at dksX2_behind_0 4 rfl rfl)
theorem dX2_behind_5 : decode cX2_behind 5 = .ok (.aload_n 0, 1) := dk_42 (dk_at dksX2_behind_0 5 rfl rfl)
theorem dX2_behind_6 : decode cX2_behind 6 = .ok (.iload_n 1, 1) := dk_27 (dk_at dksX2_behind_0 6 rfl rfl)
theorem dX2_behind_7 : decode cX2_behind 7 = .ok (.iload_n 2, 1) := dk_28 (dk_at dksX2_behind_0 7 rfl rfl)
theorem dX2_behind_8 : decode cX2_behind 8 = .ok (.invokevirtual 250, 3) := dk_182 0 250 (dk_at dksX2_behind_0 8 rfl rfl)
theorem dX2_behind_11 : decode cX2_behind 11 = .ok (.iastore, 1) := dk_79 (dk_at dksX2_behind_0 11 rfl rfl)
theorem dX2_behind_12 : decode cX2_behind 12 = .ok (.aload_n 0, 1) := dk_42 (dk_at dksX2_behind_0 12 rfl rfl)
theorem dX2_behind_13 : decode cX2_behind 13 = .ok (.getfield 67, 3) := dk_180 0 67 (dk_at dksX2_behind_0 13 rfl rfl)
theorem dX2_behind_16 : decode cX2_behind 16 = .ok (.iload_n 1, 1) := dk_27 (dk_at dksX2_behind_0 16 rfl rfl)
theorem dX2_behind_17 : decode cX2_behind 17 = .ok (.aload_n 0, 1) := dk_42 (dk_at dksX2_behind_0 17 rfl rfl)
theorem dX2_behind_18 : decode cX2_behind 18 = .ok (.getfield 70, 3) := dk_180 0 70 (dk_at dksX2_behind_0 18 rfl rfl)
theorem dX2_behind_21 : decode cX2_behind 21 = .ok (.iload_n 1, 1) := dk_27 (dk_at dksX2_behind_0 21 rfl rfl)
theorem dX2_behind_22 : decode cX2_behind 22 = .ok (.iaload, 1) := dk_46 (dk_at dksX2_behind_0 22 rfl rfl)
theorem dX2_behind_23 : decode cX2_behind 23 = .ok (.iconst 4, 1) := dk_7 (dk_at dksX2_behind_0 23 rfl rfl)
theorem dX2_behind_24 : decode cX2_behind 24 = .ok (.if_icmp .ne 7, 3) := dk_160 0 7 (dk_at dksX2_behind_1 0 rfl rfl)
theorem dX2_behind_27 : decode cX2_behind 27 = .ok (.iconst 3, 1) := dk_6 (dk_at dksX2_behind_1 3 rfl rfl)
theorem dX2_behind_28 : decode cX2_behind 28 = .ok (.goto 4, 3) := dk_167 0 4 (dk_at dksX2_behind_1 4 rfl rfl)
theorem dX2_behind_31 : decode cX2_behind 31 = .ok (.iconst 2, 1) := dk_5 (dk_at dksX2_behind_1 7 rfl rfl)
theorem dX2_behind_32 : decode cX2_behind 32 = .ok (.iastore, 1) := dk_79 (dk_at dksX2_behind_1 8 rfl rfl)
theorem dX2_behind_33 : decode cX2_behind 33 = .ok (.aload_n 0, 1) := dk_42 (dk_at dksX2_behind_1 9 rfl rfl)
theorem dX2_behind_34 : decode cX2_behind 34 = .ok (.getfield 89, 3) := dk_180 0 89 (dk_at dksX2_behind_1 10 rfl rfl)
theorem dX2_behind_37 : decode cX2_behind 37 = .ok (.iload_n 3, 1) := dk_29 (dk_at dksX2_behind_1 13 rfl rfl)
theorem dX2_behind_38 : decode cX2_behind 38 = .ok (.aload_n 0, 1) := dk_42 (dk_at dksX2_behind_1 14 rfl rfl)
theorem dX2_behind_39 : decode cX2_behind 39 = .ok (.getfield 67, 3) := dk_180 0 67 (dk_at dksX2_behind_1 15 rfl rfl)
theorem dX2_behind_42 : decode cX2_behind 42 = .ok (.iload_n 1, 1) := dk_27 (dk_at dksX2_behind_1 18 rfl rfl)
theorem dX2_behind_43 : decode cX2_behind 43 = .ok (.iaload, 1) := dk_46 (dk_at dksX2_behind_1 19 rfl rfl)
theorem dX2_behind_44 : decode cX2_behind 44 = .ok (.iconst 3, 1) := dk_6 (dk_at dksX2_behind_1 20 rfl rfl)
theorem dX2_behind_45 : decode cX2_behind 45 = .ok (.if_icmp .ne 7, 3) := dk_160 0 7 (dk_at dksX2_behind_1 21 rfl rfl)
theorem dX2_behind_48 : decode cX2_behind 48 = .ok (.iconst (-1), 1) := dk_2 (dk_at dksX2_behind_2 0 rfl rfl)
theorem dX2_behind_49 : decode cX2_behind 49 = .ok (.goto 4, 3) := dk_167 0 4 (dk_at dksX2_behind_2 1 rfl rfl)
theorem dX2_behind_52 : decode cX2_behind 52 = .ok (.iload_n 1, 1) := dk_27 (dk_at dksX2_behind_2 4 rfl rfl)
theorem dX2_behind_53 : decode cX2_behind 53 = .ok (.iastore, 1) := dk_79 (dk_at dksX2_behind_2 5 rfl rfl)
theorem dX2_behind_54 : decode cX2_behind 54 = .ok (.return_, 1) := dk_177 (dk_at dksX2_behind_2 6 rfl rfl)
abbrev cX2_nextPlace : ByteArray := prog_14_method_31_code
def yX2_nextPlace : MethodName := ⟨RX2, "nextPlace", "(II)I"⟩
def dkwX2_nextPlace_1 : List UInt8 := [167, 255, 234, 29, 172]
abbrev dktX2_nextPlace_1 : List UInt8 := dkwX2_nextPlace_1 ++ []
def dkwX2_nextPlace_0 : List UInt8 := [28, 62, 29, 7, 162, 0, 23, 42, 180, 0, 64, 7, 27, 104, 29, 96, 46, 2, 160, 0, 9, 132, 3, 1]
abbrev dktX2_nextPlace_0 : List UInt8 := dkwX2_nextPlace_0 ++ dktX2_nextPlace_1
theorem dksX2_nextPlace_0 : cX2_nextPlace.data.toList.drop 0 = dktX2_nextPlace_0 := by decide +kernel
theorem dksX2_nextPlace_1 : cX2_nextPlace.data.toList.drop 24 = dktX2_nextPlace_1 := dk_seg dksX2_nextPlace_0 24 rfl rfl
theorem dX2_nextPlace_0 : decode cX2_nextPlace 0 = .ok (.iload_n 2, 1) := dk_28 (dk_at dksX2_nextPlace_0 0 rfl rfl)
theorem dX2_nextPlace_1 : decode cX2_nextPlace 1 = .ok (.istore_n 3, 1) := dk_62 (dk_at dksX2_nextPlace_0 1 rfl rfl)
theorem dX2_nextPlace_2 : decode cX2_nextPlace 2 = .ok (.iload_n 3, 1) := dk_29 (dk_at dksX2_nextPlace_0 2 rfl rfl)
theorem dX2_nextPlace_3 : decode cX2_nextPlace 3 = .ok (.iconst 4, 1) := dk_7 (dk_at dksX2_nextPlace_0 3 rfl rfl)
theorem dX2_nextPlace_4 : decode cX2_nextPlace 4 = .ok (.if_icmp .ge 23, 3) := dk_162 0 23 (dk_at dksX2_nextPlace_0 4 rfl rfl)
theorem dX2_nextPlace_7 : decode cX2_nextPlace 7 = .ok (.aload_n 0, 1) := dk_42 (dk_at dksX2_nextPlace_0 7 rfl rfl)
theorem dX2_nextPlace_8 : decode cX2_nextPlace 8 = .ok (.getfield 64, 3) := dk_180 0 64 (dk_at dksX2_nextPlace_0 8 rfl rfl)
theorem dX2_nextPlace_11 : decode cX2_nextPlace 11 = .ok (.iconst 4, 1) := dk_7 (dk_at dksX2_nextPlace_0 11 rfl rfl)
theorem dX2_nextPlace_12 : decode cX2_nextPlace 12 = .ok (.iload_n 1, 1) := dk_27 (dk_at dksX2_nextPlace_0 12 rfl rfl)
theorem dX2_nextPlace_13 : decode cX2_nextPlace 13 = .ok (.imul, 1) := dk_104 (dk_at dksX2_nextPlace_0 13 rfl rfl)
theorem dX2_nextPlace_14 : decode cX2_nextPlace 14 = .ok (.iload_n 3, 1) := dk_29 (dk_at dksX2_nextPlace_0 14 rfl rfl)
theorem dX2_nextPlace_15 : decode cX2_nextPlace 15 = .ok (.iadd, 1) := dk_96 (dk_at dksX2_nextPlace_0 15 rfl rfl)
theorem dX2_nextPlace_16 : decode cX2_nextPlace 16 = .ok (.iaload, 1) := dk_46 (dk_at dksX2_nextPlace_0 16 rfl rfl)
theorem dX2_nextPlace_17 : decode cX2_nextPlace 17 = .ok (.iconst (-1), 1) := dk_2 (dk_at dksX2_nextPlace_0 17 rfl rfl)
theorem dX2_nextPlace_18 : decode cX2_nextPlace 18 = .ok (.if_icmp .ne 9, 3) := dk_160 0 9 (dk_at dksX2_nextPlace_0 18 rfl rfl)
theorem dX2_nextPlace_21 : decode cX2_nextPlace 21 = .ok (.iinc 3 1, 3) := dk_132 3 1 (dk_at dksX2_nextPlace_0 21 rfl rfl)
theorem dX2_nextPlace_24 : decode cX2_nextPlace 24 = .ok (.goto (-22), 3) := dk_167 255 234 (dk_at dksX2_nextPlace_1 0 rfl rfl)
theorem dX2_nextPlace_27 : decode cX2_nextPlace 27 = .ok (.iload_n 3, 1) := dk_29 (dk_at dksX2_nextPlace_1 3 rfl rfl)
theorem dX2_nextPlace_28 : decode cX2_nextPlace 28 = .ok (.ireturn, 1) := dk_172 (dk_at dksX2_nextPlace_1 4 rfl rfl)
abbrev cX2_waits : ByteArray := prog_14_method_39_code
def yX2_waits : MethodName := ⟨RX2, "waits", "()I"⟩
def dkwX2_waits_0 : List UInt8 := [42, 89, 180, 1, 12, 4, 96, 181, 1, 12, 3, 172]
abbrev dktX2_waits_0 : List UInt8 := dkwX2_waits_0 ++ []
theorem dksX2_waits_0 : cX2_waits.data.toList.drop 0 = dktX2_waits_0 := by decide +kernel
theorem dX2_waits_0 : decode cX2_waits 0 = .ok (.aload_n 0, 1) := dk_42 (dk_at dksX2_waits_0 0 rfl rfl)
theorem dX2_waits_1 : decode cX2_waits 1 = .ok (.dup, 1) := dk_89 (dk_at dksX2_waits_0 1 rfl rfl)
theorem dX2_waits_2 : decode cX2_waits 2 = .ok (.getfield 268, 3) := dk_180 1 12 (dk_at dksX2_waits_0 2 rfl rfl)
theorem dX2_waits_5 : decode cX2_waits 5 = .ok (.iconst 1, 1) := dk_4 (dk_at dksX2_waits_0 5 rfl rfl)
theorem dX2_waits_6 : decode cX2_waits 6 = .ok (.iadd, 1) := dk_96 (dk_at dksX2_waits_0 6 rfl rfl)
theorem dX2_waits_7 : decode cX2_waits 7 = .ok (.putfield 268, 3) := dk_181 1 12 (dk_at dksX2_waits_0 7 rfl rfl)
theorem dX2_waits_10 : decode cX2_waits 10 = .ok (.iconst 0, 1) := dk_3 (dk_at dksX2_waits_0 10 rfl rfl)
theorem dX2_waits_11 : decode cX2_waits 11 = .ok (.ireturn, 1) := dk_172 (dk_at dksX2_waits_0 11 rfl rfl)
abbrev cX2_firstOf : ByteArray := prog_14_method_37_code
def yX2_firstOf : MethodName := ⟨RX2, "firstOf", "(I)I"⟩
def dkwX2_firstOf_1 : List UInt8 := [28, 172]
abbrev dktX2_firstOf_1 : List UInt8 := dkwX2_firstOf_1 ++ []
def dkwX2_firstOf_0 : List UInt8 := [3, 61, 28, 16, 8, 162, 0, 19, 42, 180, 0, 67, 28, 46, 27, 159, 0, 9, 132, 2, 1, 167, 255, 237]
abbrev dktX2_firstOf_0 : List UInt8 := dkwX2_firstOf_0 ++ dktX2_firstOf_1
theorem dksX2_firstOf_0 : cX2_firstOf.data.toList.drop 0 = dktX2_firstOf_0 := by decide +kernel
theorem dksX2_firstOf_1 : cX2_firstOf.data.toList.drop 24 = dktX2_firstOf_1 := dk_seg dksX2_firstOf_0 24 rfl rfl
theorem dX2_firstOf_0 : decode cX2_firstOf 0 = .ok (.iconst 0, 1) := dk_3 (dk_at dksX2_firstOf_0 0 rfl rfl)
theorem dX2_firstOf_1 : decode cX2_firstOf 1 = .ok (.istore_n 2, 1) := dk_61 (dk_at dksX2_firstOf_0 1 rfl rfl)
theorem dX2_firstOf_2 : decode cX2_firstOf 2 = .ok (.iload_n 2, 1) := dk_28 (dk_at dksX2_firstOf_0 2 rfl rfl)
theorem dX2_firstOf_3 : decode cX2_firstOf 3 = .ok (.bipush 8, 2) := dk_16 8 (dk_at dksX2_firstOf_0 3 rfl rfl)
theorem dX2_firstOf_5 : decode cX2_firstOf 5 = .ok (.if_icmp .ge 19, 3) := dk_162 0 19 (dk_at dksX2_firstOf_0 5 rfl rfl)
theorem dX2_firstOf_8 : decode cX2_firstOf 8 = .ok (.aload_n 0, 1) := dk_42 (dk_at dksX2_firstOf_0 8 rfl rfl)
theorem dX2_firstOf_9 : decode cX2_firstOf 9 = .ok (.getfield 67, 3) := dk_180 0 67 (dk_at dksX2_firstOf_0 9 rfl rfl)
theorem dX2_firstOf_12 : decode cX2_firstOf 12 = .ok (.iload_n 2, 1) := dk_28 (dk_at dksX2_firstOf_0 12 rfl rfl)
theorem dX2_firstOf_13 : decode cX2_firstOf 13 = .ok (.iaload, 1) := dk_46 (dk_at dksX2_firstOf_0 13 rfl rfl)
theorem dX2_firstOf_14 : decode cX2_firstOf 14 = .ok (.iload_n 1, 1) := dk_27 (dk_at dksX2_firstOf_0 14 rfl rfl)
theorem dX2_firstOf_15 : decode cX2_firstOf 15 = .ok (.if_icmp .eq 9, 3) := dk_159 0 9 (dk_at dksX2_firstOf_0 15 rfl rfl)
theorem dX2_firstOf_18 : decode cX2_firstOf 18 = .ok (.iinc 2 1, 3) := dk_132 2 1 (dk_at dksX2_firstOf_0 18 rfl rfl)
theorem dX2_firstOf_21 : decode cX2_firstOf 21 = .ok (.goto (-19), 3) := dk_167 255 237 (dk_at dksX2_firstOf_0 21 rfl rfl)
theorem dX2_firstOf_24 : decode cX2_firstOf 24 = .ok (.iload_n 2, 1) := dk_28 (dk_at dksX2_firstOf_1 0 rfl rfl)
theorem dX2_firstOf_25 : decode cX2_firstOf 25 = .ok (.ireturn, 1) := dk_172 (dk_at dksX2_firstOf_1 1 rfl rfl)
abbrev cX2_loads : ByteArray := prog_14_method_35_code
def yX2_loads : MethodName := ⟨RX2, "loads", "(II)I"⟩
def dkwX2_loads_7 : List UInt8 := [28, 182, 1, 5, 4, 172]
abbrev dktX2_loads_7 : List UInt8 := dkwX2_loads_7 ++ []
def dkwX2_loads_6 : List UInt8 := [132, 3, 1, 167, 255, 146, 42, 180, 0, 210, 153, 0, 11, 42, 27, 2, 28, 182, 1, 1, 172, 42, 27, 3]
abbrev dktX2_loads_6 : List UInt8 := dkwX2_loads_6 ++ dktX2_loads_7
def dkwX2_loads_5 : List UInt8 := [21, 5, 153, 0, 18, 42, 42, 180, 0, 49, 27, 46, 21, 4, 182, 0, 185, 167, 0, 4, 11, 81]
abbrev dktX2_loads_5 : List UInt8 := dkwX2_loads_5 ++ dktX2_loads_6
def dkwX2_loads_4 : List UInt8 := [27, 51, 153, 0, 7, 5, 167, 0, 4, 3, 181, 0, 210, 42, 180, 0, 82, 16, 8, 27, 104, 29, 96]
abbrev dktX2_loads_4 : List UInt8 := dkwX2_loads_4 ++ dktX2_loads_5
def dkwX2_loads_3 : List UInt8 := [42, 180, 0, 49, 27, 46, 46, 4, 100, 184, 0, 136, 54, 5, 42, 21, 5, 154, 0, 16, 42, 180, 0, 55]
abbrev dktX2_loads_3 : List UInt8 := dkwX2_loads_3 ++ dktX2_loads_4
def dkwX2_loads_2 : List UInt8 := [180, 0, 52, 27, 46, 16, 8, 42, 180, 0, 238, 104, 96, 29, 96, 54, 4, 21, 4, 3, 42, 180, 0, 13]
abbrev dktX2_loads_2 : List UInt8 := dkwX2_loads_2 ++ dktX2_loads_3
def dkwX2_loads_1 : List UInt8 := [167, 0, 4, 3, 181, 0, 210, 3, 62, 29, 16, 8, 162, 0, 110, 42, 180, 0, 210, 154, 0, 103, 42]
abbrev dktX2_loads_1 : List UInt8 := dkwX2_loads_1 ++ dktX2_loads_2
def dkwX2_loads_0 : List UInt8 := [42, 89, 180, 0, 254, 4, 96, 181, 0, 254, 42, 42, 180, 0, 49, 27, 46, 2, 160, 0, 7, 4]
abbrev dktX2_loads_0 : List UInt8 := dkwX2_loads_0 ++ dktX2_loads_1
theorem dksX2_loads_0 : cX2_loads.data.toList.drop 0 = dktX2_loads_0 := by decide +kernel
theorem dksX2_loads_1 : cX2_loads.data.toList.drop 22 = dktX2_loads_1 := dk_seg dksX2_loads_0 22 rfl rfl
theorem dksX2_loads_2 : cX2_loads.data.toList.drop 45 = dktX2_loads_2 := dk_seg dksX2_loads_1 23 rfl rfl
theorem dksX2_loads_3 : cX2_loads.data.toList.drop 69 = dktX2_loads_3 := dk_seg dksX2_loads_2 24 rfl rfl
theorem dksX2_loads_4 : cX2_loads.data.toList.drop 93 = dktX2_loads_4 := dk_seg dksX2_loads_3 24 rfl rfl
theorem dksX2_loads_5 : cX2_loads.data.toList.drop 116 = dktX2_loads_5 := dk_seg dksX2_loads_4 23 rfl rfl
theorem dksX2_loads_6 : cX2_loads.data.toList.drop 138 = dktX2_loads_6 := dk_seg dksX2_loads_5 22 rfl rfl
theorem dksX2_loads_7 : cX2_loads.data.toList.drop 162 = dktX2_loads_7 := dk_seg dksX2_loads_6 24 rfl rfl
theorem dX2_loads_0 : decode cX2_loads 0 = .ok (.aload_n 0, 1) := dk_42 (dk_at dksX2_loads_0 0 rfl rfl)
theorem dX2_loads_1 : decode cX2_loads 1 = .ok (.dup, 1) := dk_89 (dk_at dksX2_loads_0 1 rfl rfl)
theorem dX2_loads_2 : decode cX2_loads 2 = .ok (.getfield 254, 3) := dk_180 0 254 (dk_at dksX2_loads_0 2 rfl rfl)
theorem dX2_loads_5 : decode cX2_loads 5 = .ok (.iconst 1, 1) := dk_4 (dk_at dksX2_loads_0 5 rfl rfl)
theorem dX2_loads_6 : decode cX2_loads 6 = .ok (.iadd, 1) := dk_96 (dk_at dksX2_loads_0 6 rfl rfl)
theorem dX2_loads_7 : decode cX2_loads 7 = .ok (.putfield 254, 3) := dk_181 0 254 (dk_at dksX2_loads_0 7 rfl rfl)
theorem dX2_loads_10 : decode cX2_loads 10 = .ok (.aload_n 0, 1) := dk_42 (dk_at dksX2_loads_0 10 rfl rfl)
theorem dX2_loads_11 : decode cX2_loads 11 = .ok (.aload_n 0, 1) := dk_42 (dk_at dksX2_loads_0 11 rfl rfl)
theorem dX2_loads_12 : decode cX2_loads 12 = .ok (.getfield 49, 3) := dk_180 0 49 (dk_at dksX2_loads_0 12 rfl rfl)
theorem dX2_loads_15 : decode cX2_loads 15 = .ok (.iload_n 1, 1) := dk_27 (dk_at dksX2_loads_0 15 rfl rfl)
theorem dX2_loads_16 : decode cX2_loads 16 = .ok (.iaload, 1) := dk_46 (dk_at dksX2_loads_0 16 rfl rfl)
theorem dX2_loads_17 : decode cX2_loads 17 = .ok (.iconst (-1), 1) := dk_2 (dk_at dksX2_loads_0 17 rfl rfl)
theorem dX2_loads_18 : decode cX2_loads 18 = .ok (.if_icmp .ne 7, 3) := dk_160 0 7 (dk_at dksX2_loads_0 18 rfl rfl)
theorem dX2_loads_21 : decode cX2_loads 21 = .ok (.iconst 1, 1) := dk_4 (dk_at dksX2_loads_0 21 rfl rfl)
theorem dX2_loads_22 : decode cX2_loads 22 = .ok (.goto 4, 3) := dk_167 0 4 (dk_at dksX2_loads_1 0 rfl rfl)
theorem dX2_loads_25 : decode cX2_loads 25 = .ok (.iconst 0, 1) := dk_3 (dk_at dksX2_loads_1 3 rfl rfl)
theorem dX2_loads_26 : decode cX2_loads 26 = .ok (.putfield 210, 3) := dk_181 0 210 (dk_at dksX2_loads_1 4 rfl rfl)
theorem dX2_loads_29 : decode cX2_loads 29 = .ok (.iconst 0, 1) := dk_3 (dk_at dksX2_loads_1 7 rfl rfl)
theorem dX2_loads_30 : decode cX2_loads 30 = .ok (.istore_n 3, 1) := dk_62 (dk_at dksX2_loads_1 8 rfl rfl)
theorem dX2_loads_31 : decode cX2_loads 31 = .ok (.iload_n 3, 1) := dk_29 (dk_at dksX2_loads_1 9 rfl rfl)
theorem dX2_loads_32 : decode cX2_loads 32 = .ok (.bipush 8, 2) := dk_16 8 (dk_at dksX2_loads_1 10 rfl rfl)
theorem dX2_loads_34 : decode cX2_loads 34 = .ok (.if_icmp .ge 110, 3) := dk_162 0 110 (dk_at dksX2_loads_1 12 rfl rfl)
theorem dX2_loads_37 : decode cX2_loads 37 = .ok (.aload_n 0, 1) := dk_42 (dk_at dksX2_loads_1 15 rfl rfl)
theorem dX2_loads_38 : decode cX2_loads 38 = .ok (.getfield 210, 3) := dk_180 0 210 (dk_at dksX2_loads_1 16 rfl rfl)
theorem dX2_loads_41 : decode cX2_loads 41 = .ok (.ifCond .ne 103, 3) := dk_154 0 103 (dk_at dksX2_loads_1 19 rfl rfl)
theorem dX2_loads_44 : decode cX2_loads 44 = .ok (.aload_n 0, 1) := dk_42 (dk_at dksX2_loads_1 22 rfl rfl)
theorem dX2_loads_45 : decode cX2_loads 45 = .ok (.getfield 52, 3) := dk_180 0 52 (dk_at dksX2_loads_2 0 rfl rfl)
theorem dX2_loads_48 : decode cX2_loads 48 = .ok (.iload_n 1, 1) := dk_27 (dk_at dksX2_loads_2 3 rfl rfl)
theorem dX2_loads_49 : decode cX2_loads 49 = .ok (.iaload, 1) := dk_46 (dk_at dksX2_loads_2 4 rfl rfl)
theorem dX2_loads_50 : decode cX2_loads 50 = .ok (.bipush 8, 2) := dk_16 8 (dk_at dksX2_loads_2 5 rfl rfl)
theorem dX2_loads_52 : decode cX2_loads 52 = .ok (.aload_n 0, 1) := dk_42 (dk_at dksX2_loads_2 7 rfl rfl)
theorem dX2_loads_53 : decode cX2_loads 53 = .ok (.getfield 238, 3) := dk_180 0 238 (dk_at dksX2_loads_2 8 rfl rfl)
theorem dX2_loads_56 : decode cX2_loads 56 = .ok (.imul, 1) := dk_104 (dk_at dksX2_loads_2 11 rfl rfl)
theorem dX2_loads_57 : decode cX2_loads 57 = .ok (.iadd, 1) := dk_96 (dk_at dksX2_loads_2 12 rfl rfl)
theorem dX2_loads_58 : decode cX2_loads 58 = .ok (.iload_n 3, 1) := dk_29 (dk_at dksX2_loads_2 13 rfl rfl)
theorem dX2_loads_59 : decode cX2_loads 59 = .ok (.iadd, 1) := dk_96 (dk_at dksX2_loads_2 14 rfl rfl)
theorem dX2_loads_60 : decode cX2_loads 60 = .ok (.istore 4, 2) := dk_54 4 (dk_at dksX2_loads_2 15 rfl rfl)
theorem dX2_loads_62 : decode cX2_loads 62 = .ok (.iload 4, 2) := dk_21 4 (dk_at dksX2_loads_2 17 rfl rfl)
theorem dX2_loads_64 : decode cX2_loads 64 = .ok (.iconst 0, 1) := dk_3 (dk_at dksX2_loads_2 19 rfl rfl)
theorem dX2_loads_65 : decode cX2_loads 65 = .ok (.aload_n 0, 1) := dk_42 (dk_at dksX2_loads_2 20 rfl rfl)
theorem dX2_loads_66 : decode cX2_loads 66 = .ok (.getfield 13, 3) := dk_180 0 13 (dk_at dksX2_loads_2 21 rfl rfl)
theorem dX2_loads_69 : decode cX2_loads 69 = .ok (.aload_n 0, 1) := dk_42 (dk_at dksX2_loads_3 0 rfl rfl)
theorem dX2_loads_70 : decode cX2_loads 70 = .ok (.getfield 49, 3) := dk_180 0 49 (dk_at dksX2_loads_3 1 rfl rfl)
theorem dX2_loads_73 : decode cX2_loads 73 = .ok (.iload_n 1, 1) := dk_27 (dk_at dksX2_loads_3 4 rfl rfl)
theorem dX2_loads_74 : decode cX2_loads 74 = .ok (.iaload, 1) := dk_46 (dk_at dksX2_loads_3 5 rfl rfl)
theorem dX2_loads_75 : decode cX2_loads 75 = .ok (.iaload, 1) := dk_46 (dk_at dksX2_loads_3 6 rfl rfl)
theorem dX2_loads_76 : decode cX2_loads 76 = .ok (.iconst 1, 1) := dk_4 (dk_at dksX2_loads_3 7 rfl rfl)
theorem dX2_loads_77 : decode cX2_loads 77 = .ok (.isub, 1) := dk_100 (dk_at dksX2_loads_3 8 rfl rfl)
theorem dX2_loads_78 : decode cX2_loads 78 = .ok (.invokestatic 136, 3) := dk_184 0 136 (dk_at dksX2_loads_3 9 rfl rfl)
theorem dX2_loads_81 : decode cX2_loads 81 = .ok (.istore 5, 2) := dk_54 5 (dk_at dksX2_loads_3 12 rfl rfl)
theorem dX2_loads_83 : decode cX2_loads 83 = .ok (.aload_n 0, 1) := dk_42 (dk_at dksX2_loads_3 14 rfl rfl)
theorem dX2_loads_84 : decode cX2_loads 84 = .ok (.iload 5, 2) := dk_21 5 (dk_at dksX2_loads_3 15 rfl rfl)
theorem dX2_loads_86 : decode cX2_loads 86 = .ok (.ifCond .ne 16, 3) := dk_154 0 16 (dk_at dksX2_loads_3 17 rfl rfl)
theorem dX2_loads_89 : decode cX2_loads 89 = .ok (.aload_n 0, 1) := dk_42 (dk_at dksX2_loads_3 20 rfl rfl)
theorem dX2_loads_90 : decode cX2_loads 90 = .ok (.getfield 55, 3) := dk_180 0 55 (dk_at dksX2_loads_3 21 rfl rfl)
theorem dX2_loads_93 : decode cX2_loads 93 = .ok (.iload_n 1, 1) := dk_27 (dk_at dksX2_loads_4 0 rfl rfl)
theorem dX2_loads_94 : decode cX2_loads 94 = .ok (.baload, 1) := dk_51 (dk_at dksX2_loads_4 1 rfl rfl)
theorem dX2_loads_95 : decode cX2_loads 95 = .ok (.ifCond .eq 7, 3) := dk_153 0 7 (dk_at dksX2_loads_4 2 rfl rfl)
theorem dX2_loads_98 : decode cX2_loads 98 = .ok (.iconst 2, 1) := dk_5 (dk_at dksX2_loads_4 5 rfl rfl)
theorem dX2_loads_99 : decode cX2_loads 99 = .ok (.goto 4, 3) := dk_167 0 4 (dk_at dksX2_loads_4 6 rfl rfl)
theorem dX2_loads_102 : decode cX2_loads 102 = .ok (.iconst 0, 1) := dk_3 (dk_at dksX2_loads_4 9 rfl rfl)
theorem dX2_loads_103 : decode cX2_loads 103 = .ok (.putfield 210, 3) := dk_181 0 210 (dk_at dksX2_loads_4 10 rfl rfl)
theorem dX2_loads_106 : decode cX2_loads 106 = .ok (.aload_n 0, 1) := dk_42 (dk_at dksX2_loads_4 13 rfl rfl)
theorem dX2_loads_107 : decode cX2_loads 107 = .ok (.getfield 82, 3) := dk_180 0 82 (dk_at dksX2_loads_4 14 rfl rfl)
theorem dX2_loads_110 : decode cX2_loads 110 = .ok (.bipush 8, 2) := dk_16 8 (dk_at dksX2_loads_4 17 rfl rfl)
theorem dX2_loads_112 : decode cX2_loads 112 = .ok (.iload_n 1, 1) := dk_27 (dk_at dksX2_loads_4 19 rfl rfl)
theorem dX2_loads_113 : decode cX2_loads 113 = .ok (.imul, 1) := dk_104 (dk_at dksX2_loads_4 20 rfl rfl)
theorem dX2_loads_114 : decode cX2_loads 114 = .ok (.iload_n 3, 1) := dk_29 (dk_at dksX2_loads_4 21 rfl rfl)
theorem dX2_loads_115 : decode cX2_loads 115 = .ok (.iadd, 1) := dk_96 (dk_at dksX2_loads_4 22 rfl rfl)
theorem dX2_loads_116 : decode cX2_loads 116 = .ok (.iload 5, 2) := dk_21 5 (dk_at dksX2_loads_5 0 rfl rfl)
theorem dX2_loads_118 : decode cX2_loads 118 = .ok (.ifCond .eq 18, 3) := dk_153 0 18 (dk_at dksX2_loads_5 2 rfl rfl)
theorem dX2_loads_121 : decode cX2_loads 121 = .ok (.aload_n 0, 1) := dk_42 (dk_at dksX2_loads_5 5 rfl rfl)
theorem dX2_loads_122 : decode cX2_loads 122 = .ok (.aload_n 0, 1) := dk_42 (dk_at dksX2_loads_5 6 rfl rfl)
theorem dX2_loads_123 : decode cX2_loads 123 = .ok (.getfield 49, 3) := dk_180 0 49 (dk_at dksX2_loads_5 7 rfl rfl)
theorem dX2_loads_126 : decode cX2_loads 126 = .ok (.iload_n 1, 1) := dk_27 (dk_at dksX2_loads_5 10 rfl rfl)
theorem dX2_loads_127 : decode cX2_loads 127 = .ok (.iaload, 1) := dk_46 (dk_at dksX2_loads_5 11 rfl rfl)
theorem dX2_loads_128 : decode cX2_loads 128 = .ok (.iload 4, 2) := dk_21 4 (dk_at dksX2_loads_5 12 rfl rfl)
theorem dX2_loads_130 : decode cX2_loads 130 = .ok (.invokevirtual 185, 3) := dk_182 0 185 (dk_at dksX2_loads_5 14 rfl rfl)
theorem dX2_loads_133 : decode cX2_loads 133 = .ok (.goto 4, 3) := dk_167 0 4 (dk_at dksX2_loads_5 17 rfl rfl)
theorem dX2_loads_136 : decode cX2_loads 136 = .ok (.fconst 0, 1) := dk_11 (dk_at dksX2_loads_5 20 rfl rfl)
theorem dX2_loads_137 : decode cX2_loads 137 = .ok (.fastore, 1) := dk_81 (dk_at dksX2_loads_5 21 rfl rfl)
theorem dX2_loads_138 : decode cX2_loads 138 = .ok (.iinc 3 1, 3) := dk_132 3 1 (dk_at dksX2_loads_6 0 rfl rfl)
theorem dX2_loads_141 : decode cX2_loads 141 = .ok (.goto (-110), 3) := dk_167 255 146 (dk_at dksX2_loads_6 3 rfl rfl)
theorem dX2_loads_144 : decode cX2_loads 144 = .ok (.aload_n 0, 1) := dk_42 (dk_at dksX2_loads_6 6 rfl rfl)
theorem dX2_loads_145 : decode cX2_loads 145 = .ok (.getfield 210, 3) := dk_180 0 210 (dk_at dksX2_loads_6 7 rfl rfl)
theorem dX2_loads_148 : decode cX2_loads 148 = .ok (.ifCond .eq 11, 3) := dk_153 0 11 (dk_at dksX2_loads_6 10 rfl rfl)
theorem dX2_loads_151 : decode cX2_loads 151 = .ok (.aload_n 0, 1) := dk_42 (dk_at dksX2_loads_6 13 rfl rfl)
theorem dX2_loads_152 : decode cX2_loads 152 = .ok (.iload_n 1, 1) := dk_27 (dk_at dksX2_loads_6 14 rfl rfl)
theorem dX2_loads_153 : decode cX2_loads 153 = .ok (.iconst (-1), 1) := dk_2 (dk_at dksX2_loads_6 15 rfl rfl)
theorem dX2_loads_154 : decode cX2_loads 154 = .ok (.iload_n 2, 1) := dk_28 (dk_at dksX2_loads_6 16 rfl rfl)
theorem dX2_loads_155 : decode cX2_loads 155 = .ok (.invokevirtual 257, 3) := dk_182 1 1 (dk_at dksX2_loads_6 17 rfl rfl)
theorem dX2_loads_158 : decode cX2_loads 158 = .ok (.ireturn, 1) := dk_172 (dk_at dksX2_loads_6 20 rfl rfl)
theorem dX2_loads_159 : decode cX2_loads 159 = .ok (.aload_n 0, 1) := dk_42 (dk_at dksX2_loads_6 21 rfl rfl)
theorem dX2_loads_160 : decode cX2_loads 160 = .ok (.iload_n 1, 1) := dk_27 (dk_at dksX2_loads_6 22 rfl rfl)
theorem dX2_loads_161 : decode cX2_loads 161 = .ok (.iconst 0, 1) := dk_3 (dk_at dksX2_loads_6 23 rfl rfl)
theorem dX2_loads_162 : decode cX2_loads 162 = .ok (.iload_n 2, 1) := dk_28 (dk_at dksX2_loads_7 0 rfl rfl)
theorem dX2_loads_163 : decode cX2_loads 163 = .ok (.invokevirtual 261, 3) := dk_182 1 5 (dk_at dksX2_loads_7 1 rfl rfl)
theorem dX2_loads_166 : decode cX2_loads 166 = .ok (.iconst 1, 1) := dk_4 (dk_at dksX2_loads_7 4 rfl rfl)
theorem dX2_loads_167 : decode cX2_loads 167 = .ok (.ireturn, 1) := dk_172 (dk_at dksX2_loads_7 5 rfl rfl)
abbrev cX2_hasTrack : ByteArray := prog_14_method_38_code
def yX2_hasTrack : MethodName := ⟨RX2, "hasTrack", "()Z"⟩
def dkwX2_hasTrack_1 : List UInt8 := [159, 0, 7, 4, 167, 0, 4, 3, 60, 132, 2, 1, 167, 255, 225, 27, 172]
abbrev dktX2_hasTrack_1 : List UInt8 := dkwX2_hasTrack_1 ++ []
def dkwX2_hasTrack_0 : List UInt8 := [3, 60, 3, 61, 28, 42, 180, 0, 85, 162, 0, 29, 27, 154, 0, 13, 42, 180, 0, 89, 28, 46, 2]
abbrev dktX2_hasTrack_0 : List UInt8 := dkwX2_hasTrack_0 ++ dktX2_hasTrack_1
theorem dksX2_hasTrack_0 : cX2_hasTrack.data.toList.drop 0 = dktX2_hasTrack_0 := by decide +kernel
theorem dksX2_hasTrack_1 : cX2_hasTrack.data.toList.drop 23 = dktX2_hasTrack_1 := dk_seg dksX2_hasTrack_0 23 rfl rfl
theorem dX2_hasTrack_0 : decode cX2_hasTrack 0 = .ok (.iconst 0, 1) := dk_3 (dk_at dksX2_hasTrack_0 0 rfl rfl)
theorem dX2_hasTrack_1 : decode cX2_hasTrack 1 = .ok (.istore_n 1, 1) := dk_60 (dk_at dksX2_hasTrack_0 1 rfl rfl)
theorem dX2_hasTrack_2 : decode cX2_hasTrack 2 = .ok (.iconst 0, 1) := dk_3 (dk_at dksX2_hasTrack_0 2 rfl rfl)
theorem dX2_hasTrack_3 : decode cX2_hasTrack 3 = .ok (.istore_n 2, 1) := dk_61 (dk_at dksX2_hasTrack_0 3 rfl rfl)
theorem dX2_hasTrack_4 : decode cX2_hasTrack 4 = .ok (.iload_n 2, 1) := dk_28 (dk_at dksX2_hasTrack_0 4 rfl rfl)
theorem dX2_hasTrack_5 : decode cX2_hasTrack 5 = .ok (.aload_n 0, 1) := dk_42 (dk_at dksX2_hasTrack_0 5 rfl rfl)
theorem dX2_hasTrack_6 : decode cX2_hasTrack 6 = .ok (.getfield 85, 3) := dk_180 0 85 (dk_at dksX2_hasTrack_0 6 rfl rfl)
theorem dX2_hasTrack_9 : decode cX2_hasTrack 9 = .ok (.if_icmp .ge 29, 3) := dk_162 0 29 (dk_at dksX2_hasTrack_0 9 rfl rfl)
theorem dX2_hasTrack_12 : decode cX2_hasTrack 12 = .ok (.iload_n 1, 1) := dk_27 (dk_at dksX2_hasTrack_0 12 rfl rfl)
theorem dX2_hasTrack_13 : decode cX2_hasTrack 13 = .ok (.ifCond .ne 13, 3) := dk_154 0 13 (dk_at dksX2_hasTrack_0 13 rfl rfl)
theorem dX2_hasTrack_16 : decode cX2_hasTrack 16 = .ok (.aload_n 0, 1) := dk_42 (dk_at dksX2_hasTrack_0 16 rfl rfl)
theorem dX2_hasTrack_17 : decode cX2_hasTrack 17 = .ok (.getfield 89, 3) := dk_180 0 89 (dk_at dksX2_hasTrack_0 17 rfl rfl)
theorem dX2_hasTrack_20 : decode cX2_hasTrack 20 = .ok (.iload_n 2, 1) := dk_28 (dk_at dksX2_hasTrack_0 20 rfl rfl)
theorem dX2_hasTrack_21 : decode cX2_hasTrack 21 = .ok (.iaload, 1) := dk_46 (dk_at dksX2_hasTrack_0 21 rfl rfl)
theorem dX2_hasTrack_22 : decode cX2_hasTrack 22 = .ok (.iconst (-1), 1) := dk_2 (dk_at dksX2_hasTrack_0 22 rfl rfl)
theorem dX2_hasTrack_23 : decode cX2_hasTrack 23 = .ok (.if_icmp .eq 7, 3) := dk_159 0 7 (dk_at dksX2_hasTrack_1 0 rfl rfl)
theorem dX2_hasTrack_26 : decode cX2_hasTrack 26 = .ok (.iconst 1, 1) := dk_4 (dk_at dksX2_hasTrack_1 3 rfl rfl)
theorem dX2_hasTrack_27 : decode cX2_hasTrack 27 = .ok (.goto 4, 3) := dk_167 0 4 (dk_at dksX2_hasTrack_1 4 rfl rfl)
theorem dX2_hasTrack_30 : decode cX2_hasTrack 30 = .ok (.iconst 0, 1) := dk_3 (dk_at dksX2_hasTrack_1 7 rfl rfl)
theorem dX2_hasTrack_31 : decode cX2_hasTrack 31 = .ok (.istore_n 1, 1) := dk_60 (dk_at dksX2_hasTrack_1 8 rfl rfl)
theorem dX2_hasTrack_32 : decode cX2_hasTrack 32 = .ok (.iinc 2 1, 3) := dk_132 2 1 (dk_at dksX2_hasTrack_1 9 rfl rfl)
theorem dX2_hasTrack_35 : decode cX2_hasTrack 35 = .ok (.goto (-31), 3) := dk_167 255 225 (dk_at dksX2_hasTrack_1 12 rfl rfl)
theorem dX2_hasTrack_38 : decode cX2_hasTrack 38 = .ok (.iload_n 1, 1) := dk_27 (dk_at dksX2_hasTrack_1 15 rfl rfl)
theorem dX2_hasTrack_39 : decode cX2_hasTrack 39 = .ok (.ireturn, 1) := dk_172 (dk_at dksX2_hasTrack_1 16 rfl rfl)
abbrev cX2_mixes : ByteArray := prog_14_method_41_code
def yX2_mixes : MethodName := ⟨RX2, "mixes", "()I"⟩
def dkwX2_mixes_12 : List UInt8 := [153, 0, 10, 42, 3, 181, 0, 159, 7, 172, 42, 182, 0, 247, 6, 172]
abbrev dktX2_mixes_12 : List UInt8 := dkwX2_mixes_12 ++ []
def dkwX2_mixes_11 : List UInt8 := [181, 0, 226, 42, 89, 180, 0, 244, 4, 100, 181, 0, 244, 42, 180, 0, 244, 153, 0, 10, 42, 180, 0, 241]
abbrev dktX2_mixes_11 : List UInt8 := dkwX2_mixes_11 ++ dktX2_mixes_12
def dkwX2_mixes_10 : List UInt8 := [42, 180, 0, 122, 27, 46, 182, 0, 222, 61, 42, 28, 181, 0, 210, 132, 1, 1, 167, 255, 205, 42, 3]
abbrev dktX2_mixes_10 : List UInt8 := dkwX2_mixes_10 ++ dktX2_mixes_11
def dkwX2_mixes_9 : List UInt8 := [42, 180, 0, 110, 27, 46, 42, 180, 0, 113, 27, 46, 42, 180, 0, 116, 27, 46, 42, 180, 0, 119, 27, 46]
abbrev dktX2_mixes_9 : List UInt8 := dkwX2_mixes_9 ++ dktX2_mixes_10
def dkwX2_mixes_8 : List UInt8 := [167, 255, 223, 42, 89, 180, 0, 238, 4, 96, 181, 0, 238, 3, 60, 27, 42, 180, 0, 226, 162, 0, 49, 42]
abbrev dktX2_mixes_8 : List UInt8 := dkwX2_mixes_8 ++ dktX2_mixes_9
def dkwX2_mixes_7 : List UInt8 := [42, 180, 0, 73, 27, 46, 162, 0, 15, 42, 27, 28, 182, 1, 38, 132, 2, 1, 167, 255, 237, 132, 1, 1]
abbrev dktX2_mixes_7 : List UInt8 := dkwX2_mixes_7 ++ dktX2_mixes_8
def dkwX2_mixes_6 : List UInt8 := [42, 180, 0, 131, 3, 48, 81, 132, 1, 1, 167, 255, 117, 3, 60, 27, 16, 8, 162, 0, 33, 3, 61, 28]
abbrev dktX2_mixes_6 : List UInt8 := dkwX2_mixes_6 ++ dktX2_mixes_7
def dkwX2_mixes_5 : List UInt8 := [62, 167, 255, 220, 28, 5, 104, 61, 167, 255, 205, 42, 180, 0, 92, 16, 8, 42, 180, 0, 238, 104, 27, 96]
abbrev dktX2_mixes_5 : List UInt8 := dkwX2_mixes_5 ++ dktX2_mixes_6
def dkwX2_mixes_4 : List UInt8 := [42, 180, 0, 131, 29, 48, 42, 180, 0, 131, 29, 28, 96, 48, 98, 184, 0, 165, 81, 29, 5, 28, 104, 96]
abbrev dktX2_mixes_4 : List UInt8 := dkwX2_mixes_4 ++ dktX2_mixes_5
def dkwX2_mixes_3 : List UInt8 := [167, 255, 207, 4, 61, 28, 16, 8, 162, 0, 51, 3, 62, 29, 16, 8, 162, 0, 36, 42, 180, 0, 131, 29]
abbrev dktX2_mixes_3 : List UInt8 := dkwX2_mixes_3 ++ dktX2_mixes_4
def dkwX2_mixes_2 : List UInt8 := [104, 27, 96, 48, 42, 180, 0, 58, 28, 48, 106, 184, 0, 165, 167, 0, 4, 11, 81, 132, 2, 1]
abbrev dktX2_mixes_2 : List UInt8 := dkwX2_mixes_2 ++ dktX2_mixes_3
def dkwX2_mixes_1 : List UInt8 := [162, 0, 49, 42, 180, 0, 131, 28, 42, 180, 0, 45, 28, 51, 153, 0, 27, 42, 180, 0, 82, 16, 8, 28]
abbrev dktX2_mixes_1 : List UInt8 := dkwX2_mixes_1 ++ dktX2_mixes_2
def dkwX2_mixes_0 : List UInt8 := [42, 89, 180, 0, 254, 4, 96, 181, 0, 254, 3, 60, 27, 16, 8, 162, 0, 139, 3, 61, 28, 16, 8]
abbrev dktX2_mixes_0 : List UInt8 := dkwX2_mixes_0 ++ dktX2_mixes_1
theorem dksX2_mixes_0 : cX2_mixes.data.toList.drop 0 = dktX2_mixes_0 := by decide +kernel
theorem dksX2_mixes_1 : cX2_mixes.data.toList.drop 23 = dktX2_mixes_1 := dk_seg dksX2_mixes_0 23 rfl rfl
theorem dksX2_mixes_2 : cX2_mixes.data.toList.drop 47 = dktX2_mixes_2 := dk_seg dksX2_mixes_1 24 rfl rfl
theorem dksX2_mixes_3 : cX2_mixes.data.toList.drop 69 = dktX2_mixes_3 := dk_seg dksX2_mixes_2 22 rfl rfl
theorem dksX2_mixes_4 : cX2_mixes.data.toList.drop 93 = dktX2_mixes_4 := dk_seg dksX2_mixes_3 24 rfl rfl
theorem dksX2_mixes_5 : cX2_mixes.data.toList.drop 117 = dktX2_mixes_5 := dk_seg dksX2_mixes_4 24 rfl rfl
theorem dksX2_mixes_6 : cX2_mixes.data.toList.drop 141 = dktX2_mixes_6 := dk_seg dksX2_mixes_5 24 rfl rfl
theorem dksX2_mixes_7 : cX2_mixes.data.toList.drop 165 = dktX2_mixes_7 := dk_seg dksX2_mixes_6 24 rfl rfl
theorem dksX2_mixes_8 : cX2_mixes.data.toList.drop 189 = dktX2_mixes_8 := dk_seg dksX2_mixes_7 24 rfl rfl
theorem dksX2_mixes_9 : cX2_mixes.data.toList.drop 213 = dktX2_mixes_9 := dk_seg dksX2_mixes_8 24 rfl rfl
theorem dksX2_mixes_10 : cX2_mixes.data.toList.drop 237 = dktX2_mixes_10 := dk_seg dksX2_mixes_9 24 rfl rfl
theorem dksX2_mixes_11 : cX2_mixes.data.toList.drop 260 = dktX2_mixes_11 := dk_seg dksX2_mixes_10 23 rfl rfl
theorem dksX2_mixes_12 : cX2_mixes.data.toList.drop 284 = dktX2_mixes_12 := dk_seg dksX2_mixes_11 24 rfl rfl
theorem dX2_mixes_0 : decode cX2_mixes 0 = .ok (.aload_n 0, 1) := dk_42 (dk_at dksX2_mixes_0 0 rfl rfl)
theorem dX2_mixes_1 : decode cX2_mixes 1 = .ok (.dup, 1) := dk_89 (dk_at dksX2_mixes_0 1 rfl rfl)
theorem dX2_mixes_2 : decode cX2_mixes 2 = .ok (.getfield 254, 3) := dk_180 0 254 (dk_at dksX2_mixes_0 2 rfl rfl)
theorem dX2_mixes_5 : decode cX2_mixes 5 = .ok (.iconst 1, 1) := dk_4 (dk_at dksX2_mixes_0 5 rfl rfl)
theorem dX2_mixes_6 : decode cX2_mixes 6 = .ok (.iadd, 1) := dk_96 (dk_at dksX2_mixes_0 6 rfl rfl)
theorem dX2_mixes_7 : decode cX2_mixes 7 = .ok (.putfield 254, 3) := dk_181 0 254 (dk_at dksX2_mixes_0 7 rfl rfl)
theorem dX2_mixes_10 : decode cX2_mixes 10 = .ok (.iconst 0, 1) := dk_3 (dk_at dksX2_mixes_0 10 rfl rfl)
theorem dX2_mixes_11 : decode cX2_mixes 11 = .ok (.istore_n 1, 1) := dk_60 (dk_at dksX2_mixes_0 11 rfl rfl)
theorem dX2_mixes_12 : decode cX2_mixes 12 = .ok (.iload_n 1, 1) := dk_27 (dk_at dksX2_mixes_0 12 rfl rfl)
theorem dX2_mixes_13 : decode cX2_mixes 13 = .ok (.bipush 8, 2) := dk_16 8 (dk_at dksX2_mixes_0 13 rfl rfl)
theorem dX2_mixes_15 : decode cX2_mixes 15 = .ok (.if_icmp .ge 139, 3) := dk_162 0 139 (dk_at dksX2_mixes_0 15 rfl rfl)
theorem dX2_mixes_18 : decode cX2_mixes 18 = .ok (.iconst 0, 1) := dk_3 (dk_at dksX2_mixes_0 18 rfl rfl)
theorem dX2_mixes_19 : decode cX2_mixes 19 = .ok (.istore_n 2, 1) := dk_61 (dk_at dksX2_mixes_0 19 rfl rfl)
theorem dX2_mixes_20 : decode cX2_mixes 20 = .ok (.iload_n 2, 1) := dk_28 (dk_at dksX2_mixes_0 20 rfl rfl)
theorem dX2_mixes_21 : decode cX2_mixes 21 = .ok (.bipush 8, 2) := dk_16 8 (dk_at dksX2_mixes_0 21 rfl rfl)
theorem dX2_mixes_23 : decode cX2_mixes 23 = .ok (.if_icmp .ge 49, 3) := dk_162 0 49 (dk_at dksX2_mixes_1 0 rfl rfl)
theorem dX2_mixes_26 : decode cX2_mixes 26 = .ok (.aload_n 0, 1) := dk_42 (dk_at dksX2_mixes_1 3 rfl rfl)
theorem dX2_mixes_27 : decode cX2_mixes 27 = .ok (.getfield 131, 3) := dk_180 0 131 (dk_at dksX2_mixes_1 4 rfl rfl)
theorem dX2_mixes_30 : decode cX2_mixes 30 = .ok (.iload_n 2, 1) := dk_28 (dk_at dksX2_mixes_1 7 rfl rfl)
theorem dX2_mixes_31 : decode cX2_mixes 31 = .ok (.aload_n 0, 1) := dk_42 (dk_at dksX2_mixes_1 8 rfl rfl)
theorem dX2_mixes_32 : decode cX2_mixes 32 = .ok (.getfield 45, 3) := dk_180 0 45 (dk_at dksX2_mixes_1 9 rfl rfl)
theorem dX2_mixes_35 : decode cX2_mixes 35 = .ok (.iload_n 2, 1) := dk_28 (dk_at dksX2_mixes_1 12 rfl rfl)
theorem dX2_mixes_36 : decode cX2_mixes 36 = .ok (.baload, 1) := dk_51 (dk_at dksX2_mixes_1 13 rfl rfl)
theorem dX2_mixes_37 : decode cX2_mixes 37 = .ok (.ifCond .eq 27, 3) := dk_153 0 27 (dk_at dksX2_mixes_1 14 rfl rfl)
theorem dX2_mixes_40 : decode cX2_mixes 40 = .ok (.aload_n 0, 1) := dk_42 (dk_at dksX2_mixes_1 17 rfl rfl)
theorem dX2_mixes_41 : decode cX2_mixes 41 = .ok (.getfield 82, 3) := dk_180 0 82 (dk_at dksX2_mixes_1 18 rfl rfl)
theorem dX2_mixes_44 : decode cX2_mixes 44 = .ok (.bipush 8, 2) := dk_16 8 (dk_at dksX2_mixes_1 21 rfl rfl)
theorem dX2_mixes_46 : decode cX2_mixes 46 = .ok (.iload_n 2, 1) := dk_28 (dk_at dksX2_mixes_1 23 rfl rfl)
theorem dX2_mixes_47 : decode cX2_mixes 47 = .ok (.imul, 1) := dk_104 (dk_at dksX2_mixes_2 0 rfl rfl)
theorem dX2_mixes_48 : decode cX2_mixes 48 = .ok (.iload_n 1, 1) := dk_27 (dk_at dksX2_mixes_2 1 rfl rfl)
theorem dX2_mixes_49 : decode cX2_mixes 49 = .ok (.iadd, 1) := dk_96 (dk_at dksX2_mixes_2 2 rfl rfl)
theorem dX2_mixes_50 : decode cX2_mixes 50 = .ok (.faload, 1) := dk_48 (dk_at dksX2_mixes_2 3 rfl rfl)
theorem dX2_mixes_51 : decode cX2_mixes 51 = .ok (.aload_n 0, 1) := dk_42 (dk_at dksX2_mixes_2 4 rfl rfl)
theorem dX2_mixes_52 : decode cX2_mixes 52 = .ok (.getfield 58, 3) := dk_180 0 58 (dk_at dksX2_mixes_2 5 rfl rfl)
theorem dX2_mixes_55 : decode cX2_mixes 55 = .ok (.iload_n 2, 1) := dk_28 (dk_at dksX2_mixes_2 8 rfl rfl)
theorem dX2_mixes_56 : decode cX2_mixes 56 = .ok (.faload, 1) := dk_48 (dk_at dksX2_mixes_2 9 rfl rfl)
theorem dX2_mixes_57 : decode cX2_mixes 57 = .ok (.fmul, 1) := dk_106 (dk_at dksX2_mixes_2 10 rfl rfl)
theorem dX2_mixes_58 : decode cX2_mixes 58 = .ok (.invokestatic 165, 3) := dk_184 0 165 (dk_at dksX2_mixes_2 11 rfl rfl)
theorem dX2_mixes_61 : decode cX2_mixes 61 = .ok (.goto 4, 3) := dk_167 0 4 (dk_at dksX2_mixes_2 14 rfl rfl)
theorem dX2_mixes_64 : decode cX2_mixes 64 = .ok (.fconst 0, 1) := dk_11 (dk_at dksX2_mixes_2 17 rfl rfl)
theorem dX2_mixes_65 : decode cX2_mixes 65 = .ok (.fastore, 1) := dk_81 (dk_at dksX2_mixes_2 18 rfl rfl)
theorem dX2_mixes_66 : decode cX2_mixes 66 = .ok (.iinc 2 1, 3) := dk_132 2 1 (dk_at dksX2_mixes_2 19 rfl rfl)
theorem dX2_mixes_69 : decode cX2_mixes 69 = .ok (.goto (-49), 3) := dk_167 255 207 (dk_at dksX2_mixes_3 0 rfl rfl)
theorem dX2_mixes_72 : decode cX2_mixes 72 = .ok (.iconst 1, 1) := dk_4 (dk_at dksX2_mixes_3 3 rfl rfl)
theorem dX2_mixes_73 : decode cX2_mixes 73 = .ok (.istore_n 2, 1) := dk_61 (dk_at dksX2_mixes_3 4 rfl rfl)
theorem dX2_mixes_74 : decode cX2_mixes 74 = .ok (.iload_n 2, 1) := dk_28 (dk_at dksX2_mixes_3 5 rfl rfl)
theorem dX2_mixes_75 : decode cX2_mixes 75 = .ok (.bipush 8, 2) := dk_16 8 (dk_at dksX2_mixes_3 6 rfl rfl)
theorem dX2_mixes_77 : decode cX2_mixes 77 = .ok (.if_icmp .ge 51, 3) := dk_162 0 51 (dk_at dksX2_mixes_3 8 rfl rfl)
theorem dX2_mixes_80 : decode cX2_mixes 80 = .ok (.iconst 0, 1) := dk_3 (dk_at dksX2_mixes_3 11 rfl rfl)
theorem dX2_mixes_81 : decode cX2_mixes 81 = .ok (.istore_n 3, 1) := dk_62 (dk_at dksX2_mixes_3 12 rfl rfl)
theorem dX2_mixes_82 : decode cX2_mixes 82 = .ok (.iload_n 3, 1) := dk_29 (dk_at dksX2_mixes_3 13 rfl rfl)
theorem dX2_mixes_83 : decode cX2_mixes 83 = .ok (.bipush 8, 2) := dk_16 8 (dk_at dksX2_mixes_3 14 rfl rfl)
theorem dX2_mixes_85 : decode cX2_mixes 85 = .ok (.if_icmp .ge 36, 3) := dk_162 0 36 (dk_at dksX2_mixes_3 16 rfl rfl)
theorem dX2_mixes_88 : decode cX2_mixes 88 = .ok (.aload_n 0, 1) := dk_42 (dk_at dksX2_mixes_3 19 rfl rfl)
theorem dX2_mixes_89 : decode cX2_mixes 89 = .ok (.getfield 131, 3) := dk_180 0 131 (dk_at dksX2_mixes_3 20 rfl rfl)
theorem dX2_mixes_92 : decode cX2_mixes 92 = .ok (.iload_n 3, 1) := dk_29 (dk_at dksX2_mixes_3 23 rfl rfl)
theorem dX2_mixes_93 : decode cX2_mixes 93 = .ok (.aload_n 0, 1) := dk_42 (dk_at dksX2_mixes_4 0 rfl rfl)
theorem dX2_mixes_94 : decode cX2_mixes 94 = .ok (.getfield 131, 3) := dk_180 0 131 (dk_at dksX2_mixes_4 1 rfl rfl)
theorem dX2_mixes_97 : decode cX2_mixes 97 = .ok (.iload_n 3, 1) := dk_29 (dk_at dksX2_mixes_4 4 rfl rfl)
theorem dX2_mixes_98 : decode cX2_mixes 98 = .ok (.faload, 1) := dk_48 (dk_at dksX2_mixes_4 5 rfl rfl)
theorem dX2_mixes_99 : decode cX2_mixes 99 = .ok (.aload_n 0, 1) := dk_42 (dk_at dksX2_mixes_4 6 rfl rfl)
theorem dX2_mixes_100 : decode cX2_mixes 100 = .ok (.getfield 131, 3) := dk_180 0 131 (dk_at dksX2_mixes_4 7 rfl rfl)
theorem dX2_mixes_103 : decode cX2_mixes 103 = .ok (.iload_n 3, 1) := dk_29 (dk_at dksX2_mixes_4 10 rfl rfl)
theorem dX2_mixes_104 : decode cX2_mixes 104 = .ok (.iload_n 2, 1) := dk_28 (dk_at dksX2_mixes_4 11 rfl rfl)
theorem dX2_mixes_105 : decode cX2_mixes 105 = .ok (.iadd, 1) := dk_96 (dk_at dksX2_mixes_4 12 rfl rfl)
theorem dX2_mixes_106 : decode cX2_mixes 106 = .ok (.faload, 1) := dk_48 (dk_at dksX2_mixes_4 13 rfl rfl)
theorem dX2_mixes_107 : decode cX2_mixes 107 = .ok (.fadd, 1) := dk_98 (dk_at dksX2_mixes_4 14 rfl rfl)
theorem dX2_mixes_108 : decode cX2_mixes 108 = .ok (.invokestatic 165, 3) := dk_184 0 165 (dk_at dksX2_mixes_4 15 rfl rfl)
theorem dX2_mixes_111 : decode cX2_mixes 111 = .ok (.fastore, 1) := dk_81 (dk_at dksX2_mixes_4 18 rfl rfl)
theorem dX2_mixes_112 : decode cX2_mixes 112 = .ok (.iload_n 3, 1) := dk_29 (dk_at dksX2_mixes_4 19 rfl rfl)
theorem dX2_mixes_113 : decode cX2_mixes 113 = .ok (.iconst 2, 1) := dk_5 (dk_at dksX2_mixes_4 20 rfl rfl)
theorem dX2_mixes_114 : decode cX2_mixes 114 = .ok (.iload_n 2, 1) := dk_28 (dk_at dksX2_mixes_4 21 rfl rfl)
theorem dX2_mixes_115 : decode cX2_mixes 115 = .ok (.imul, 1) := dk_104 (dk_at dksX2_mixes_4 22 rfl rfl)
theorem dX2_mixes_116 : decode cX2_mixes 116 = .ok (.iadd, 1) := dk_96 (dk_at dksX2_mixes_4 23 rfl rfl)
theorem dX2_mixes_117 : decode cX2_mixes 117 = .ok (.istore_n 3, 1) := dk_62 (dk_at dksX2_mixes_5 0 rfl rfl)
theorem dX2_mixes_118 : decode cX2_mixes 118 = .ok (.goto (-36), 3) := dk_167 255 220 (dk_at dksX2_mixes_5 1 rfl rfl)
theorem dX2_mixes_121 : decode cX2_mixes 121 = .ok (.iload_n 2, 1) := dk_28 (dk_at dksX2_mixes_5 4 rfl rfl)
theorem dX2_mixes_122 : decode cX2_mixes 122 = .ok (.iconst 2, 1) := dk_5 (dk_at dksX2_mixes_5 5 rfl rfl)
theorem dX2_mixes_123 : decode cX2_mixes 123 = .ok (.imul, 1) := dk_104 (dk_at dksX2_mixes_5 6 rfl rfl)
theorem dX2_mixes_124 : decode cX2_mixes 124 = .ok (.istore_n 2, 1) := dk_61 (dk_at dksX2_mixes_5 7 rfl rfl)
theorem dX2_mixes_125 : decode cX2_mixes 125 = .ok (.goto (-51), 3) := dk_167 255 205 (dk_at dksX2_mixes_5 8 rfl rfl)
theorem dX2_mixes_128 : decode cX2_mixes 128 = .ok (.aload_n 0, 1) := dk_42 (dk_at dksX2_mixes_5 11 rfl rfl)
theorem dX2_mixes_129 : decode cX2_mixes 129 = .ok (.getfield 92, 3) := dk_180 0 92 (dk_at dksX2_mixes_5 12 rfl rfl)
theorem dX2_mixes_132 : decode cX2_mixes 132 = .ok (.bipush 8, 2) := dk_16 8 (dk_at dksX2_mixes_5 15 rfl rfl)
theorem dX2_mixes_134 : decode cX2_mixes 134 = .ok (.aload_n 0, 1) := dk_42 (dk_at dksX2_mixes_5 17 rfl rfl)
theorem dX2_mixes_135 : decode cX2_mixes 135 = .ok (.getfield 238, 3) := dk_180 0 238 (dk_at dksX2_mixes_5 18 rfl rfl)
theorem dX2_mixes_138 : decode cX2_mixes 138 = .ok (.imul, 1) := dk_104 (dk_at dksX2_mixes_5 21 rfl rfl)
theorem dX2_mixes_139 : decode cX2_mixes 139 = .ok (.iload_n 1, 1) := dk_27 (dk_at dksX2_mixes_5 22 rfl rfl)
theorem dX2_mixes_140 : decode cX2_mixes 140 = .ok (.iadd, 1) := dk_96 (dk_at dksX2_mixes_5 23 rfl rfl)
theorem dX2_mixes_141 : decode cX2_mixes 141 = .ok (.aload_n 0, 1) := dk_42 (dk_at dksX2_mixes_6 0 rfl rfl)
theorem dX2_mixes_142 : decode cX2_mixes 142 = .ok (.getfield 131, 3) := dk_180 0 131 (dk_at dksX2_mixes_6 1 rfl rfl)
theorem dX2_mixes_145 : decode cX2_mixes 145 = .ok (.iconst 0, 1) := dk_3 (dk_at dksX2_mixes_6 4 rfl rfl)
theorem dX2_mixes_146 : decode cX2_mixes 146 = .ok (.faload, 1) := dk_48 (dk_at dksX2_mixes_6 5 rfl rfl)
theorem dX2_mixes_147 : decode cX2_mixes 147 = .ok (.fastore, 1) := dk_81 (dk_at dksX2_mixes_6 6 rfl rfl)
theorem dX2_mixes_148 : decode cX2_mixes 148 = .ok (.iinc 1 1, 3) := dk_132 1 1 (dk_at dksX2_mixes_6 7 rfl rfl)
theorem dX2_mixes_151 : decode cX2_mixes 151 = .ok (.goto (-139), 3) := dk_167 255 117 (dk_at dksX2_mixes_6 10 rfl rfl)
theorem dX2_mixes_154 : decode cX2_mixes 154 = .ok (.iconst 0, 1) := dk_3 (dk_at dksX2_mixes_6 13 rfl rfl)
theorem dX2_mixes_155 : decode cX2_mixes 155 = .ok (.istore_n 1, 1) := dk_60 (dk_at dksX2_mixes_6 14 rfl rfl)
theorem dX2_mixes_156 : decode cX2_mixes 156 = .ok (.iload_n 1, 1) := dk_27 (dk_at dksX2_mixes_6 15 rfl rfl)
theorem dX2_mixes_157 : decode cX2_mixes 157 = .ok (.bipush 8, 2) := dk_16 8 (dk_at dksX2_mixes_6 16 rfl rfl)
theorem dX2_mixes_159 : decode cX2_mixes 159 = .ok (.if_icmp .ge 33, 3) := dk_162 0 33 (dk_at dksX2_mixes_6 18 rfl rfl)
theorem dX2_mixes_162 : decode cX2_mixes 162 = .ok (.iconst 0, 1) := dk_3 (dk_at dksX2_mixes_6 21 rfl rfl)
theorem dX2_mixes_163 : decode cX2_mixes 163 = .ok (.istore_n 2, 1) := dk_61 (dk_at dksX2_mixes_6 22 rfl rfl)
theorem dX2_mixes_164 : decode cX2_mixes 164 = .ok (.iload_n 2, 1) := dk_28 (dk_at dksX2_mixes_6 23 rfl rfl)
theorem dX2_mixes_165 : decode cX2_mixes 165 = .ok (.aload_n 0, 1) := dk_42 (dk_at dksX2_mixes_7 0 rfl rfl)
theorem dX2_mixes_166 : decode cX2_mixes 166 = .ok (.getfield 73, 3) := dk_180 0 73 (dk_at dksX2_mixes_7 1 rfl rfl)
theorem dX2_mixes_169 : decode cX2_mixes 169 = .ok (.iload_n 1, 1) := dk_27 (dk_at dksX2_mixes_7 4 rfl rfl)
theorem dX2_mixes_170 : decode cX2_mixes 170 = .ok (.iaload, 1) := dk_46 (dk_at dksX2_mixes_7 5 rfl rfl)
theorem dX2_mixes_171 : decode cX2_mixes 171 = .ok (.if_icmp .ge 15, 3) := dk_162 0 15 (dk_at dksX2_mixes_7 6 rfl rfl)
theorem dX2_mixes_174 : decode cX2_mixes 174 = .ok (.aload_n 0, 1) := dk_42 (dk_at dksX2_mixes_7 9 rfl rfl)
theorem dX2_mixes_175 : decode cX2_mixes 175 = .ok (.iload_n 1, 1) := dk_27 (dk_at dksX2_mixes_7 10 rfl rfl)
theorem dX2_mixes_176 : decode cX2_mixes 176 = .ok (.iload_n 2, 1) := dk_28 (dk_at dksX2_mixes_7 11 rfl rfl)
theorem dX2_mixes_177 : decode cX2_mixes 177 = .ok (.invokevirtual 294, 3) := dk_182 1 38 (dk_at dksX2_mixes_7 12 rfl rfl)
theorem dX2_mixes_180 : decode cX2_mixes 180 = .ok (.iinc 2 1, 3) := dk_132 2 1 (dk_at dksX2_mixes_7 15 rfl rfl)
theorem dX2_mixes_183 : decode cX2_mixes 183 = .ok (.goto (-19), 3) := dk_167 255 237 (dk_at dksX2_mixes_7 18 rfl rfl)
theorem dX2_mixes_186 : decode cX2_mixes 186 = .ok (.iinc 1 1, 3) := dk_132 1 1 (dk_at dksX2_mixes_7 21 rfl rfl)
theorem dX2_mixes_189 : decode cX2_mixes 189 = .ok (.goto (-33), 3) := dk_167 255 223 (dk_at dksX2_mixes_8 0 rfl rfl)
theorem dX2_mixes_192 : decode cX2_mixes 192 = .ok (.aload_n 0, 1) := dk_42 (dk_at dksX2_mixes_8 3 rfl rfl)
theorem dX2_mixes_193 : decode cX2_mixes 193 = .ok (.dup, 1) := dk_89 (dk_at dksX2_mixes_8 4 rfl rfl)
theorem dX2_mixes_194 : decode cX2_mixes 194 = .ok (.getfield 238, 3) := dk_180 0 238 (dk_at dksX2_mixes_8 5 rfl rfl)
theorem dX2_mixes_197 : decode cX2_mixes 197 = .ok (.iconst 1, 1) := dk_4 (dk_at dksX2_mixes_8 8 rfl rfl)
theorem dX2_mixes_198 : decode cX2_mixes 198 = .ok (.iadd, 1) := dk_96 (dk_at dksX2_mixes_8 9 rfl rfl)
theorem dX2_mixes_199 : decode cX2_mixes 199 = .ok (.putfield 238, 3) := dk_181 0 238 (dk_at dksX2_mixes_8 10 rfl rfl)
theorem dX2_mixes_202 : decode cX2_mixes 202 = .ok (.iconst 0, 1) := dk_3 (dk_at dksX2_mixes_8 13 rfl rfl)
theorem dX2_mixes_203 : decode cX2_mixes 203 = .ok (.istore_n 1, 1) := dk_60 (dk_at dksX2_mixes_8 14 rfl rfl)
theorem dX2_mixes_204 : decode cX2_mixes 204 = .ok (.iload_n 1, 1) := dk_27 (dk_at dksX2_mixes_8 15 rfl rfl)
theorem dX2_mixes_205 : decode cX2_mixes 205 = .ok (.aload_n 0, 1) := dk_42 (dk_at dksX2_mixes_8 16 rfl rfl)
theorem dX2_mixes_206 : decode cX2_mixes 206 = .ok (.getfield 226, 3) := dk_180 0 226 (dk_at dksX2_mixes_8 17 rfl rfl)
theorem dX2_mixes_209 : decode cX2_mixes 209 = .ok (.if_icmp .ge 49, 3) := dk_162 0 49 (dk_at dksX2_mixes_8 20 rfl rfl)
theorem dX2_mixes_212 : decode cX2_mixes 212 = .ok (.aload_n 0, 1) := dk_42 (dk_at dksX2_mixes_8 23 rfl rfl)
theorem dX2_mixes_213 : decode cX2_mixes 213 = .ok (.aload_n 0, 1) := dk_42 (dk_at dksX2_mixes_9 0 rfl rfl)
theorem dX2_mixes_214 : decode cX2_mixes 214 = .ok (.getfield 110, 3) := dk_180 0 110 (dk_at dksX2_mixes_9 1 rfl rfl)
theorem dX2_mixes_217 : decode cX2_mixes 217 = .ok (.iload_n 1, 1) := dk_27 (dk_at dksX2_mixes_9 4 rfl rfl)
theorem dX2_mixes_218 : decode cX2_mixes 218 = .ok (.iaload, 1) := dk_46 (dk_at dksX2_mixes_9 5 rfl rfl)
theorem dX2_mixes_219 : decode cX2_mixes 219 = .ok (.aload_n 0, 1) := dk_42 (dk_at dksX2_mixes_9 6 rfl rfl)
theorem dX2_mixes_220 : decode cX2_mixes 220 = .ok (.getfield 113, 3) := dk_180 0 113 (dk_at dksX2_mixes_9 7 rfl rfl)
theorem dX2_mixes_223 : decode cX2_mixes 223 = .ok (.iload_n 1, 1) := dk_27 (dk_at dksX2_mixes_9 10 rfl rfl)
theorem dX2_mixes_224 : decode cX2_mixes 224 = .ok (.iaload, 1) := dk_46 (dk_at dksX2_mixes_9 11 rfl rfl)
theorem dX2_mixes_225 : decode cX2_mixes 225 = .ok (.aload_n 0, 1) := dk_42 (dk_at dksX2_mixes_9 12 rfl rfl)
theorem dX2_mixes_226 : decode cX2_mixes 226 = .ok (.getfield 116, 3) := dk_180 0 116 (dk_at dksX2_mixes_9 13 rfl rfl)
theorem dX2_mixes_229 : decode cX2_mixes 229 = .ok (.iload_n 1, 1) := dk_27 (dk_at dksX2_mixes_9 16 rfl rfl)
theorem dX2_mixes_230 : decode cX2_mixes 230 = .ok (.iaload, 1) := dk_46 (dk_at dksX2_mixes_9 17 rfl rfl)
theorem dX2_mixes_231 : decode cX2_mixes 231 = .ok (.aload_n 0, 1) := dk_42 (dk_at dksX2_mixes_9 18 rfl rfl)
theorem dX2_mixes_232 : decode cX2_mixes 232 = .ok (.getfield 119, 3) := dk_180 0 119 (dk_at dksX2_mixes_9 19 rfl rfl)
theorem dX2_mixes_235 : decode cX2_mixes 235 = .ok (.iload_n 1, 1) := dk_27 (dk_at dksX2_mixes_9 22 rfl rfl)
theorem dX2_mixes_236 : decode cX2_mixes 236 = .ok (.iaload, 1) := dk_46 (dk_at dksX2_mixes_9 23 rfl rfl)
theorem dX2_mixes_237 : decode cX2_mixes 237 = .ok (.aload_n 0, 1) := dk_42 (dk_at dksX2_mixes_10 0 rfl rfl)
theorem dX2_mixes_238 : decode cX2_mixes 238 = .ok (.getfield 122, 3) := dk_180 0 122 (dk_at dksX2_mixes_10 1 rfl rfl)
theorem dX2_mixes_241 : decode cX2_mixes 241 = .ok (.iload_n 1, 1) := dk_27 (dk_at dksX2_mixes_10 4 rfl rfl)
theorem dX2_mixes_242 : decode cX2_mixes 242 = .ok (.iaload, 1) := dk_46 (dk_at dksX2_mixes_10 5 rfl rfl)
theorem dX2_mixes_243 : decode cX2_mixes 243 = .ok (.invokevirtual 222, 3) := dk_182 0 222 (dk_at dksX2_mixes_10 6 rfl rfl)
theorem dX2_mixes_246 : decode cX2_mixes 246 = .ok (.istore_n 2, 1) := dk_61 (dk_at dksX2_mixes_10 9 rfl rfl)
theorem dX2_mixes_247 : decode cX2_mixes 247 = .ok (.aload_n 0, 1) := dk_42 (dk_at dksX2_mixes_10 10 rfl rfl)
theorem dX2_mixes_248 : decode cX2_mixes 248 = .ok (.iload_n 2, 1) := dk_28 (dk_at dksX2_mixes_10 11 rfl rfl)
theorem dX2_mixes_249 : decode cX2_mixes 249 = .ok (.putfield 210, 3) := dk_181 0 210 (dk_at dksX2_mixes_10 12 rfl rfl)
theorem dX2_mixes_252 : decode cX2_mixes 252 = .ok (.iinc 1 1, 3) := dk_132 1 1 (dk_at dksX2_mixes_10 15 rfl rfl)
theorem dX2_mixes_255 : decode cX2_mixes 255 = .ok (.goto (-51), 3) := dk_167 255 205 (dk_at dksX2_mixes_10 18 rfl rfl)
theorem dX2_mixes_258 : decode cX2_mixes 258 = .ok (.aload_n 0, 1) := dk_42 (dk_at dksX2_mixes_10 21 rfl rfl)
theorem dX2_mixes_259 : decode cX2_mixes 259 = .ok (.iconst 0, 1) := dk_3 (dk_at dksX2_mixes_10 22 rfl rfl)
theorem dX2_mixes_260 : decode cX2_mixes 260 = .ok (.putfield 226, 3) := dk_181 0 226 (dk_at dksX2_mixes_11 0 rfl rfl)
theorem dX2_mixes_263 : decode cX2_mixes 263 = .ok (.aload_n 0, 1) := dk_42 (dk_at dksX2_mixes_11 3 rfl rfl)
theorem dX2_mixes_264 : decode cX2_mixes 264 = .ok (.dup, 1) := dk_89 (dk_at dksX2_mixes_11 4 rfl rfl)
theorem dX2_mixes_265 : decode cX2_mixes 265 = .ok (.getfield 244, 3) := dk_180 0 244 (dk_at dksX2_mixes_11 5 rfl rfl)
theorem dX2_mixes_268 : decode cX2_mixes 268 = .ok (.iconst 1, 1) := dk_4 (dk_at dksX2_mixes_11 8 rfl rfl)
theorem dX2_mixes_269 : decode cX2_mixes 269 = .ok (.isub, 1) := dk_100 (dk_at dksX2_mixes_11 9 rfl rfl)
theorem dX2_mixes_270 : decode cX2_mixes 270 = .ok (.putfield 244, 3) := dk_181 0 244 (dk_at dksX2_mixes_11 10 rfl rfl)
theorem dX2_mixes_273 : decode cX2_mixes 273 = .ok (.aload_n 0, 1) := dk_42 (dk_at dksX2_mixes_11 13 rfl rfl)
theorem dX2_mixes_274 : decode cX2_mixes 274 = .ok (.getfield 244, 3) := dk_180 0 244 (dk_at dksX2_mixes_11 14 rfl rfl)
theorem dX2_mixes_277 : decode cX2_mixes 277 = .ok (.ifCond .eq 10, 3) := dk_153 0 10 (dk_at dksX2_mixes_11 17 rfl rfl)
theorem dX2_mixes_280 : decode cX2_mixes 280 = .ok (.aload_n 0, 1) := dk_42 (dk_at dksX2_mixes_11 20 rfl rfl)
theorem dX2_mixes_281 : decode cX2_mixes 281 = .ok (.getfield 241, 3) := dk_180 0 241 (dk_at dksX2_mixes_11 21 rfl rfl)
theorem dX2_mixes_284 : decode cX2_mixes 284 = .ok (.ifCond .eq 10, 3) := dk_153 0 10 (dk_at dksX2_mixes_12 0 rfl rfl)
theorem dX2_mixes_287 : decode cX2_mixes 287 = .ok (.aload_n 0, 1) := dk_42 (dk_at dksX2_mixes_12 3 rfl rfl)
theorem dX2_mixes_288 : decode cX2_mixes 288 = .ok (.iconst 0, 1) := dk_3 (dk_at dksX2_mixes_12 4 rfl rfl)
theorem dX2_mixes_289 : decode cX2_mixes 289 = .ok (.putfield 159, 3) := dk_181 0 159 (dk_at dksX2_mixes_12 5 rfl rfl)
theorem dX2_mixes_292 : decode cX2_mixes 292 = .ok (.iconst 4, 1) := dk_7 (dk_at dksX2_mixes_12 8 rfl rfl)
theorem dX2_mixes_293 : decode cX2_mixes 293 = .ok (.ireturn, 1) := dk_172 (dk_at dksX2_mixes_12 9 rfl rfl)
theorem dX2_mixes_294 : decode cX2_mixes 294 = .ok (.aload_n 0, 1) := dk_42 (dk_at dksX2_mixes_12 10 rfl rfl)
theorem dX2_mixes_295 : decode cX2_mixes 295 = .ok (.invokevirtual 247, 3) := dk_182 0 247 (dk_at dksX2_mixes_12 11 rfl rfl)
theorem dX2_mixes_298 : decode cX2_mixes 298 = .ok (.iconst 3, 1) := dk_6 (dk_at dksX2_mixes_12 14 rfl rfl)
theorem dX2_mixes_299 : decode cX2_mixes 299 = .ok (.ireturn, 1) := dk_172 (dk_at dksX2_mixes_12 15 rfl rfl)
abbrev cX2_note : ByteArray := prog_14_method_42_code
def yX2_note : MethodName := ⟨RX2, "note", "(II)V"⟩
def dkwX2_note_3 : List UInt8 := [180, 0, 107, 42, 180, 1, 42, 28, 4, 96, 79, 42, 89, 180, 1, 42, 4, 96, 181, 1, 42, 177]
abbrev dktX2_note_3 : List UInt8 := dkwX2_note_3 ++ []
def dkwX2_note_2 : List UInt8 := [96, 46, 79, 42, 180, 0, 104, 42, 180, 1, 42, 42, 180, 0, 79, 5, 27, 104, 28, 96, 46, 79, 42]
abbrev dktX2_note_2 : List UInt8 := dkwX2_note_2 ++ dktX2_note_3
def dkwX2_note_1 : List UInt8 := [180, 1, 42, 42, 180, 0, 238, 79, 42, 180, 0, 101, 42, 180, 1, 42, 42, 180, 0, 76, 5, 27, 104, 28]
abbrev dktX2_note_1 : List UInt8 := dkwX2_note_1 ++ dktX2_note_2
def dkwX2_note_0 : List UInt8 := [42, 180, 1, 42, 16, 100, 162, 0, 76, 42, 180, 0, 95, 42, 180, 1, 42, 27, 79, 42, 180, 0, 98, 42]
abbrev dktX2_note_0 : List UInt8 := dkwX2_note_0 ++ dktX2_note_1
theorem dksX2_note_0 : cX2_note.data.toList.drop 0 = dktX2_note_0 := by decide +kernel
theorem dksX2_note_1 : cX2_note.data.toList.drop 24 = dktX2_note_1 := dk_seg dksX2_note_0 24 rfl rfl
theorem dksX2_note_2 : cX2_note.data.toList.drop 48 = dktX2_note_2 := dk_seg dksX2_note_1 24 rfl rfl
theorem dksX2_note_3 : cX2_note.data.toList.drop 71 = dktX2_note_3 := dk_seg dksX2_note_2 23 rfl rfl
theorem dX2_note_0 : decode cX2_note 0 = .ok (.aload_n 0, 1) := dk_42 (dk_at dksX2_note_0 0 rfl rfl)
theorem dX2_note_1 : decode cX2_note 1 = .ok (.getfield 298, 3) := dk_180 1 42 (dk_at dksX2_note_0 1 rfl rfl)
theorem dX2_note_4 : decode cX2_note 4 = .ok (.bipush 100, 2) := dk_16 100 (dk_at dksX2_note_0 4 rfl rfl)
theorem dX2_note_6 : decode cX2_note 6 = .ok (.if_icmp .ge 76, 3) := dk_162 0 76 (dk_at dksX2_note_0 6 rfl rfl)
theorem dX2_note_9 : decode cX2_note 9 = .ok (.aload_n 0, 1) := dk_42 (dk_at dksX2_note_0 9 rfl rfl)
theorem dX2_note_10 : decode cX2_note 10 = .ok (.getfield 95, 3) := dk_180 0 95 (dk_at dksX2_note_0 10 rfl rfl)
theorem dX2_note_13 : decode cX2_note 13 = .ok (.aload_n 0, 1) := dk_42 (dk_at dksX2_note_0 13 rfl rfl)
theorem dX2_note_14 : decode cX2_note 14 = .ok (.getfield 298, 3) := dk_180 1 42 (dk_at dksX2_note_0 14 rfl rfl)
theorem dX2_note_17 : decode cX2_note 17 = .ok (.iload_n 1, 1) := dk_27 (dk_at dksX2_note_0 17 rfl rfl)
theorem dX2_note_18 : decode cX2_note 18 = .ok (.iastore, 1) := dk_79 (dk_at dksX2_note_0 18 rfl rfl)
theorem dX2_note_19 : decode cX2_note 19 = .ok (.aload_n 0, 1) := dk_42 (dk_at dksX2_note_0 19 rfl rfl)
theorem dX2_note_20 : decode cX2_note 20 = .ok (.getfield 98, 3) := dk_180 0 98 (dk_at dksX2_note_0 20 rfl rfl)
theorem dX2_note_23 : decode cX2_note 23 = .ok (.aload_n 0, 1) := dk_42 (dk_at dksX2_note_0 23 rfl rfl)
theorem dX2_note_24 : decode cX2_note 24 = .ok (.getfield 298, 3) := dk_180 1 42 (dk_at dksX2_note_1 0 rfl rfl)
theorem dX2_note_27 : decode cX2_note 27 = .ok (.aload_n 0, 1) := dk_42 (dk_at dksX2_note_1 3 rfl rfl)
theorem dX2_note_28 : decode cX2_note 28 = .ok (.getfield 238, 3) := dk_180 0 238 (dk_at dksX2_note_1 4 rfl rfl)
theorem dX2_note_31 : decode cX2_note 31 = .ok (.iastore, 1) := dk_79 (dk_at dksX2_note_1 7 rfl rfl)
theorem dX2_note_32 : decode cX2_note 32 = .ok (.aload_n 0, 1) := dk_42 (dk_at dksX2_note_1 8 rfl rfl)
theorem dX2_note_33 : decode cX2_note 33 = .ok (.getfield 101, 3) := dk_180 0 101 (dk_at dksX2_note_1 9 rfl rfl)
theorem dX2_note_36 : decode cX2_note 36 = .ok (.aload_n 0, 1) := dk_42 (dk_at dksX2_note_1 12 rfl rfl)
theorem dX2_note_37 : decode cX2_note 37 = .ok (.getfield 298, 3) := dk_180 1 42 (dk_at dksX2_note_1 13 rfl rfl)
theorem dX2_note_40 : decode cX2_note 40 = .ok (.aload_n 0, 1) := dk_42 (dk_at dksX2_note_1 16 rfl rfl)
theorem dX2_note_41 : decode cX2_note 41 = .ok (.getfield 76, 3) := dk_180 0 76 (dk_at dksX2_note_1 17 rfl rfl)
theorem dX2_note_44 : decode cX2_note 44 = .ok (.iconst 2, 1) := dk_5 (dk_at dksX2_note_1 20 rfl rfl)
theorem dX2_note_45 : decode cX2_note 45 = .ok (.iload_n 1, 1) := dk_27 (dk_at dksX2_note_1 21 rfl rfl)
theorem dX2_note_46 : decode cX2_note 46 = .ok (.imul, 1) := dk_104 (dk_at dksX2_note_1 22 rfl rfl)
theorem dX2_note_47 : decode cX2_note 47 = .ok (.iload_n 2, 1) := dk_28 (dk_at dksX2_note_1 23 rfl rfl)
theorem dX2_note_48 : decode cX2_note 48 = .ok (.iadd, 1) := dk_96 (dk_at dksX2_note_2 0 rfl rfl)
theorem dX2_note_49 : decode cX2_note 49 = .ok (.iaload, 1) := dk_46 (dk_at dksX2_note_2 1 rfl rfl)
theorem dX2_note_50 : decode cX2_note 50 = .ok (.iastore, 1) := dk_79 (dk_at dksX2_note_2 2 rfl rfl)
theorem dX2_note_51 : decode cX2_note 51 = .ok (.aload_n 0, 1) := dk_42 (dk_at dksX2_note_2 3 rfl rfl)
theorem dX2_note_52 : decode cX2_note 52 = .ok (.getfield 104, 3) := dk_180 0 104 (dk_at dksX2_note_2 4 rfl rfl)
theorem dX2_note_55 : decode cX2_note 55 = .ok (.aload_n 0, 1) := dk_42 (dk_at dksX2_note_2 7 rfl rfl)
theorem dX2_note_56 : decode cX2_note 56 = .ok (.getfield 298, 3) := dk_180 1 42 (dk_at dksX2_note_2 8 rfl rfl)
theorem dX2_note_59 : decode cX2_note 59 = .ok (.aload_n 0, 1) := dk_42 (dk_at dksX2_note_2 11 rfl rfl)
theorem dX2_note_60 : decode cX2_note 60 = .ok (.getfield 79, 3) := dk_180 0 79 (dk_at dksX2_note_2 12 rfl rfl)
theorem dX2_note_63 : decode cX2_note 63 = .ok (.iconst 2, 1) := dk_5 (dk_at dksX2_note_2 15 rfl rfl)
theorem dX2_note_64 : decode cX2_note 64 = .ok (.iload_n 1, 1) := dk_27 (dk_at dksX2_note_2 16 rfl rfl)
theorem dX2_note_65 : decode cX2_note 65 = .ok (.imul, 1) := dk_104 (dk_at dksX2_note_2 17 rfl rfl)
theorem dX2_note_66 : decode cX2_note 66 = .ok (.iload_n 2, 1) := dk_28 (dk_at dksX2_note_2 18 rfl rfl)
theorem dX2_note_67 : decode cX2_note 67 = .ok (.iadd, 1) := dk_96 (dk_at dksX2_note_2 19 rfl rfl)
theorem dX2_note_68 : decode cX2_note 68 = .ok (.iaload, 1) := dk_46 (dk_at dksX2_note_2 20 rfl rfl)
theorem dX2_note_69 : decode cX2_note 69 = .ok (.iastore, 1) := dk_79 (dk_at dksX2_note_2 21 rfl rfl)
theorem dX2_note_70 : decode cX2_note 70 = .ok (.aload_n 0, 1) := dk_42 (dk_at dksX2_note_2 22 rfl rfl)
theorem dX2_note_71 : decode cX2_note 71 = .ok (.getfield 107, 3) := dk_180 0 107 (dk_at dksX2_note_3 0 rfl rfl)
theorem dX2_note_74 : decode cX2_note 74 = .ok (.aload_n 0, 1) := dk_42 (dk_at dksX2_note_3 3 rfl rfl)
theorem dX2_note_75 : decode cX2_note 75 = .ok (.getfield 298, 3) := dk_180 1 42 (dk_at dksX2_note_3 4 rfl rfl)
theorem dX2_note_78 : decode cX2_note 78 = .ok (.iload_n 2, 1) := dk_28 (dk_at dksX2_note_3 7 rfl rfl)
theorem dX2_note_79 : decode cX2_note 79 = .ok (.iconst 1, 1) := dk_4 (dk_at dksX2_note_3 8 rfl rfl)
theorem dX2_note_80 : decode cX2_note 80 = .ok (.iadd, 1) := dk_96 (dk_at dksX2_note_3 9 rfl rfl)
theorem dX2_note_81 : decode cX2_note 81 = .ok (.iastore, 1) := dk_79 (dk_at dksX2_note_3 10 rfl rfl)
theorem dX2_note_82 : decode cX2_note 82 = .ok (.aload_n 0, 1) := dk_42 (dk_at dksX2_note_3 11 rfl rfl)
theorem dX2_note_83 : decode cX2_note 83 = .ok (.dup, 1) := dk_89 (dk_at dksX2_note_3 12 rfl rfl)
theorem dX2_note_84 : decode cX2_note 84 = .ok (.getfield 298, 3) := dk_180 1 42 (dk_at dksX2_note_3 13 rfl rfl)
theorem dX2_note_87 : decode cX2_note 87 = .ok (.iconst 1, 1) := dk_4 (dk_at dksX2_note_3 16 rfl rfl)
theorem dX2_note_88 : decode cX2_note 88 = .ok (.iadd, 1) := dk_96 (dk_at dksX2_note_3 17 rfl rfl)
theorem dX2_note_89 : decode cX2_note 89 = .ok (.putfield 298, 3) := dk_181 1 42 (dk_at dksX2_note_3 18 rfl rfl)
theorem dX2_note_92 : decode cX2_note 92 = .ok (.return_, 1) := dk_177 (dk_at dksX2_note_3 21 rfl rfl)
abbrev cX2_rounds : ByteArray := prog_14_method_45_code
def yX2_rounds : MethodName := ⟨RX2, "rounds", "(II)I"⟩
def dkwX2_rounds_3 : List UInt8 := [180, 0, 85, 160, 0, 7, 3, 167, 0, 7, 21, 4, 4, 96, 54, 4, 167, 255, 210, 29, 172]
abbrev dktX2_rounds_3 : List UInt8 := dkwX2_rounds_3 ++ []
def dkwX2_rounds_2 : List UInt8 := [180, 0, 159, 153, 0, 40, 42, 42, 21, 4, 182, 1, 48, 181, 0, 210, 132, 3, 1, 21, 4, 4, 96, 42]
abbrev dktX2_rounds_2 : List UInt8 := dkwX2_rounds_2 ++ dktX2_rounds_3
def dkwX2_rounds_1 : List UInt8 := [172, 42, 180, 0, 159, 154, 0, 6, 16, 153, 172, 3, 62, 27, 54, 4, 29, 28, 162, 0, 47, 42]
abbrev dktX2_rounds_1 : List UInt8 := dkwX2_rounds_1 ++ dktX2_rounds_2
def dkwX2_rounds_0 : List UInt8 := [42, 27, 182, 1, 45, 154, 0, 6, 16, 155, 172, 28, 3, 17, 0, 200, 184, 0, 136, 154, 0, 6, 16, 154]
abbrev dktX2_rounds_0 : List UInt8 := dkwX2_rounds_0 ++ dktX2_rounds_1
theorem dksX2_rounds_0 : cX2_rounds.data.toList.drop 0 = dktX2_rounds_0 := by decide +kernel
theorem dksX2_rounds_1 : cX2_rounds.data.toList.drop 24 = dktX2_rounds_1 := dk_seg dksX2_rounds_0 24 rfl rfl
theorem dksX2_rounds_2 : cX2_rounds.data.toList.drop 46 = dktX2_rounds_2 := dk_seg dksX2_rounds_1 22 rfl rfl
theorem dksX2_rounds_3 : cX2_rounds.data.toList.drop 70 = dktX2_rounds_3 := dk_seg dksX2_rounds_2 24 rfl rfl
theorem dX2_rounds_0 : decode cX2_rounds 0 = .ok (.aload_n 0, 1) := dk_42 (dk_at dksX2_rounds_0 0 rfl rfl)
theorem dX2_rounds_1 : decode cX2_rounds 1 = .ok (.iload_n 1, 1) := dk_27 (dk_at dksX2_rounds_0 1 rfl rfl)
theorem dX2_rounds_2 : decode cX2_rounds 2 = .ok (.invokevirtual 301, 3) := dk_182 1 45 (dk_at dksX2_rounds_0 2 rfl rfl)
theorem dX2_rounds_5 : decode cX2_rounds 5 = .ok (.ifCond .ne 6, 3) := dk_154 0 6 (dk_at dksX2_rounds_0 5 rfl rfl)
theorem dX2_rounds_8 : decode cX2_rounds 8 = .ok (.bipush (-101), 2) := dk_16 155 (dk_at dksX2_rounds_0 8 rfl rfl)
theorem dX2_rounds_10 : decode cX2_rounds 10 = .ok (.ireturn, 1) := dk_172 (dk_at dksX2_rounds_0 10 rfl rfl)
theorem dX2_rounds_11 : decode cX2_rounds 11 = .ok (.iload_n 2, 1) := dk_28 (dk_at dksX2_rounds_0 11 rfl rfl)
theorem dX2_rounds_12 : decode cX2_rounds 12 = .ok (.iconst 0, 1) := dk_3 (dk_at dksX2_rounds_0 12 rfl rfl)
theorem dX2_rounds_13 : decode cX2_rounds 13 = .ok (.sipush 200, 3) := dk_17 0 200 (dk_at dksX2_rounds_0 13 rfl rfl)
theorem dX2_rounds_16 : decode cX2_rounds 16 = .ok (.invokestatic 136, 3) := dk_184 0 136 (dk_at dksX2_rounds_0 16 rfl rfl)
theorem dX2_rounds_19 : decode cX2_rounds 19 = .ok (.ifCond .ne 6, 3) := dk_154 0 6 (dk_at dksX2_rounds_0 19 rfl rfl)
theorem dX2_rounds_22 : decode cX2_rounds 22 = .ok (.bipush (-102), 2) := dk_16 154 (dk_at dksX2_rounds_0 22 rfl rfl)
theorem dX2_rounds_24 : decode cX2_rounds 24 = .ok (.ireturn, 1) := dk_172 (dk_at dksX2_rounds_1 0 rfl rfl)
theorem dX2_rounds_25 : decode cX2_rounds 25 = .ok (.aload_n 0, 1) := dk_42 (dk_at dksX2_rounds_1 1 rfl rfl)
theorem dX2_rounds_26 : decode cX2_rounds 26 = .ok (.getfield 159, 3) := dk_180 0 159 (dk_at dksX2_rounds_1 2 rfl rfl)
theorem dX2_rounds_29 : decode cX2_rounds 29 = .ok (.ifCond .ne 6, 3) := dk_154 0 6 (dk_at dksX2_rounds_1 5 rfl rfl)
theorem dX2_rounds_32 : decode cX2_rounds 32 = .ok (.bipush (-103), 2) := dk_16 153 (dk_at dksX2_rounds_1 8 rfl rfl)
theorem dX2_rounds_34 : decode cX2_rounds 34 = .ok (.ireturn, 1) := dk_172 (dk_at dksX2_rounds_1 10 rfl rfl)
theorem dX2_rounds_35 : decode cX2_rounds 35 = .ok (.iconst 0, 1) := dk_3 (dk_at dksX2_rounds_1 11 rfl rfl)
theorem dX2_rounds_36 : decode cX2_rounds 36 = .ok (.istore_n 3, 1) := dk_62 (dk_at dksX2_rounds_1 12 rfl rfl)
theorem dX2_rounds_37 : decode cX2_rounds 37 = .ok (.iload_n 1, 1) := dk_27 (dk_at dksX2_rounds_1 13 rfl rfl)
theorem dX2_rounds_38 : decode cX2_rounds 38 = .ok (.istore 4, 2) := dk_54 4 (dk_at dksX2_rounds_1 14 rfl rfl)
theorem dX2_rounds_40 : decode cX2_rounds 40 = .ok (.iload_n 3, 1) := dk_29 (dk_at dksX2_rounds_1 16 rfl rfl)
theorem dX2_rounds_41 : decode cX2_rounds 41 = .ok (.iload_n 2, 1) := dk_28 (dk_at dksX2_rounds_1 17 rfl rfl)
theorem dX2_rounds_42 : decode cX2_rounds 42 = .ok (.if_icmp .ge 47, 3) := dk_162 0 47 (dk_at dksX2_rounds_1 18 rfl rfl)
theorem dX2_rounds_45 : decode cX2_rounds 45 = .ok (.aload_n 0, 1) := dk_42 (dk_at dksX2_rounds_1 21 rfl rfl)
theorem dX2_rounds_46 : decode cX2_rounds 46 = .ok (.getfield 159, 3) := dk_180 0 159 (dk_at dksX2_rounds_2 0 rfl rfl)
theorem dX2_rounds_49 : decode cX2_rounds 49 = .ok (.ifCond .eq 40, 3) := dk_153 0 40 (dk_at dksX2_rounds_2 3 rfl rfl)
theorem dX2_rounds_52 : decode cX2_rounds 52 = .ok (.aload_n 0, 1) := dk_42 (dk_at dksX2_rounds_2 6 rfl rfl)
theorem dX2_rounds_53 : decode cX2_rounds 53 = .ok (.aload_n 0, 1) := dk_42 (dk_at dksX2_rounds_2 7 rfl rfl)
theorem dX2_rounds_54 : decode cX2_rounds 54 = .ok (.iload 4, 2) := dk_21 4 (dk_at dksX2_rounds_2 8 rfl rfl)
theorem dX2_rounds_56 : decode cX2_rounds 56 = .ok (.invokevirtual 304, 3) := dk_182 1 48 (dk_at dksX2_rounds_2 10 rfl rfl)
theorem dX2_rounds_59 : decode cX2_rounds 59 = .ok (.putfield 210, 3) := dk_181 0 210 (dk_at dksX2_rounds_2 13 rfl rfl)
theorem dX2_rounds_62 : decode cX2_rounds 62 = .ok (.iinc 3 1, 3) := dk_132 3 1 (dk_at dksX2_rounds_2 16 rfl rfl)
theorem dX2_rounds_65 : decode cX2_rounds 65 = .ok (.iload 4, 2) := dk_21 4 (dk_at dksX2_rounds_2 19 rfl rfl)
theorem dX2_rounds_67 : decode cX2_rounds 67 = .ok (.iconst 1, 1) := dk_4 (dk_at dksX2_rounds_2 21 rfl rfl)
theorem dX2_rounds_68 : decode cX2_rounds 68 = .ok (.iadd, 1) := dk_96 (dk_at dksX2_rounds_2 22 rfl rfl)
theorem dX2_rounds_69 : decode cX2_rounds 69 = .ok (.aload_n 0, 1) := dk_42 (dk_at dksX2_rounds_2 23 rfl rfl)
theorem dX2_rounds_70 : decode cX2_rounds 70 = .ok (.getfield 85, 3) := dk_180 0 85 (dk_at dksX2_rounds_3 0 rfl rfl)
theorem dX2_rounds_73 : decode cX2_rounds 73 = .ok (.if_icmp .ne 7, 3) := dk_160 0 7 (dk_at dksX2_rounds_3 3 rfl rfl)
theorem dX2_rounds_76 : decode cX2_rounds 76 = .ok (.iconst 0, 1) := dk_3 (dk_at dksX2_rounds_3 6 rfl rfl)
theorem dX2_rounds_77 : decode cX2_rounds 77 = .ok (.goto 7, 3) := dk_167 0 7 (dk_at dksX2_rounds_3 7 rfl rfl)
theorem dX2_rounds_80 : decode cX2_rounds 80 = .ok (.iload 4, 2) := dk_21 4 (dk_at dksX2_rounds_3 10 rfl rfl)
theorem dX2_rounds_82 : decode cX2_rounds 82 = .ok (.iconst 1, 1) := dk_4 (dk_at dksX2_rounds_3 12 rfl rfl)
theorem dX2_rounds_83 : decode cX2_rounds 83 = .ok (.iadd, 1) := dk_96 (dk_at dksX2_rounds_3 13 rfl rfl)
theorem dX2_rounds_84 : decode cX2_rounds 84 = .ok (.istore 4, 2) := dk_54 4 (dk_at dksX2_rounds_3 14 rfl rfl)
theorem dX2_rounds_86 : decode cX2_rounds 86 = .ok (.goto (-46), 3) := dk_167 255 210 (dk_at dksX2_rounds_3 16 rfl rfl)
theorem dX2_rounds_89 : decode cX2_rounds 89 = .ok (.iload_n 3, 1) := dk_29 (dk_at dksX2_rounds_3 19 rfl rfl)
theorem dX2_rounds_90 : decode cX2_rounds 90 = .ok (.ireturn, 1) := dk_172 (dk_at dksX2_rounds_3 20 rfl rfl)
abbrev cX2_stop : ByteArray := prog_14_method_46_code
def yX2_stop : MethodName := ⟨RX2, "stop", "()I"⟩
def dkwX2_stop_1 : List UInt8 := [4, 181, 0, 241, 27, 172]
abbrev dktX2_stop_1 : List UInt8 := dkwX2_stop_1 ++ []
def dkwX2_stop_0 : List UInt8 := [42, 180, 0, 159, 154, 0, 6, 16, 153, 172, 42, 180, 0, 241, 153, 0, 7, 3, 167, 0, 4, 4, 60, 42]
abbrev dktX2_stop_0 : List UInt8 := dkwX2_stop_0 ++ dktX2_stop_1
theorem dksX2_stop_0 : cX2_stop.data.toList.drop 0 = dktX2_stop_0 := by decide +kernel
theorem dksX2_stop_1 : cX2_stop.data.toList.drop 24 = dktX2_stop_1 := dk_seg dksX2_stop_0 24 rfl rfl
theorem dX2_stop_0 : decode cX2_stop 0 = .ok (.aload_n 0, 1) := dk_42 (dk_at dksX2_stop_0 0 rfl rfl)
theorem dX2_stop_1 : decode cX2_stop 1 = .ok (.getfield 159, 3) := dk_180 0 159 (dk_at dksX2_stop_0 1 rfl rfl)
theorem dX2_stop_4 : decode cX2_stop 4 = .ok (.ifCond .ne 6, 3) := dk_154 0 6 (dk_at dksX2_stop_0 4 rfl rfl)
theorem dX2_stop_7 : decode cX2_stop 7 = .ok (.bipush (-103), 2) := dk_16 153 (dk_at dksX2_stop_0 7 rfl rfl)
theorem dX2_stop_9 : decode cX2_stop 9 = .ok (.ireturn, 1) := dk_172 (dk_at dksX2_stop_0 9 rfl rfl)
theorem dX2_stop_10 : decode cX2_stop 10 = .ok (.aload_n 0, 1) := dk_42 (dk_at dksX2_stop_0 10 rfl rfl)
theorem dX2_stop_11 : decode cX2_stop 11 = .ok (.getfield 241, 3) := dk_180 0 241 (dk_at dksX2_stop_0 11 rfl rfl)
theorem dX2_stop_14 : decode cX2_stop 14 = .ok (.ifCond .eq 7, 3) := dk_153 0 7 (dk_at dksX2_stop_0 14 rfl rfl)
theorem dX2_stop_17 : decode cX2_stop 17 = .ok (.iconst 0, 1) := dk_3 (dk_at dksX2_stop_0 17 rfl rfl)
theorem dX2_stop_18 : decode cX2_stop 18 = .ok (.goto 4, 3) := dk_167 0 4 (dk_at dksX2_stop_0 18 rfl rfl)
theorem dX2_stop_21 : decode cX2_stop 21 = .ok (.iconst 1, 1) := dk_4 (dk_at dksX2_stop_0 21 rfl rfl)
theorem dX2_stop_22 : decode cX2_stop 22 = .ok (.istore_n 1, 1) := dk_60 (dk_at dksX2_stop_0 22 rfl rfl)
theorem dX2_stop_23 : decode cX2_stop 23 = .ok (.aload_n 0, 1) := dk_42 (dk_at dksX2_stop_0 23 rfl rfl)
theorem dX2_stop_24 : decode cX2_stop 24 = .ok (.iconst 1, 1) := dk_4 (dk_at dksX2_stop_1 0 rfl rfl)
theorem dX2_stop_25 : decode cX2_stop 25 = .ok (.putfield 241, 3) := dk_181 0 241 (dk_at dksX2_stop_1 1 rfl rfl)
theorem dX2_stop_28 : decode cX2_stop 28 = .ok (.iload_n 1, 1) := dk_27 (dk_at dksX2_stop_1 4 rfl rfl)
theorem dX2_stop_29 : decode cX2_stop 29 = .ok (.ireturn, 1) := dk_172 (dk_at dksX2_stop_1 5 rfl rfl)
abbrev cX2_out : ByteArray := prog_14_method_47_code
def yX2_out : MethodName := ⟨RX2, "out", "(I)I"⟩
def dkwX2_out_1 : List UInt8 := [184, 0, 189, 167, 0, 4, 3, 172]
abbrev dktX2_out_1 : List UInt8 := dkwX2_out_1 ++ []
def dkwX2_out_0 : List UInt8 := [27, 3, 16, 8, 42, 180, 0, 238, 104, 4, 100, 184, 0, 136, 153, 0, 15, 42, 180, 0, 92, 27, 48]
abbrev dktX2_out_0 : List UInt8 := dkwX2_out_0 ++ dktX2_out_1
theorem dksX2_out_0 : cX2_out.data.toList.drop 0 = dktX2_out_0 := by decide +kernel
theorem dksX2_out_1 : cX2_out.data.toList.drop 23 = dktX2_out_1 := dk_seg dksX2_out_0 23 rfl rfl
theorem dX2_out_0 : decode cX2_out 0 = .ok (.iload_n 1, 1) := dk_27 (dk_at dksX2_out_0 0 rfl rfl)
theorem dX2_out_1 : decode cX2_out 1 = .ok (.iconst 0, 1) := dk_3 (dk_at dksX2_out_0 1 rfl rfl)
theorem dX2_out_2 : decode cX2_out 2 = .ok (.bipush 8, 2) := dk_16 8 (dk_at dksX2_out_0 2 rfl rfl)
theorem dX2_out_4 : decode cX2_out 4 = .ok (.aload_n 0, 1) := dk_42 (dk_at dksX2_out_0 4 rfl rfl)
theorem dX2_out_5 : decode cX2_out 5 = .ok (.getfield 238, 3) := dk_180 0 238 (dk_at dksX2_out_0 5 rfl rfl)
theorem dX2_out_8 : decode cX2_out 8 = .ok (.imul, 1) := dk_104 (dk_at dksX2_out_0 8 rfl rfl)
theorem dX2_out_9 : decode cX2_out 9 = .ok (.iconst 1, 1) := dk_4 (dk_at dksX2_out_0 9 rfl rfl)
theorem dX2_out_10 : decode cX2_out 10 = .ok (.isub, 1) := dk_100 (dk_at dksX2_out_0 10 rfl rfl)
theorem dX2_out_11 : decode cX2_out 11 = .ok (.invokestatic 136, 3) := dk_184 0 136 (dk_at dksX2_out_0 11 rfl rfl)
theorem dX2_out_14 : decode cX2_out 14 = .ok (.ifCond .eq 15, 3) := dk_153 0 15 (dk_at dksX2_out_0 14 rfl rfl)
theorem dX2_out_17 : decode cX2_out 17 = .ok (.aload_n 0, 1) := dk_42 (dk_at dksX2_out_0 17 rfl rfl)
theorem dX2_out_18 : decode cX2_out 18 = .ok (.getfield 92, 3) := dk_180 0 92 (dk_at dksX2_out_0 18 rfl rfl)
theorem dX2_out_21 : decode cX2_out 21 = .ok (.iload_n 1, 1) := dk_27 (dk_at dksX2_out_0 21 rfl rfl)
theorem dX2_out_22 : decode cX2_out 22 = .ok (.faload, 1) := dk_48 (dk_at dksX2_out_0 22 rfl rfl)
theorem dX2_out_23 : decode cX2_out 23 = .ok (.invokestatic 189, 3) := dk_184 0 189 (dk_at dksX2_out_1 0 rfl rfl)
theorem dX2_out_26 : decode cX2_out 26 = .ok (.goto 4, 3) := dk_167 0 4 (dk_at dksX2_out_1 3 rfl rfl)
theorem dX2_out_29 : decode cX2_out 29 = .ok (.iconst 0, 1) := dk_3 (dk_at dksX2_out_1 6 rfl rfl)
theorem dX2_out_30 : decode cX2_out 30 = .ok (.ireturn, 1) := dk_172 (dk_at dksX2_out_1 7 rfl rfl)
abbrev cX2_told : ByteArray := prog_14_method_49_code
def yX2_told : MethodName := ⟨RX2, "told", "(II)I"⟩
def dkwX2_told_2 : List UInt8 := [16, 10, 162, 0, 12, 42, 27, 28, 182, 1, 51, 167, 0, 8, 42, 5, 182, 0, 143, 172]
abbrev dktX2_told_2 : List UInt8 := dkwX2_told_2 ++ []
def dkwX2_told_1 : List UInt8 := [16, 20, 160, 0, 21, 42, 180, 0, 159, 153, 0, 12, 42, 180, 0, 67, 27, 46, 167, 0, 4, 3, 172, 28]
abbrev dktX2_told_1 : List UInt8 := dkwX2_told_1 ++ dktX2_told_2
def dkwX2_told_0 : List UInt8 := [27, 184, 0, 232, 154, 0, 6, 16, 155, 172, 28, 3, 16, 20, 184, 0, 136, 154, 0, 6, 16, 154, 172, 28]
abbrev dktX2_told_0 : List UInt8 := dkwX2_told_0 ++ dktX2_told_1
theorem dksX2_told_0 : cX2_told.data.toList.drop 0 = dktX2_told_0 := by decide +kernel
theorem dksX2_told_1 : cX2_told.data.toList.drop 24 = dktX2_told_1 := dk_seg dksX2_told_0 24 rfl rfl
theorem dksX2_told_2 : cX2_told.data.toList.drop 48 = dktX2_told_2 := dk_seg dksX2_told_1 24 rfl rfl
theorem dX2_told_0 : decode cX2_told 0 = .ok (.iload_n 1, 1) := dk_27 (dk_at dksX2_told_0 0 rfl rfl)
theorem dX2_told_1 : decode cX2_told 1 = .ok (.invokestatic 232, 3) := dk_184 0 232 (dk_at dksX2_told_0 1 rfl rfl)
theorem dX2_told_4 : decode cX2_told 4 = .ok (.ifCond .ne 6, 3) := dk_154 0 6 (dk_at dksX2_told_0 4 rfl rfl)
theorem dX2_told_7 : decode cX2_told 7 = .ok (.bipush (-101), 2) := dk_16 155 (dk_at dksX2_told_0 7 rfl rfl)
theorem dX2_told_9 : decode cX2_told 9 = .ok (.ireturn, 1) := dk_172 (dk_at dksX2_told_0 9 rfl rfl)
theorem dX2_told_10 : decode cX2_told 10 = .ok (.iload_n 2, 1) := dk_28 (dk_at dksX2_told_0 10 rfl rfl)
theorem dX2_told_11 : decode cX2_told 11 = .ok (.iconst 0, 1) := dk_3 (dk_at dksX2_told_0 11 rfl rfl)
theorem dX2_told_12 : decode cX2_told 12 = .ok (.bipush 20, 2) := dk_16 20 (dk_at dksX2_told_0 12 rfl rfl)
theorem dX2_told_14 : decode cX2_told 14 = .ok (.invokestatic 136, 3) := dk_184 0 136 (dk_at dksX2_told_0 14 rfl rfl)
theorem dX2_told_17 : decode cX2_told 17 = .ok (.ifCond .ne 6, 3) := dk_154 0 6 (dk_at dksX2_told_0 17 rfl rfl)
theorem dX2_told_20 : decode cX2_told 20 = .ok (.bipush (-102), 2) := dk_16 154 (dk_at dksX2_told_0 20 rfl rfl)
theorem dX2_told_22 : decode cX2_told 22 = .ok (.ireturn, 1) := dk_172 (dk_at dksX2_told_0 22 rfl rfl)
theorem dX2_told_23 : decode cX2_told 23 = .ok (.iload_n 2, 1) := dk_28 (dk_at dksX2_told_0 23 rfl rfl)
theorem dX2_told_24 : decode cX2_told 24 = .ok (.bipush 20, 2) := dk_16 20 (dk_at dksX2_told_1 0 rfl rfl)
theorem dX2_told_26 : decode cX2_told 26 = .ok (.if_icmp .ne 21, 3) := dk_160 0 21 (dk_at dksX2_told_1 2 rfl rfl)
theorem dX2_told_29 : decode cX2_told 29 = .ok (.aload_n 0, 1) := dk_42 (dk_at dksX2_told_1 5 rfl rfl)
theorem dX2_told_30 : decode cX2_told 30 = .ok (.getfield 159, 3) := dk_180 0 159 (dk_at dksX2_told_1 6 rfl rfl)
theorem dX2_told_33 : decode cX2_told 33 = .ok (.ifCond .eq 12, 3) := dk_153 0 12 (dk_at dksX2_told_1 9 rfl rfl)
theorem dX2_told_36 : decode cX2_told 36 = .ok (.aload_n 0, 1) := dk_42 (dk_at dksX2_told_1 12 rfl rfl)
theorem dX2_told_37 : decode cX2_told 37 = .ok (.getfield 67, 3) := dk_180 0 67 (dk_at dksX2_told_1 13 rfl rfl)
theorem dX2_told_40 : decode cX2_told 40 = .ok (.iload_n 1, 1) := dk_27 (dk_at dksX2_told_1 16 rfl rfl)
theorem dX2_told_41 : decode cX2_told 41 = .ok (.iaload, 1) := dk_46 (dk_at dksX2_told_1 17 rfl rfl)
theorem dX2_told_42 : decode cX2_told 42 = .ok (.goto 4, 3) := dk_167 0 4 (dk_at dksX2_told_1 18 rfl rfl)
theorem dX2_told_45 : decode cX2_told 45 = .ok (.iconst 0, 1) := dk_3 (dk_at dksX2_told_1 21 rfl rfl)
theorem dX2_told_46 : decode cX2_told 46 = .ok (.ireturn, 1) := dk_172 (dk_at dksX2_told_1 22 rfl rfl)
theorem dX2_told_47 : decode cX2_told 47 = .ok (.iload_n 2, 1) := dk_28 (dk_at dksX2_told_1 23 rfl rfl)
theorem dX2_told_48 : decode cX2_told 48 = .ok (.bipush 10, 2) := dk_16 10 (dk_at dksX2_told_2 0 rfl rfl)
theorem dX2_told_50 : decode cX2_told 50 = .ok (.if_icmp .ge 12, 3) := dk_162 0 12 (dk_at dksX2_told_2 2 rfl rfl)
theorem dX2_told_53 : decode cX2_told 53 = .ok (.aload_n 0, 1) := dk_42 (dk_at dksX2_told_2 5 rfl rfl)
theorem dX2_told_54 : decode cX2_told 54 = .ok (.iload_n 1, 1) := dk_27 (dk_at dksX2_told_2 6 rfl rfl)
theorem dX2_told_55 : decode cX2_told 55 = .ok (.iload_n 2, 1) := dk_28 (dk_at dksX2_told_2 7 rfl rfl)
theorem dX2_told_56 : decode cX2_told 56 = .ok (.invokevirtual 307, 3) := dk_182 1 51 (dk_at dksX2_told_2 8 rfl rfl)
theorem dX2_told_59 : decode cX2_told 59 = .ok (.goto 8, 3) := dk_167 0 8 (dk_at dksX2_told_2 11 rfl rfl)
theorem dX2_told_62 : decode cX2_told 62 = .ok (.aload_n 0, 1) := dk_42 (dk_at dksX2_told_2 14 rfl rfl)
theorem dX2_told_63 : decode cX2_told 63 = .ok (.iconst 2, 1) := dk_5 (dk_at dksX2_told_2 15 rfl rfl)
theorem dX2_told_64 : decode cX2_told 64 = .ok (.invokevirtual 143, 3) := dk_182 0 143 (dk_at dksX2_told_2 16 rfl rfl)
theorem dX2_told_67 : decode cX2_told 67 = .ok (.ireturn, 1) := dk_172 (dk_at dksX2_told_2 19 rfl rfl)
abbrev cX2_toldOf : ByteArray := prog_14_method_48_code
def yX2_toldOf : MethodName := ⟨RX2, "toldOf", "(II)I"⟩
def dkwX2_toldOf_5 : List UInt8 := [42, 180, 0, 64, 7, 27, 104, 28, 96, 16, 6, 100, 46, 172]
abbrev dktX2_toldOf_5 : List UInt8 := dkwX2_toldOf_5 ++ []
def dkwX2_toldOf_4 : List UInt8 := [180, 0, 58, 27, 48, 184, 0, 189, 172, 42, 180, 0, 61, 27, 51, 153, 0, 7, 4, 167, 0, 4, 3, 172]
abbrev dktX2_toldOf_4 : List UInt8 := dkwX2_toldOf_4 ++ dktX2_toldOf_5
def dkwX2_toldOf_3 : List UInt8 := [180, 0, 52, 27, 46, 172, 42, 180, 0, 55, 27, 51, 153, 0, 7, 4, 167, 0, 4, 3, 172, 42]
abbrev dktX2_toldOf_3 : List UInt8 := dkwX2_toldOf_3 ++ dktX2_toldOf_4
def dkwX2_toldOf_2 : List UInt8 := [42, 180, 0, 45, 27, 51, 153, 0, 7, 4, 167, 0, 4, 3, 172, 42, 180, 0, 49, 27, 46, 172, 42]
abbrev dktX2_toldOf_2 : List UInt8 := dkwX2_toldOf_2 ++ dktX2_toldOf_3
def dkwX2_toldOf_1 : List UInt8 := [170, 0, 0, 0, 0, 0, 108, 0, 0, 0, 0, 0, 0, 0, 5, 0, 0, 0, 39, 0, 0, 0, 54, 0, 0, 0, 61, 0, 0, 0, 68, 0, 0, 0, 83, 0, 0, 0, 93]
abbrev dktX2_toldOf_1 : List UInt8 := dkwX2_toldOf_1 ++ dktX2_toldOf_2
def dkwX2_toldOf_0 : List UInt8 := [28]
abbrev dktX2_toldOf_0 : List UInt8 := dkwX2_toldOf_0 ++ dktX2_toldOf_1
theorem dksX2_toldOf_0 : cX2_toldOf.data.toList.drop 0 = dktX2_toldOf_0 := by decide +kernel
theorem dksX2_toldOf_1 : cX2_toldOf.data.toList.drop 1 = dktX2_toldOf_1 := dk_seg dksX2_toldOf_0 1 rfl rfl
theorem dksX2_toldOf_2 : cX2_toldOf.data.toList.drop 40 = dktX2_toldOf_2 := dk_seg dksX2_toldOf_1 39 rfl rfl
theorem dksX2_toldOf_3 : cX2_toldOf.data.toList.drop 63 = dktX2_toldOf_3 := dk_seg dksX2_toldOf_2 23 rfl rfl
theorem dksX2_toldOf_4 : cX2_toldOf.data.toList.drop 85 = dktX2_toldOf_4 := dk_seg dksX2_toldOf_3 22 rfl rfl
theorem dksX2_toldOf_5 : cX2_toldOf.data.toList.drop 109 = dktX2_toldOf_5 := dk_seg dksX2_toldOf_4 24 rfl rfl
theorem dX2_toldOf_0 : decode cX2_toldOf 0 = .ok (.iload_n 2, 1) := dk_28 (dk_at dksX2_toldOf_0 0 rfl rfl)
theorem dX2_toldOf_1 : decode cX2_toldOf 1 = .ok (.tableswitch 108 0 5 #[39, 54, 61, 68, 83, 93], 39) := by decide +kernel
theorem dX2_toldOf_40 : decode cX2_toldOf 40 = .ok (.aload_n 0, 1) := dk_42 (dk_at dksX2_toldOf_2 0 rfl rfl)
theorem dX2_toldOf_41 : decode cX2_toldOf 41 = .ok (.getfield 45, 3) := dk_180 0 45 (dk_at dksX2_toldOf_2 1 rfl rfl)
theorem dX2_toldOf_44 : decode cX2_toldOf 44 = .ok (.iload_n 1, 1) := dk_27 (dk_at dksX2_toldOf_2 4 rfl rfl)
theorem dX2_toldOf_45 : decode cX2_toldOf 45 = .ok (.baload, 1) := dk_51 (dk_at dksX2_toldOf_2 5 rfl rfl)
theorem dX2_toldOf_46 : decode cX2_toldOf 46 = .ok (.ifCond .eq 7, 3) := dk_153 0 7 (dk_at dksX2_toldOf_2 6 rfl rfl)
theorem dX2_toldOf_49 : decode cX2_toldOf 49 = .ok (.iconst 1, 1) := dk_4 (dk_at dksX2_toldOf_2 9 rfl rfl)
theorem dX2_toldOf_50 : decode cX2_toldOf 50 = .ok (.goto 4, 3) := dk_167 0 4 (dk_at dksX2_toldOf_2 10 rfl rfl)
theorem dX2_toldOf_53 : decode cX2_toldOf 53 = .ok (.iconst 0, 1) := dk_3 (dk_at dksX2_toldOf_2 13 rfl rfl)
theorem dX2_toldOf_54 : decode cX2_toldOf 54 = .ok (.ireturn, 1) := dk_172 (dk_at dksX2_toldOf_2 14 rfl rfl)
theorem dX2_toldOf_55 : decode cX2_toldOf 55 = .ok (.aload_n 0, 1) := dk_42 (dk_at dksX2_toldOf_2 15 rfl rfl)
theorem dX2_toldOf_56 : decode cX2_toldOf 56 = .ok (.getfield 49, 3) := dk_180 0 49 (dk_at dksX2_toldOf_2 16 rfl rfl)
theorem dX2_toldOf_59 : decode cX2_toldOf 59 = .ok (.iload_n 1, 1) := dk_27 (dk_at dksX2_toldOf_2 19 rfl rfl)
theorem dX2_toldOf_60 : decode cX2_toldOf 60 = .ok (.iaload, 1) := dk_46 (dk_at dksX2_toldOf_2 20 rfl rfl)
theorem dX2_toldOf_61 : decode cX2_toldOf 61 = .ok (.ireturn, 1) := dk_172 (dk_at dksX2_toldOf_2 21 rfl rfl)
theorem dX2_toldOf_62 : decode cX2_toldOf 62 = .ok (.aload_n 0, 1) := dk_42 (dk_at dksX2_toldOf_2 22 rfl rfl)
theorem dX2_toldOf_63 : decode cX2_toldOf 63 = .ok (.getfield 52, 3) := dk_180 0 52 (dk_at dksX2_toldOf_3 0 rfl rfl)
theorem dX2_toldOf_66 : decode cX2_toldOf 66 = .ok (.iload_n 1, 1) := dk_27 (dk_at dksX2_toldOf_3 3 rfl rfl)
theorem dX2_toldOf_67 : decode cX2_toldOf 67 = .ok (.iaload, 1) := dk_46 (dk_at dksX2_toldOf_3 4 rfl rfl)
theorem dX2_toldOf_68 : decode cX2_toldOf 68 = .ok (.ireturn, 1) := dk_172 (dk_at dksX2_toldOf_3 5 rfl rfl)
theorem dX2_toldOf_69 : decode cX2_toldOf 69 = .ok (.aload_n 0, 1) := dk_42 (dk_at dksX2_toldOf_3 6 rfl rfl)
theorem dX2_toldOf_70 : decode cX2_toldOf 70 = .ok (.getfield 55, 3) := dk_180 0 55 (dk_at dksX2_toldOf_3 7 rfl rfl)
theorem dX2_toldOf_73 : decode cX2_toldOf 73 = .ok (.iload_n 1, 1) := dk_27 (dk_at dksX2_toldOf_3 10 rfl rfl)
theorem dX2_toldOf_74 : decode cX2_toldOf 74 = .ok (.baload, 1) := dk_51 (dk_at dksX2_toldOf_3 11 rfl rfl)
theorem dX2_toldOf_75 : decode cX2_toldOf 75 = .ok (.ifCond .eq 7, 3) := dk_153 0 7 (dk_at dksX2_toldOf_3 12 rfl rfl)
theorem dX2_toldOf_78 : decode cX2_toldOf 78 = .ok (.iconst 1, 1) := dk_4 (dk_at dksX2_toldOf_3 15 rfl rfl)
theorem dX2_toldOf_79 : decode cX2_toldOf 79 = .ok (.goto 4, 3) := dk_167 0 4 (dk_at dksX2_toldOf_3 16 rfl rfl)
theorem dX2_toldOf_82 : decode cX2_toldOf 82 = .ok (.iconst 0, 1) := dk_3 (dk_at dksX2_toldOf_3 19 rfl rfl)
theorem dX2_toldOf_83 : decode cX2_toldOf 83 = .ok (.ireturn, 1) := dk_172 (dk_at dksX2_toldOf_3 20 rfl rfl)
theorem dX2_toldOf_84 : decode cX2_toldOf 84 = .ok (.aload_n 0, 1) := dk_42 (dk_at dksX2_toldOf_3 21 rfl rfl)
theorem dX2_toldOf_85 : decode cX2_toldOf 85 = .ok (.getfield 58, 3) := dk_180 0 58 (dk_at dksX2_toldOf_4 0 rfl rfl)
theorem dX2_toldOf_88 : decode cX2_toldOf 88 = .ok (.iload_n 1, 1) := dk_27 (dk_at dksX2_toldOf_4 3 rfl rfl)
theorem dX2_toldOf_89 : decode cX2_toldOf 89 = .ok (.faload, 1) := dk_48 (dk_at dksX2_toldOf_4 4 rfl rfl)
theorem dX2_toldOf_90 : decode cX2_toldOf 90 = .ok (.invokestatic 189, 3) := dk_184 0 189 (dk_at dksX2_toldOf_4 5 rfl rfl)
theorem dX2_toldOf_93 : decode cX2_toldOf 93 = .ok (.ireturn, 1) := dk_172 (dk_at dksX2_toldOf_4 8 rfl rfl)
theorem dX2_toldOf_94 : decode cX2_toldOf 94 = .ok (.aload_n 0, 1) := dk_42 (dk_at dksX2_toldOf_4 9 rfl rfl)
theorem dX2_toldOf_95 : decode cX2_toldOf 95 = .ok (.getfield 61, 3) := dk_180 0 61 (dk_at dksX2_toldOf_4 10 rfl rfl)
theorem dX2_toldOf_98 : decode cX2_toldOf 98 = .ok (.iload_n 1, 1) := dk_27 (dk_at dksX2_toldOf_4 13 rfl rfl)
theorem dX2_toldOf_99 : decode cX2_toldOf 99 = .ok (.baload, 1) := dk_51 (dk_at dksX2_toldOf_4 14 rfl rfl)
theorem dX2_toldOf_100 : decode cX2_toldOf 100 = .ok (.ifCond .eq 7, 3) := dk_153 0 7 (dk_at dksX2_toldOf_4 15 rfl rfl)
theorem dX2_toldOf_103 : decode cX2_toldOf 103 = .ok (.iconst 1, 1) := dk_4 (dk_at dksX2_toldOf_4 18 rfl rfl)
theorem dX2_toldOf_104 : decode cX2_toldOf 104 = .ok (.goto 4, 3) := dk_167 0 4 (dk_at dksX2_toldOf_4 19 rfl rfl)
theorem dX2_toldOf_107 : decode cX2_toldOf 107 = .ok (.iconst 0, 1) := dk_3 (dk_at dksX2_toldOf_4 22 rfl rfl)
theorem dX2_toldOf_108 : decode cX2_toldOf 108 = .ok (.ireturn, 1) := dk_172 (dk_at dksX2_toldOf_4 23 rfl rfl)
theorem dX2_toldOf_109 : decode cX2_toldOf 109 = .ok (.aload_n 0, 1) := dk_42 (dk_at dksX2_toldOf_5 0 rfl rfl)
theorem dX2_toldOf_110 : decode cX2_toldOf 110 = .ok (.getfield 64, 3) := dk_180 0 64 (dk_at dksX2_toldOf_5 1 rfl rfl)
theorem dX2_toldOf_113 : decode cX2_toldOf 113 = .ok (.iconst 4, 1) := dk_7 (dk_at dksX2_toldOf_5 4 rfl rfl)
theorem dX2_toldOf_114 : decode cX2_toldOf 114 = .ok (.iload_n 1, 1) := dk_27 (dk_at dksX2_toldOf_5 5 rfl rfl)
theorem dX2_toldOf_115 : decode cX2_toldOf 115 = .ok (.imul, 1) := dk_104 (dk_at dksX2_toldOf_5 6 rfl rfl)
theorem dX2_toldOf_116 : decode cX2_toldOf 116 = .ok (.iload_n 2, 1) := dk_28 (dk_at dksX2_toldOf_5 7 rfl rfl)
theorem dX2_toldOf_117 : decode cX2_toldOf 117 = .ok (.iadd, 1) := dk_96 (dk_at dksX2_toldOf_5 8 rfl rfl)
theorem dX2_toldOf_118 : decode cX2_toldOf 118 = .ok (.bipush 6, 2) := dk_16 6 (dk_at dksX2_toldOf_5 9 rfl rfl)
theorem dX2_toldOf_120 : decode cX2_toldOf 120 = .ok (.isub, 1) := dk_100 (dk_at dksX2_toldOf_5 11 rfl rfl)
theorem dX2_toldOf_121 : decode cX2_toldOf 121 = .ok (.iaload, 1) := dk_46 (dk_at dksX2_toldOf_5 12 rfl rfl)
theorem dX2_toldOf_122 : decode cX2_toldOf 122 = .ok (.ireturn, 1) := dk_172 (dk_at dksX2_toldOf_5 13 rfl rfl)
abbrev cX2_worker : ByteArray := prog_14_method_50_code
def yX2_worker : MethodName := ⟨RX2, "worker", "(I)I"⟩
def dkwX2_worker_0 : List UInt8 := [42, 27, 182, 1, 45, 153, 0, 12, 42, 180, 0, 89, 27, 46, 167, 0, 5, 16, 155, 172]
abbrev dktX2_worker_0 : List UInt8 := dkwX2_worker_0 ++ []
theorem dksX2_worker_0 : cX2_worker.data.toList.drop 0 = dktX2_worker_0 := by decide +kernel
theorem dX2_worker_0 : decode cX2_worker 0 = .ok (.aload_n 0, 1) := dk_42 (dk_at dksX2_worker_0 0 rfl rfl)
theorem dX2_worker_1 : decode cX2_worker 1 = .ok (.iload_n 1, 1) := dk_27 (dk_at dksX2_worker_0 1 rfl rfl)
theorem dX2_worker_2 : decode cX2_worker 2 = .ok (.invokevirtual 301, 3) := dk_182 1 45 (dk_at dksX2_worker_0 2 rfl rfl)
theorem dX2_worker_5 : decode cX2_worker 5 = .ok (.ifCond .eq 12, 3) := dk_153 0 12 (dk_at dksX2_worker_0 5 rfl rfl)
theorem dX2_worker_8 : decode cX2_worker 8 = .ok (.aload_n 0, 1) := dk_42 (dk_at dksX2_worker_0 8 rfl rfl)
theorem dX2_worker_9 : decode cX2_worker 9 = .ok (.getfield 89, 3) := dk_180 0 89 (dk_at dksX2_worker_0 9 rfl rfl)
theorem dX2_worker_12 : decode cX2_worker 12 = .ok (.iload_n 1, 1) := dk_27 (dk_at dksX2_worker_0 12 rfl rfl)
theorem dX2_worker_13 : decode cX2_worker 13 = .ok (.iaload, 1) := dk_46 (dk_at dksX2_worker_0 13 rfl rfl)
theorem dX2_worker_14 : decode cX2_worker 14 = .ok (.goto 5, 3) := dk_167 0 5 (dk_at dksX2_worker_0 14 rfl rfl)
theorem dX2_worker_17 : decode cX2_worker 17 = .ok (.bipush (-101), 2) := dk_16 155 (dk_at dksX2_worker_0 17 rfl rfl)
theorem dX2_worker_19 : decode cX2_worker 19 = .ok (.ireturn, 1) := dk_172 (dk_at dksX2_worker_0 19 rfl rfl)
abbrev cX2_fault : ByteArray := prog_14_method_53_code
def yX2_fault : MethodName := ⟨RX2, "fault", "(II)I"⟩
def dkwX2_fault_1 : List UInt8 := [153, 0, 12, 42, 27, 28, 182, 1, 57, 167, 0, 4, 2, 172]
abbrev dktX2_fault_1 : List UInt8 := dkwX2_fault_1 ++ []
def dkwX2_fault_0 : List UInt8 := [28, 3, 7, 184, 0, 136, 154, 0, 6, 16, 154, 172, 27, 3, 42, 182, 1, 54, 4, 100, 184, 0, 136]
abbrev dktX2_fault_0 : List UInt8 := dkwX2_fault_0 ++ dktX2_fault_1
theorem dksX2_fault_0 : cX2_fault.data.toList.drop 0 = dktX2_fault_0 := by decide +kernel
theorem dksX2_fault_1 : cX2_fault.data.toList.drop 23 = dktX2_fault_1 := dk_seg dksX2_fault_0 23 rfl rfl
theorem dX2_fault_0 : decode cX2_fault 0 = .ok (.iload_n 2, 1) := dk_28 (dk_at dksX2_fault_0 0 rfl rfl)
theorem dX2_fault_1 : decode cX2_fault 1 = .ok (.iconst 0, 1) := dk_3 (dk_at dksX2_fault_0 1 rfl rfl)
theorem dX2_fault_2 : decode cX2_fault 2 = .ok (.iconst 4, 1) := dk_7 (dk_at dksX2_fault_0 2 rfl rfl)
theorem dX2_fault_3 : decode cX2_fault 3 = .ok (.invokestatic 136, 3) := dk_184 0 136 (dk_at dksX2_fault_0 3 rfl rfl)
theorem dX2_fault_6 : decode cX2_fault 6 = .ok (.ifCond .ne 6, 3) := dk_154 0 6 (dk_at dksX2_fault_0 6 rfl rfl)
theorem dX2_fault_9 : decode cX2_fault 9 = .ok (.bipush (-102), 2) := dk_16 154 (dk_at dksX2_fault_0 9 rfl rfl)
theorem dX2_fault_11 : decode cX2_fault 11 = .ok (.ireturn, 1) := dk_172 (dk_at dksX2_fault_0 11 rfl rfl)
theorem dX2_fault_12 : decode cX2_fault 12 = .ok (.iload_n 1, 1) := dk_27 (dk_at dksX2_fault_0 12 rfl rfl)
theorem dX2_fault_13 : decode cX2_fault 13 = .ok (.iconst 0, 1) := dk_3 (dk_at dksX2_fault_0 13 rfl rfl)
theorem dX2_fault_14 : decode cX2_fault 14 = .ok (.aload_n 0, 1) := dk_42 (dk_at dksX2_fault_0 14 rfl rfl)
theorem dX2_fault_15 : decode cX2_fault 15 = .ok (.invokevirtual 310, 3) := dk_182 1 54 (dk_at dksX2_fault_0 15 rfl rfl)
theorem dX2_fault_18 : decode cX2_fault 18 = .ok (.iconst 1, 1) := dk_4 (dk_at dksX2_fault_0 18 rfl rfl)
theorem dX2_fault_19 : decode cX2_fault 19 = .ok (.isub, 1) := dk_100 (dk_at dksX2_fault_0 19 rfl rfl)
theorem dX2_fault_20 : decode cX2_fault 20 = .ok (.invokestatic 136, 3) := dk_184 0 136 (dk_at dksX2_fault_0 20 rfl rfl)
theorem dX2_fault_23 : decode cX2_fault 23 = .ok (.ifCond .eq 12, 3) := dk_153 0 12 (dk_at dksX2_fault_1 0 rfl rfl)
theorem dX2_fault_26 : decode cX2_fault 26 = .ok (.aload_n 0, 1) := dk_42 (dk_at dksX2_fault_1 3 rfl rfl)
theorem dX2_fault_27 : decode cX2_fault 27 = .ok (.iload_n 1, 1) := dk_27 (dk_at dksX2_fault_1 4 rfl rfl)
theorem dX2_fault_28 : decode cX2_fault 28 = .ok (.iload_n 2, 1) := dk_28 (dk_at dksX2_fault_1 5 rfl rfl)
theorem dX2_fault_29 : decode cX2_fault 29 = .ok (.invokevirtual 313, 3) := dk_182 1 57 (dk_at dksX2_fault_1 6 rfl rfl)
theorem dX2_fault_32 : decode cX2_fault 32 = .ok (.goto 4, 3) := dk_167 0 4 (dk_at dksX2_fault_1 9 rfl rfl)
theorem dX2_fault_35 : decode cX2_fault 35 = .ok (.iconst (-1), 1) := dk_2 (dk_at dksX2_fault_1 12 rfl rfl)
theorem dX2_fault_36 : decode cX2_fault 36 = .ok (.ireturn, 1) := dk_172 (dk_at dksX2_fault_1 13 rfl rfl)
abbrev cX2_noted : ByteArray := prog_14_method_52_code
def yX2_noted : MethodName := ⟨RX2, "noted", "()I"⟩
def dkwX2_noted_0 : List UInt8 := [42, 180, 1, 42, 16, 100, 162, 0, 10, 42, 180, 1, 42, 167, 0, 5, 16, 100, 172]
abbrev dktX2_noted_0 : List UInt8 := dkwX2_noted_0 ++ []
theorem dksX2_noted_0 : cX2_noted.data.toList.drop 0 = dktX2_noted_0 := by decide +kernel
theorem dX2_noted_0 : decode cX2_noted 0 = .ok (.aload_n 0, 1) := dk_42 (dk_at dksX2_noted_0 0 rfl rfl)
theorem dX2_noted_1 : decode cX2_noted 1 = .ok (.getfield 298, 3) := dk_180 1 42 (dk_at dksX2_noted_0 1 rfl rfl)
theorem dX2_noted_4 : decode cX2_noted 4 = .ok (.bipush 100, 2) := dk_16 100 (dk_at dksX2_noted_0 4 rfl rfl)
theorem dX2_noted_6 : decode cX2_noted 6 = .ok (.if_icmp .ge 10, 3) := dk_162 0 10 (dk_at dksX2_noted_0 6 rfl rfl)
theorem dX2_noted_9 : decode cX2_noted 9 = .ok (.aload_n 0, 1) := dk_42 (dk_at dksX2_noted_0 9 rfl rfl)
theorem dX2_noted_10 : decode cX2_noted 10 = .ok (.getfield 298, 3) := dk_180 1 42 (dk_at dksX2_noted_0 10 rfl rfl)
theorem dX2_noted_13 : decode cX2_noted 13 = .ok (.goto 5, 3) := dk_167 0 5 (dk_at dksX2_noted_0 13 rfl rfl)
theorem dX2_noted_16 : decode cX2_noted 16 = .ok (.bipush 100, 2) := dk_16 100 (dk_at dksX2_noted_0 16 rfl rfl)
theorem dX2_noted_18 : decode cX2_noted 18 = .ok (.ireturn, 1) := dk_172 (dk_at dksX2_noted_0 18 rfl rfl)
abbrev cX2_faultOf : ByteArray := prog_14_method_51_code
def yX2_faultOf : MethodName := ⟨RX2, "faultOf", "(II)I"⟩
def dkwX2_faultOf_2 : List UInt8 := [180, 0, 104, 27, 46, 167, 0, 9, 42, 180, 0, 107, 27, 46, 172]
abbrev dktX2_faultOf_2 : List UInt8 := dkwX2_faultOf_2 ++ []
def dkwX2_faultOf_1 : List UInt8 := [167, 0, 37, 28, 5, 160, 0, 12, 42, 180, 0, 101, 27, 46, 167, 0, 23, 28, 6, 160, 0, 12, 42]
abbrev dktX2_faultOf_1 : List UInt8 := dkwX2_faultOf_1 ++ dktX2_faultOf_2
def dkwX2_faultOf_0 : List UInt8 := [28, 154, 0, 12, 42, 180, 0, 95, 27, 46, 167, 0, 51, 28, 4, 160, 0, 12, 42, 180, 0, 98, 27, 46]
abbrev dktX2_faultOf_0 : List UInt8 := dkwX2_faultOf_0 ++ dktX2_faultOf_1
theorem dksX2_faultOf_0 : cX2_faultOf.data.toList.drop 0 = dktX2_faultOf_0 := by decide +kernel
theorem dksX2_faultOf_1 : cX2_faultOf.data.toList.drop 24 = dktX2_faultOf_1 := dk_seg dksX2_faultOf_0 24 rfl rfl
theorem dksX2_faultOf_2 : cX2_faultOf.data.toList.drop 47 = dktX2_faultOf_2 := dk_seg dksX2_faultOf_1 23 rfl rfl
theorem dX2_faultOf_0 : decode cX2_faultOf 0 = .ok (.iload_n 2, 1) := dk_28 (dk_at dksX2_faultOf_0 0 rfl rfl)
theorem dX2_faultOf_1 : decode cX2_faultOf 1 = .ok (.ifCond .ne 12, 3) := dk_154 0 12 (dk_at dksX2_faultOf_0 1 rfl rfl)
theorem dX2_faultOf_4 : decode cX2_faultOf 4 = .ok (.aload_n 0, 1) := dk_42 (dk_at dksX2_faultOf_0 4 rfl rfl)
theorem dX2_faultOf_5 : decode cX2_faultOf 5 = .ok (.getfield 95, 3) := dk_180 0 95 (dk_at dksX2_faultOf_0 5 rfl rfl)
theorem dX2_faultOf_8 : decode cX2_faultOf 8 = .ok (.iload_n 1, 1) := dk_27 (dk_at dksX2_faultOf_0 8 rfl rfl)
theorem dX2_faultOf_9 : decode cX2_faultOf 9 = .ok (.iaload, 1) := dk_46 (dk_at dksX2_faultOf_0 9 rfl rfl)
theorem dX2_faultOf_10 : decode cX2_faultOf 10 = .ok (.goto 51, 3) := dk_167 0 51 (dk_at dksX2_faultOf_0 10 rfl rfl)
theorem dX2_faultOf_13 : decode cX2_faultOf 13 = .ok (.iload_n 2, 1) := dk_28 (dk_at dksX2_faultOf_0 13 rfl rfl)
theorem dX2_faultOf_14 : decode cX2_faultOf 14 = .ok (.iconst 1, 1) := dk_4 (dk_at dksX2_faultOf_0 14 rfl rfl)
theorem dX2_faultOf_15 : decode cX2_faultOf 15 = .ok (.if_icmp .ne 12, 3) := dk_160 0 12 (dk_at dksX2_faultOf_0 15 rfl rfl)
theorem dX2_faultOf_18 : decode cX2_faultOf 18 = .ok (.aload_n 0, 1) := dk_42 (dk_at dksX2_faultOf_0 18 rfl rfl)
theorem dX2_faultOf_19 : decode cX2_faultOf 19 = .ok (.getfield 98, 3) := dk_180 0 98 (dk_at dksX2_faultOf_0 19 rfl rfl)
theorem dX2_faultOf_22 : decode cX2_faultOf 22 = .ok (.iload_n 1, 1) := dk_27 (dk_at dksX2_faultOf_0 22 rfl rfl)
theorem dX2_faultOf_23 : decode cX2_faultOf 23 = .ok (.iaload, 1) := dk_46 (dk_at dksX2_faultOf_0 23 rfl rfl)
theorem dX2_faultOf_24 : decode cX2_faultOf 24 = .ok (.goto 37, 3) := dk_167 0 37 (dk_at dksX2_faultOf_1 0 rfl rfl)
theorem dX2_faultOf_27 : decode cX2_faultOf 27 = .ok (.iload_n 2, 1) := dk_28 (dk_at dksX2_faultOf_1 3 rfl rfl)
theorem dX2_faultOf_28 : decode cX2_faultOf 28 = .ok (.iconst 2, 1) := dk_5 (dk_at dksX2_faultOf_1 4 rfl rfl)
theorem dX2_faultOf_29 : decode cX2_faultOf 29 = .ok (.if_icmp .ne 12, 3) := dk_160 0 12 (dk_at dksX2_faultOf_1 5 rfl rfl)
theorem dX2_faultOf_32 : decode cX2_faultOf 32 = .ok (.aload_n 0, 1) := dk_42 (dk_at dksX2_faultOf_1 8 rfl rfl)
theorem dX2_faultOf_33 : decode cX2_faultOf 33 = .ok (.getfield 101, 3) := dk_180 0 101 (dk_at dksX2_faultOf_1 9 rfl rfl)
theorem dX2_faultOf_36 : decode cX2_faultOf 36 = .ok (.iload_n 1, 1) := dk_27 (dk_at dksX2_faultOf_1 12 rfl rfl)
theorem dX2_faultOf_37 : decode cX2_faultOf 37 = .ok (.iaload, 1) := dk_46 (dk_at dksX2_faultOf_1 13 rfl rfl)
theorem dX2_faultOf_38 : decode cX2_faultOf 38 = .ok (.goto 23, 3) := dk_167 0 23 (dk_at dksX2_faultOf_1 14 rfl rfl)
theorem dX2_faultOf_41 : decode cX2_faultOf 41 = .ok (.iload_n 2, 1) := dk_28 (dk_at dksX2_faultOf_1 17 rfl rfl)
theorem dX2_faultOf_42 : decode cX2_faultOf 42 = .ok (.iconst 3, 1) := dk_6 (dk_at dksX2_faultOf_1 18 rfl rfl)
theorem dX2_faultOf_43 : decode cX2_faultOf 43 = .ok (.if_icmp .ne 12, 3) := dk_160 0 12 (dk_at dksX2_faultOf_1 19 rfl rfl)
theorem dX2_faultOf_46 : decode cX2_faultOf 46 = .ok (.aload_n 0, 1) := dk_42 (dk_at dksX2_faultOf_1 22 rfl rfl)
theorem dX2_faultOf_47 : decode cX2_faultOf 47 = .ok (.getfield 104, 3) := dk_180 0 104 (dk_at dksX2_faultOf_2 0 rfl rfl)
theorem dX2_faultOf_50 : decode cX2_faultOf 50 = .ok (.iload_n 1, 1) := dk_27 (dk_at dksX2_faultOf_2 3 rfl rfl)
theorem dX2_faultOf_51 : decode cX2_faultOf 51 = .ok (.iaload, 1) := dk_46 (dk_at dksX2_faultOf_2 4 rfl rfl)
theorem dX2_faultOf_52 : decode cX2_faultOf 52 = .ok (.goto 9, 3) := dk_167 0 9 (dk_at dksX2_faultOf_2 5 rfl rfl)
theorem dX2_faultOf_55 : decode cX2_faultOf 55 = .ok (.aload_n 0, 1) := dk_42 (dk_at dksX2_faultOf_2 8 rfl rfl)
theorem dX2_faultOf_56 : decode cX2_faultOf 56 = .ok (.getfield 107, 3) := dk_180 0 107 (dk_at dksX2_faultOf_2 9 rfl rfl)
theorem dX2_faultOf_59 : decode cX2_faultOf 59 = .ok (.iload_n 1, 1) := dk_27 (dk_at dksX2_faultOf_2 12 rfl rfl)
theorem dX2_faultOf_60 : decode cX2_faultOf 60 = .ok (.iaload, 1) := dk_46 (dk_at dksX2_faultOf_2 13 rfl rfl)
theorem dX2_faultOf_61 : decode cX2_faultOf 61 = .ok (.ireturn, 1) := dk_172 (dk_at dksX2_faultOf_2 14 rfl rfl)
abbrev cX2_found : ByteArray := prog_14_method_54_code
def yX2_found : MethodName := ⟨RX2, "found", "(I)I"⟩
def dkwX2_found_0 : List UInt8 := [27, 4, 16, 6, 184, 0, 136, 153, 0, 12, 42, 180, 0, 125, 27, 46, 167, 0, 5, 16, 154, 172]
abbrev dktX2_found_0 : List UInt8 := dkwX2_found_0 ++ []
theorem dksX2_found_0 : cX2_found.data.toList.drop 0 = dktX2_found_0 := by decide +kernel
theorem dX2_found_0 : decode cX2_found 0 = .ok (.iload_n 1, 1) := dk_27 (dk_at dksX2_found_0 0 rfl rfl)
theorem dX2_found_1 : decode cX2_found 1 = .ok (.iconst 1, 1) := dk_4 (dk_at dksX2_found_0 1 rfl rfl)
theorem dX2_found_2 : decode cX2_found 2 = .ok (.bipush 6, 2) := dk_16 6 (dk_at dksX2_found_0 2 rfl rfl)
theorem dX2_found_4 : decode cX2_found 4 = .ok (.invokestatic 136, 3) := dk_184 0 136 (dk_at dksX2_found_0 4 rfl rfl)
theorem dX2_found_7 : decode cX2_found 7 = .ok (.ifCond .eq 12, 3) := dk_153 0 12 (dk_at dksX2_found_0 7 rfl rfl)
theorem dX2_found_10 : decode cX2_found 10 = .ok (.aload_n 0, 1) := dk_42 (dk_at dksX2_found_0 10 rfl rfl)
theorem dX2_found_11 : decode cX2_found 11 = .ok (.getfield 125, 3) := dk_180 0 125 (dk_at dksX2_found_0 11 rfl rfl)
theorem dX2_found_14 : decode cX2_found 14 = .ok (.iload_n 1, 1) := dk_27 (dk_at dksX2_found_0 14 rfl rfl)
theorem dX2_found_15 : decode cX2_found 15 = .ok (.iaload, 1) := dk_46 (dk_at dksX2_found_0 15 rfl rfl)
theorem dX2_found_16 : decode cX2_found 16 = .ok (.goto 5, 3) := dk_167 0 5 (dk_at dksX2_found_0 16 rfl rfl)
theorem dX2_found_19 : decode cX2_found 19 = .ok (.bipush (-102), 2) := dk_16 154 (dk_at dksX2_found_0 19 rfl rfl)
theorem dX2_found_21 : decode cX2_found 21 = .ok (.ireturn, 1) := dk_172 (dk_at dksX2_found_0 21 rfl rfl)
abbrev cX2_about : ByteArray := prog_14_method_55_code
def yX2_about : MethodName := ⟨RX2, "about", "(I)I"⟩
def dkwX2_about_5 : List UInt8 := [180, 1, 12, 172, 16, 154, 172]
abbrev dktX2_about_5 : List UInt8 := dkwX2_about_5 ++ []
def dkwX2_about_4 : List UInt8 := [42, 180, 0, 159, 153, 0, 10, 42, 180, 0, 244, 167, 0, 4, 3, 172, 42, 180, 0, 254, 172, 42]
abbrev dktX2_about_4 : List UInt8 := dkwX2_about_4 ++ dktX2_about_5
def dkwX2_about_3 : List UInt8 := [172, 42, 180, 0, 226, 172, 42, 180, 0, 229, 172, 42, 180, 0, 159, 153, 0, 7, 4, 167, 0, 4, 3, 172]
abbrev dktX2_about_3 : List UInt8 := dkwX2_about_3 ++ dktX2_about_4
def dkwX2_about_2 : List UInt8 := [42, 180, 0, 140, 172, 42, 180, 0, 203, 172, 42, 180, 0, 85, 172, 42, 180, 0, 238, 172, 42, 180, 1, 42]
abbrev dktX2_about_2 : List UInt8 := dkwX2_about_2 ++ dktX2_about_3
def dkwX2_about_1 : List UInt8 := [170, 0, 0, 0, 0, 0, 133, 0, 0, 0, 0, 0, 0, 0, 10, 0, 0, 0, 59, 0, 0, 0, 64, 0, 0, 0, 69, 0, 0, 0, 74, 0, 0, 0, 79, 0, 0, 0, 84, 0, 0, 0, 89, 0, 0, 0, 94, 0, 0, 0, 107, 0, 0, 0, 123, 0, 0, 0, 128]
abbrev dktX2_about_1 : List UInt8 := dkwX2_about_1 ++ dktX2_about_2
def dkwX2_about_0 : List UInt8 := [27]
abbrev dktX2_about_0 : List UInt8 := dkwX2_about_0 ++ dktX2_about_1
theorem dksX2_about_0 : cX2_about.data.toList.drop 0 = dktX2_about_0 := by decide +kernel
theorem dksX2_about_1 : cX2_about.data.toList.drop 1 = dktX2_about_1 := dk_seg dksX2_about_0 1 rfl rfl
theorem dksX2_about_2 : cX2_about.data.toList.drop 60 = dktX2_about_2 := dk_seg dksX2_about_1 59 rfl rfl
theorem dksX2_about_3 : cX2_about.data.toList.drop 84 = dktX2_about_3 := dk_seg dksX2_about_2 24 rfl rfl
theorem dksX2_about_4 : cX2_about.data.toList.drop 108 = dktX2_about_4 := dk_seg dksX2_about_3 24 rfl rfl
theorem dksX2_about_5 : cX2_about.data.toList.drop 130 = dktX2_about_5 := dk_seg dksX2_about_4 22 rfl rfl
theorem dX2_about_0 : decode cX2_about 0 = .ok (.iload_n 1, 1) := dk_27 (dk_at dksX2_about_0 0 rfl rfl)
theorem dX2_about_1 : decode cX2_about 1 = .ok (.tableswitch 133 0 10 #[59, 64, 69, 74, 79, 84, 89, 94, 107, 123, 128], 59) := by decide +kernel
theorem dX2_about_60 : decode cX2_about 60 = .ok (.aload_n 0, 1) := dk_42 (dk_at dksX2_about_2 0 rfl rfl)
theorem dX2_about_61 : decode cX2_about 61 = .ok (.getfield 140, 3) := dk_180 0 140 (dk_at dksX2_about_2 1 rfl rfl)
theorem dX2_about_64 : decode cX2_about 64 = .ok (.ireturn, 1) := dk_172 (dk_at dksX2_about_2 4 rfl rfl)
theorem dX2_about_65 : decode cX2_about 65 = .ok (.aload_n 0, 1) := dk_42 (dk_at dksX2_about_2 5 rfl rfl)
theorem dX2_about_66 : decode cX2_about 66 = .ok (.getfield 203, 3) := dk_180 0 203 (dk_at dksX2_about_2 6 rfl rfl)
theorem dX2_about_69 : decode cX2_about 69 = .ok (.ireturn, 1) := dk_172 (dk_at dksX2_about_2 9 rfl rfl)
theorem dX2_about_70 : decode cX2_about 70 = .ok (.aload_n 0, 1) := dk_42 (dk_at dksX2_about_2 10 rfl rfl)
theorem dX2_about_71 : decode cX2_about 71 = .ok (.getfield 85, 3) := dk_180 0 85 (dk_at dksX2_about_2 11 rfl rfl)
theorem dX2_about_74 : decode cX2_about 74 = .ok (.ireturn, 1) := dk_172 (dk_at dksX2_about_2 14 rfl rfl)
theorem dX2_about_75 : decode cX2_about 75 = .ok (.aload_n 0, 1) := dk_42 (dk_at dksX2_about_2 15 rfl rfl)
theorem dX2_about_76 : decode cX2_about 76 = .ok (.getfield 238, 3) := dk_180 0 238 (dk_at dksX2_about_2 16 rfl rfl)
theorem dX2_about_79 : decode cX2_about 79 = .ok (.ireturn, 1) := dk_172 (dk_at dksX2_about_2 19 rfl rfl)
theorem dX2_about_80 : decode cX2_about 80 = .ok (.aload_n 0, 1) := dk_42 (dk_at dksX2_about_2 20 rfl rfl)
theorem dX2_about_81 : decode cX2_about 81 = .ok (.getfield 298, 3) := dk_180 1 42 (dk_at dksX2_about_2 21 rfl rfl)
theorem dX2_about_84 : decode cX2_about 84 = .ok (.ireturn, 1) := dk_172 (dk_at dksX2_about_3 0 rfl rfl)
theorem dX2_about_85 : decode cX2_about 85 = .ok (.aload_n 0, 1) := dk_42 (dk_at dksX2_about_3 1 rfl rfl)
theorem dX2_about_86 : decode cX2_about 86 = .ok (.getfield 226, 3) := dk_180 0 226 (dk_at dksX2_about_3 2 rfl rfl)
theorem dX2_about_89 : decode cX2_about 89 = .ok (.ireturn, 1) := dk_172 (dk_at dksX2_about_3 5 rfl rfl)
theorem dX2_about_90 : decode cX2_about 90 = .ok (.aload_n 0, 1) := dk_42 (dk_at dksX2_about_3 6 rfl rfl)
theorem dX2_about_91 : decode cX2_about 91 = .ok (.getfield 229, 3) := dk_180 0 229 (dk_at dksX2_about_3 7 rfl rfl)
theorem dX2_about_94 : decode cX2_about 94 = .ok (.ireturn, 1) := dk_172 (dk_at dksX2_about_3 10 rfl rfl)
theorem dX2_about_95 : decode cX2_about 95 = .ok (.aload_n 0, 1) := dk_42 (dk_at dksX2_about_3 11 rfl rfl)
theorem dX2_about_96 : decode cX2_about 96 = .ok (.getfield 159, 3) := dk_180 0 159 (dk_at dksX2_about_3 12 rfl rfl)
theorem dX2_about_99 : decode cX2_about 99 = .ok (.ifCond .eq 7, 3) := dk_153 0 7 (dk_at dksX2_about_3 15 rfl rfl)
theorem dX2_about_102 : decode cX2_about 102 = .ok (.iconst 1, 1) := dk_4 (dk_at dksX2_about_3 18 rfl rfl)
theorem dX2_about_103 : decode cX2_about 103 = .ok (.goto 4, 3) := dk_167 0 4 (dk_at dksX2_about_3 19 rfl rfl)
theorem dX2_about_106 : decode cX2_about 106 = .ok (.iconst 0, 1) := dk_3 (dk_at dksX2_about_3 22 rfl rfl)
theorem dX2_about_107 : decode cX2_about 107 = .ok (.ireturn, 1) := dk_172 (dk_at dksX2_about_3 23 rfl rfl)
theorem dX2_about_108 : decode cX2_about 108 = .ok (.aload_n 0, 1) := dk_42 (dk_at dksX2_about_4 0 rfl rfl)
theorem dX2_about_109 : decode cX2_about 109 = .ok (.getfield 159, 3) := dk_180 0 159 (dk_at dksX2_about_4 1 rfl rfl)
theorem dX2_about_112 : decode cX2_about 112 = .ok (.ifCond .eq 10, 3) := dk_153 0 10 (dk_at dksX2_about_4 4 rfl rfl)
theorem dX2_about_115 : decode cX2_about 115 = .ok (.aload_n 0, 1) := dk_42 (dk_at dksX2_about_4 7 rfl rfl)
theorem dX2_about_116 : decode cX2_about 116 = .ok (.getfield 244, 3) := dk_180 0 244 (dk_at dksX2_about_4 8 rfl rfl)
theorem dX2_about_119 : decode cX2_about 119 = .ok (.goto 4, 3) := dk_167 0 4 (dk_at dksX2_about_4 11 rfl rfl)
theorem dX2_about_122 : decode cX2_about 122 = .ok (.iconst 0, 1) := dk_3 (dk_at dksX2_about_4 14 rfl rfl)
theorem dX2_about_123 : decode cX2_about 123 = .ok (.ireturn, 1) := dk_172 (dk_at dksX2_about_4 15 rfl rfl)
theorem dX2_about_124 : decode cX2_about 124 = .ok (.aload_n 0, 1) := dk_42 (dk_at dksX2_about_4 16 rfl rfl)
theorem dX2_about_125 : decode cX2_about 125 = .ok (.getfield 254, 3) := dk_180 0 254 (dk_at dksX2_about_4 17 rfl rfl)
theorem dX2_about_128 : decode cX2_about 128 = .ok (.ireturn, 1) := dk_172 (dk_at dksX2_about_4 20 rfl rfl)
theorem dX2_about_129 : decode cX2_about 129 = .ok (.aload_n 0, 1) := dk_42 (dk_at dksX2_about_4 21 rfl rfl)
theorem dX2_about_130 : decode cX2_about 130 = .ok (.getfield 268, 3) := dk_180 1 12 (dk_at dksX2_about_5 0 rfl rfl)
theorem dX2_about_133 : decode cX2_about 133 = .ok (.ireturn, 1) := dk_172 (dk_at dksX2_about_5 3 rfl rfl)
theorem dX2_about_134 : decode cX2_about 134 = .ok (.bipush (-102), 2) := dk_16 154 (dk_at dksX2_about_5 4 rfl rfl)
theorem dX2_about_136 : decode cX2_about 136 = .ok (.ireturn, 1) := dk_172 (dk_at dksX2_about_5 6 rfl rfl)
abbrev cX2_digest : ByteArray := prog_14_method_57_code
def yX2_digest : MethodName := ⟨RX2, "digest", "()J"⟩
def dkwX2_digest_9 : List UInt8 := [167, 255, 237, 132, 1, 1, 167, 255, 221, 42, 42, 180, 0, 229, 133, 182, 1, 68, 42, 180, 1, 62, 173]
abbrev dktX2_digest_9 : List UInt8 := dkwX2_digest_9 ++ []
def dkwX2_digest_8 : List UInt8 := [162, 0, 33, 3, 61, 28, 8, 162, 0, 20, 42, 42, 27, 28, 182, 1, 57, 133, 182, 1, 68, 132, 2, 1]
abbrev dktX2_digest_8 : List UInt8 := dkwX2_digest_8 ++ dktX2_digest_9
def dkwX2_digest_7 : List UInt8 := [182, 1, 68, 132, 2, 1, 167, 255, 236, 132, 1, 1, 167, 255, 222, 3, 60, 27, 42, 182, 1, 54]
abbrev dktX2_digest_7 : List UInt8 := dkwX2_digest_7 ++ dktX2_digest_8
def dkwX2_digest_6 : List UInt8 := [60, 27, 16, 8, 162, 0, 34, 3, 61, 28, 16, 10, 162, 0, 20, 42, 42, 27, 28, 182, 1, 51, 133]
abbrev dktX2_digest_6 : List UInt8 := dkwX2_digest_6 ++ dktX2_digest_7
def dkwX2_digest_5 : List UInt8 := [104, 28, 96, 48, 184, 0, 189, 133, 182, 1, 68, 132, 2, 1, 167, 255, 224, 132, 1, 1, 167, 255, 163, 3]
abbrev dktX2_digest_5 : List UInt8 := dkwX2_digest_5 ++ dktX2_digest_6
def dkwX2_digest_4 : List UInt8 := [133, 182, 1, 68, 3, 61, 28, 42, 180, 0, 36, 27, 46, 162, 0, 28, 42, 42, 180, 0, 39, 16, 16, 27]
abbrev dktX2_digest_4 : List UInt8 := dkwX2_digest_4 ++ dktX2_digest_5
def dkwX2_digest_3 : List UInt8 := [184, 0, 199, 153, 0, 62, 42, 42, 180, 0, 33, 27, 46, 133, 182, 1, 68, 42, 42, 180, 0, 36, 27, 46]
abbrev dktX2_digest_3 : List UInt8 := dkwX2_digest_3 ++ dktX2_digest_4
def dkwX2_digest_2 : List UInt8 := [180, 0, 203, 162, 0, 91, 42, 42, 180, 0, 30, 27, 46, 133, 182, 1, 68, 42, 180, 0, 20, 27, 46]
abbrev dktX2_digest_2 : List UInt8 := dkwX2_digest_2 ++ dktX2_digest_3
def dkwX2_digest_1 : List UInt8 := [180, 0, 92, 27, 48, 184, 0, 189, 133, 182, 1, 68, 132, 1, 1, 167, 255, 228, 3, 60, 27, 42]
abbrev dktX2_digest_1 : List UInt8 := dkwX2_digest_1 ++ dktX2_digest_2
def dkwX2_digest_0 : List UInt8 := [42, 20, 1, 66, 181, 1, 62, 3, 60, 27, 16, 8, 42, 180, 0, 238, 104, 162, 0, 23, 42, 42]
abbrev dktX2_digest_0 : List UInt8 := dkwX2_digest_0 ++ dktX2_digest_1
theorem dksX2_digest_0 : cX2_digest.data.toList.drop 0 = dktX2_digest_0 := by decide +kernel
theorem dksX2_digest_1 : cX2_digest.data.toList.drop 22 = dktX2_digest_1 := dk_seg dksX2_digest_0 22 rfl rfl
theorem dksX2_digest_2 : cX2_digest.data.toList.drop 44 = dktX2_digest_2 := dk_seg dksX2_digest_1 22 rfl rfl
theorem dksX2_digest_3 : cX2_digest.data.toList.drop 67 = dktX2_digest_3 := dk_seg dksX2_digest_2 23 rfl rfl
theorem dksX2_digest_4 : cX2_digest.data.toList.drop 91 = dktX2_digest_4 := dk_seg dksX2_digest_3 24 rfl rfl
theorem dksX2_digest_5 : cX2_digest.data.toList.drop 115 = dktX2_digest_5 := dk_seg dksX2_digest_4 24 rfl rfl
theorem dksX2_digest_6 : cX2_digest.data.toList.drop 139 = dktX2_digest_6 := dk_seg dksX2_digest_5 24 rfl rfl
theorem dksX2_digest_7 : cX2_digest.data.toList.drop 162 = dktX2_digest_7 := dk_seg dksX2_digest_6 23 rfl rfl
theorem dksX2_digest_8 : cX2_digest.data.toList.drop 184 = dktX2_digest_8 := dk_seg dksX2_digest_7 22 rfl rfl
theorem dksX2_digest_9 : cX2_digest.data.toList.drop 208 = dktX2_digest_9 := dk_seg dksX2_digest_8 24 rfl rfl
theorem dX2_digest_0 : decode cX2_digest 0 = .ok (.aload_n 0, 1) := dk_42 (dk_at dksX2_digest_0 0 rfl rfl)
theorem dX2_digest_1 : decode cX2_digest 1 = .ok (.ldc2_w 322, 3) := dk_20 1 66 (dk_at dksX2_digest_0 1 rfl rfl)
theorem dX2_digest_4 : decode cX2_digest 4 = .ok (.putfield 318, 3) := dk_181 1 62 (dk_at dksX2_digest_0 4 rfl rfl)
theorem dX2_digest_7 : decode cX2_digest 7 = .ok (.iconst 0, 1) := dk_3 (dk_at dksX2_digest_0 7 rfl rfl)
theorem dX2_digest_8 : decode cX2_digest 8 = .ok (.istore_n 1, 1) := dk_60 (dk_at dksX2_digest_0 8 rfl rfl)
theorem dX2_digest_9 : decode cX2_digest 9 = .ok (.iload_n 1, 1) := dk_27 (dk_at dksX2_digest_0 9 rfl rfl)
theorem dX2_digest_10 : decode cX2_digest 10 = .ok (.bipush 8, 2) := dk_16 8 (dk_at dksX2_digest_0 10 rfl rfl)
theorem dX2_digest_12 : decode cX2_digest 12 = .ok (.aload_n 0, 1) := dk_42 (dk_at dksX2_digest_0 12 rfl rfl)
theorem dX2_digest_13 : decode cX2_digest 13 = .ok (.getfield 238, 3) := dk_180 0 238 (dk_at dksX2_digest_0 13 rfl rfl)
theorem dX2_digest_16 : decode cX2_digest 16 = .ok (.imul, 1) := dk_104 (dk_at dksX2_digest_0 16 rfl rfl)
theorem dX2_digest_17 : decode cX2_digest 17 = .ok (.if_icmp .ge 23, 3) := dk_162 0 23 (dk_at dksX2_digest_0 17 rfl rfl)
theorem dX2_digest_20 : decode cX2_digest 20 = .ok (.aload_n 0, 1) := dk_42 (dk_at dksX2_digest_0 20 rfl rfl)
theorem dX2_digest_21 : decode cX2_digest 21 = .ok (.aload_n 0, 1) := dk_42 (dk_at dksX2_digest_0 21 rfl rfl)
theorem dX2_digest_22 : decode cX2_digest 22 = .ok (.getfield 92, 3) := dk_180 0 92 (dk_at dksX2_digest_1 0 rfl rfl)
theorem dX2_digest_25 : decode cX2_digest 25 = .ok (.iload_n 1, 1) := dk_27 (dk_at dksX2_digest_1 3 rfl rfl)
theorem dX2_digest_26 : decode cX2_digest 26 = .ok (.faload, 1) := dk_48 (dk_at dksX2_digest_1 4 rfl rfl)
theorem dX2_digest_27 : decode cX2_digest 27 = .ok (.invokestatic 189, 3) := dk_184 0 189 (dk_at dksX2_digest_1 5 rfl rfl)
theorem dX2_digest_30 : decode cX2_digest 30 = .ok (.i2l, 1) := dk_133 (dk_at dksX2_digest_1 8 rfl rfl)
theorem dX2_digest_31 : decode cX2_digest 31 = .ok (.invokevirtual 324, 3) := dk_182 1 68 (dk_at dksX2_digest_1 9 rfl rfl)
theorem dX2_digest_34 : decode cX2_digest 34 = .ok (.iinc 1 1, 3) := dk_132 1 1 (dk_at dksX2_digest_1 12 rfl rfl)
theorem dX2_digest_37 : decode cX2_digest 37 = .ok (.goto (-28), 3) := dk_167 255 228 (dk_at dksX2_digest_1 15 rfl rfl)
theorem dX2_digest_40 : decode cX2_digest 40 = .ok (.iconst 0, 1) := dk_3 (dk_at dksX2_digest_1 18 rfl rfl)
theorem dX2_digest_41 : decode cX2_digest 41 = .ok (.istore_n 1, 1) := dk_60 (dk_at dksX2_digest_1 19 rfl rfl)
theorem dX2_digest_42 : decode cX2_digest 42 = .ok (.iload_n 1, 1) := dk_27 (dk_at dksX2_digest_1 20 rfl rfl)
theorem dX2_digest_43 : decode cX2_digest 43 = .ok (.aload_n 0, 1) := dk_42 (dk_at dksX2_digest_1 21 rfl rfl)
theorem dX2_digest_44 : decode cX2_digest 44 = .ok (.getfield 203, 3) := dk_180 0 203 (dk_at dksX2_digest_2 0 rfl rfl)
theorem dX2_digest_47 : decode cX2_digest 47 = .ok (.if_icmp .ge 91, 3) := dk_162 0 91 (dk_at dksX2_digest_2 3 rfl rfl)
theorem dX2_digest_50 : decode cX2_digest 50 = .ok (.aload_n 0, 1) := dk_42 (dk_at dksX2_digest_2 6 rfl rfl)
theorem dX2_digest_51 : decode cX2_digest 51 = .ok (.aload_n 0, 1) := dk_42 (dk_at dksX2_digest_2 7 rfl rfl)
theorem dX2_digest_52 : decode cX2_digest 52 = .ok (.getfield 30, 3) := dk_180 0 30 (dk_at dksX2_digest_2 8 rfl rfl)
theorem dX2_digest_55 : decode cX2_digest 55 = .ok (.iload_n 1, 1) := dk_27 (dk_at dksX2_digest_2 11 rfl rfl)
theorem dX2_digest_56 : decode cX2_digest 56 = .ok (.iaload, 1) := dk_46 (dk_at dksX2_digest_2 12 rfl rfl)
theorem dX2_digest_57 : decode cX2_digest 57 = .ok (.i2l, 1) := dk_133 (dk_at dksX2_digest_2 13 rfl rfl)
theorem dX2_digest_58 : decode cX2_digest 58 = .ok (.invokevirtual 324, 3) := dk_182 1 68 (dk_at dksX2_digest_2 14 rfl rfl)
theorem dX2_digest_61 : decode cX2_digest 61 = .ok (.aload_n 0, 1) := dk_42 (dk_at dksX2_digest_2 17 rfl rfl)
theorem dX2_digest_62 : decode cX2_digest 62 = .ok (.getfield 20, 3) := dk_180 0 20 (dk_at dksX2_digest_2 18 rfl rfl)
theorem dX2_digest_65 : decode cX2_digest 65 = .ok (.iload_n 1, 1) := dk_27 (dk_at dksX2_digest_2 21 rfl rfl)
theorem dX2_digest_66 : decode cX2_digest 66 = .ok (.iaload, 1) := dk_46 (dk_at dksX2_digest_2 22 rfl rfl)
theorem dX2_digest_67 : decode cX2_digest 67 = .ok (.invokestatic 199, 3) := dk_184 0 199 (dk_at dksX2_digest_3 0 rfl rfl)
theorem dX2_digest_70 : decode cX2_digest 70 = .ok (.ifCond .eq 62, 3) := dk_153 0 62 (dk_at dksX2_digest_3 3 rfl rfl)
theorem dX2_digest_73 : decode cX2_digest 73 = .ok (.aload_n 0, 1) := dk_42 (dk_at dksX2_digest_3 6 rfl rfl)
theorem dX2_digest_74 : decode cX2_digest 74 = .ok (.aload_n 0, 1) := dk_42 (dk_at dksX2_digest_3 7 rfl rfl)
theorem dX2_digest_75 : decode cX2_digest 75 = .ok (.getfield 33, 3) := dk_180 0 33 (dk_at dksX2_digest_3 8 rfl rfl)
theorem dX2_digest_78 : decode cX2_digest 78 = .ok (.iload_n 1, 1) := dk_27 (dk_at dksX2_digest_3 11 rfl rfl)
theorem dX2_digest_79 : decode cX2_digest 79 = .ok (.iaload, 1) := dk_46 (dk_at dksX2_digest_3 12 rfl rfl)
theorem dX2_digest_80 : decode cX2_digest 80 = .ok (.i2l, 1) := dk_133 (dk_at dksX2_digest_3 13 rfl rfl)
theorem dX2_digest_81 : decode cX2_digest 81 = .ok (.invokevirtual 324, 3) := dk_182 1 68 (dk_at dksX2_digest_3 14 rfl rfl)
theorem dX2_digest_84 : decode cX2_digest 84 = .ok (.aload_n 0, 1) := dk_42 (dk_at dksX2_digest_3 17 rfl rfl)
theorem dX2_digest_85 : decode cX2_digest 85 = .ok (.aload_n 0, 1) := dk_42 (dk_at dksX2_digest_3 18 rfl rfl)
theorem dX2_digest_86 : decode cX2_digest 86 = .ok (.getfield 36, 3) := dk_180 0 36 (dk_at dksX2_digest_3 19 rfl rfl)
theorem dX2_digest_89 : decode cX2_digest 89 = .ok (.iload_n 1, 1) := dk_27 (dk_at dksX2_digest_3 22 rfl rfl)
theorem dX2_digest_90 : decode cX2_digest 90 = .ok (.iaload, 1) := dk_46 (dk_at dksX2_digest_3 23 rfl rfl)
theorem dX2_digest_91 : decode cX2_digest 91 = .ok (.i2l, 1) := dk_133 (dk_at dksX2_digest_4 0 rfl rfl)
theorem dX2_digest_92 : decode cX2_digest 92 = .ok (.invokevirtual 324, 3) := dk_182 1 68 (dk_at dksX2_digest_4 1 rfl rfl)
theorem dX2_digest_95 : decode cX2_digest 95 = .ok (.iconst 0, 1) := dk_3 (dk_at dksX2_digest_4 4 rfl rfl)
theorem dX2_digest_96 : decode cX2_digest 96 = .ok (.istore_n 2, 1) := dk_61 (dk_at dksX2_digest_4 5 rfl rfl)
theorem dX2_digest_97 : decode cX2_digest 97 = .ok (.iload_n 2, 1) := dk_28 (dk_at dksX2_digest_4 6 rfl rfl)
theorem dX2_digest_98 : decode cX2_digest 98 = .ok (.aload_n 0, 1) := dk_42 (dk_at dksX2_digest_4 7 rfl rfl)
theorem dX2_digest_99 : decode cX2_digest 99 = .ok (.getfield 36, 3) := dk_180 0 36 (dk_at dksX2_digest_4 8 rfl rfl)
theorem dX2_digest_102 : decode cX2_digest 102 = .ok (.iload_n 1, 1) := dk_27 (dk_at dksX2_digest_4 11 rfl rfl)
theorem dX2_digest_103 : decode cX2_digest 103 = .ok (.iaload, 1) := dk_46 (dk_at dksX2_digest_4 12 rfl rfl)
theorem dX2_digest_104 : decode cX2_digest 104 = .ok (.if_icmp .ge 28, 3) := dk_162 0 28 (dk_at dksX2_digest_4 13 rfl rfl)
theorem dX2_digest_107 : decode cX2_digest 107 = .ok (.aload_n 0, 1) := dk_42 (dk_at dksX2_digest_4 16 rfl rfl)
theorem dX2_digest_108 : decode cX2_digest 108 = .ok (.aload_n 0, 1) := dk_42 (dk_at dksX2_digest_4 17 rfl rfl)
theorem dX2_digest_109 : decode cX2_digest 109 = .ok (.getfield 39, 3) := dk_180 0 39 (dk_at dksX2_digest_4 18 rfl rfl)
theorem dX2_digest_112 : decode cX2_digest 112 = .ok (.bipush 16, 2) := dk_16 16 (dk_at dksX2_digest_4 21 rfl rfl)
theorem dX2_digest_114 : decode cX2_digest 114 = .ok (.iload_n 1, 1) := dk_27 (dk_at dksX2_digest_4 23 rfl rfl)
theorem dX2_digest_115 : decode cX2_digest 115 = .ok (.imul, 1) := dk_104 (dk_at dksX2_digest_5 0 rfl rfl)
theorem dX2_digest_116 : decode cX2_digest 116 = .ok (.iload_n 2, 1) := dk_28 (dk_at dksX2_digest_5 1 rfl rfl)
theorem dX2_digest_117 : decode cX2_digest 117 = .ok (.iadd, 1) := dk_96 (dk_at dksX2_digest_5 2 rfl rfl)
theorem dX2_digest_118 : decode cX2_digest 118 = .ok (.faload, 1) := dk_48 (dk_at dksX2_digest_5 3 rfl rfl)
theorem dX2_digest_119 : decode cX2_digest 119 = .ok (.invokestatic 189, 3) := dk_184 0 189 (dk_at dksX2_digest_5 4 rfl rfl)
theorem dX2_digest_122 : decode cX2_digest 122 = .ok (.i2l, 1) := dk_133 (dk_at dksX2_digest_5 7 rfl rfl)
theorem dX2_digest_123 : decode cX2_digest 123 = .ok (.invokevirtual 324, 3) := dk_182 1 68 (dk_at dksX2_digest_5 8 rfl rfl)
theorem dX2_digest_126 : decode cX2_digest 126 = .ok (.iinc 2 1, 3) := dk_132 2 1 (dk_at dksX2_digest_5 11 rfl rfl)
theorem dX2_digest_129 : decode cX2_digest 129 = .ok (.goto (-32), 3) := dk_167 255 224 (dk_at dksX2_digest_5 14 rfl rfl)
theorem dX2_digest_132 : decode cX2_digest 132 = .ok (.iinc 1 1, 3) := dk_132 1 1 (dk_at dksX2_digest_5 17 rfl rfl)
theorem dX2_digest_135 : decode cX2_digest 135 = .ok (.goto (-93), 3) := dk_167 255 163 (dk_at dksX2_digest_5 20 rfl rfl)
theorem dX2_digest_138 : decode cX2_digest 138 = .ok (.iconst 0, 1) := dk_3 (dk_at dksX2_digest_5 23 rfl rfl)
theorem dX2_digest_139 : decode cX2_digest 139 = .ok (.istore_n 1, 1) := dk_60 (dk_at dksX2_digest_6 0 rfl rfl)
theorem dX2_digest_140 : decode cX2_digest 140 = .ok (.iload_n 1, 1) := dk_27 (dk_at dksX2_digest_6 1 rfl rfl)
theorem dX2_digest_141 : decode cX2_digest 141 = .ok (.bipush 8, 2) := dk_16 8 (dk_at dksX2_digest_6 2 rfl rfl)
theorem dX2_digest_143 : decode cX2_digest 143 = .ok (.if_icmp .ge 34, 3) := dk_162 0 34 (dk_at dksX2_digest_6 4 rfl rfl)
theorem dX2_digest_146 : decode cX2_digest 146 = .ok (.iconst 0, 1) := dk_3 (dk_at dksX2_digest_6 7 rfl rfl)
theorem dX2_digest_147 : decode cX2_digest 147 = .ok (.istore_n 2, 1) := dk_61 (dk_at dksX2_digest_6 8 rfl rfl)
theorem dX2_digest_148 : decode cX2_digest 148 = .ok (.iload_n 2, 1) := dk_28 (dk_at dksX2_digest_6 9 rfl rfl)
theorem dX2_digest_149 : decode cX2_digest 149 = .ok (.bipush 10, 2) := dk_16 10 (dk_at dksX2_digest_6 10 rfl rfl)
theorem dX2_digest_151 : decode cX2_digest 151 = .ok (.if_icmp .ge 20, 3) := dk_162 0 20 (dk_at dksX2_digest_6 12 rfl rfl)
theorem dX2_digest_154 : decode cX2_digest 154 = .ok (.aload_n 0, 1) := dk_42 (dk_at dksX2_digest_6 15 rfl rfl)
theorem dX2_digest_155 : decode cX2_digest 155 = .ok (.aload_n 0, 1) := dk_42 (dk_at dksX2_digest_6 16 rfl rfl)
theorem dX2_digest_156 : decode cX2_digest 156 = .ok (.iload_n 1, 1) := dk_27 (dk_at dksX2_digest_6 17 rfl rfl)
theorem dX2_digest_157 : decode cX2_digest 157 = .ok (.iload_n 2, 1) := dk_28 (dk_at dksX2_digest_6 18 rfl rfl)
theorem dX2_digest_158 : decode cX2_digest 158 = .ok (.invokevirtual 307, 3) := dk_182 1 51 (dk_at dksX2_digest_6 19 rfl rfl)
theorem dX2_digest_161 : decode cX2_digest 161 = .ok (.i2l, 1) := dk_133 (dk_at dksX2_digest_6 22 rfl rfl)
theorem dX2_digest_162 : decode cX2_digest 162 = .ok (.invokevirtual 324, 3) := dk_182 1 68 (dk_at dksX2_digest_7 0 rfl rfl)
theorem dX2_digest_165 : decode cX2_digest 165 = .ok (.iinc 2 1, 3) := dk_132 2 1 (dk_at dksX2_digest_7 3 rfl rfl)
theorem dX2_digest_168 : decode cX2_digest 168 = .ok (.goto (-20), 3) := dk_167 255 236 (dk_at dksX2_digest_7 6 rfl rfl)
theorem dX2_digest_171 : decode cX2_digest 171 = .ok (.iinc 1 1, 3) := dk_132 1 1 (dk_at dksX2_digest_7 9 rfl rfl)
theorem dX2_digest_174 : decode cX2_digest 174 = .ok (.goto (-34), 3) := dk_167 255 222 (dk_at dksX2_digest_7 12 rfl rfl)
theorem dX2_digest_177 : decode cX2_digest 177 = .ok (.iconst 0, 1) := dk_3 (dk_at dksX2_digest_7 15 rfl rfl)
theorem dX2_digest_178 : decode cX2_digest 178 = .ok (.istore_n 1, 1) := dk_60 (dk_at dksX2_digest_7 16 rfl rfl)
theorem dX2_digest_179 : decode cX2_digest 179 = .ok (.iload_n 1, 1) := dk_27 (dk_at dksX2_digest_7 17 rfl rfl)
theorem dX2_digest_180 : decode cX2_digest 180 = .ok (.aload_n 0, 1) := dk_42 (dk_at dksX2_digest_7 18 rfl rfl)
theorem dX2_digest_181 : decode cX2_digest 181 = .ok (.invokevirtual 310, 3) := dk_182 1 54 (dk_at dksX2_digest_7 19 rfl rfl)
theorem dX2_digest_184 : decode cX2_digest 184 = .ok (.if_icmp .ge 33, 3) := dk_162 0 33 (dk_at dksX2_digest_8 0 rfl rfl)
theorem dX2_digest_187 : decode cX2_digest 187 = .ok (.iconst 0, 1) := dk_3 (dk_at dksX2_digest_8 3 rfl rfl)
theorem dX2_digest_188 : decode cX2_digest 188 = .ok (.istore_n 2, 1) := dk_61 (dk_at dksX2_digest_8 4 rfl rfl)
theorem dX2_digest_189 : decode cX2_digest 189 = .ok (.iload_n 2, 1) := dk_28 (dk_at dksX2_digest_8 5 rfl rfl)
theorem dX2_digest_190 : decode cX2_digest 190 = .ok (.iconst 5, 1) := dk_8 (dk_at dksX2_digest_8 6 rfl rfl)
theorem dX2_digest_191 : decode cX2_digest 191 = .ok (.if_icmp .ge 20, 3) := dk_162 0 20 (dk_at dksX2_digest_8 7 rfl rfl)
theorem dX2_digest_194 : decode cX2_digest 194 = .ok (.aload_n 0, 1) := dk_42 (dk_at dksX2_digest_8 10 rfl rfl)
theorem dX2_digest_195 : decode cX2_digest 195 = .ok (.aload_n 0, 1) := dk_42 (dk_at dksX2_digest_8 11 rfl rfl)
theorem dX2_digest_196 : decode cX2_digest 196 = .ok (.iload_n 1, 1) := dk_27 (dk_at dksX2_digest_8 12 rfl rfl)
theorem dX2_digest_197 : decode cX2_digest 197 = .ok (.iload_n 2, 1) := dk_28 (dk_at dksX2_digest_8 13 rfl rfl)
theorem dX2_digest_198 : decode cX2_digest 198 = .ok (.invokevirtual 313, 3) := dk_182 1 57 (dk_at dksX2_digest_8 14 rfl rfl)
theorem dX2_digest_201 : decode cX2_digest 201 = .ok (.i2l, 1) := dk_133 (dk_at dksX2_digest_8 17 rfl rfl)
theorem dX2_digest_202 : decode cX2_digest 202 = .ok (.invokevirtual 324, 3) := dk_182 1 68 (dk_at dksX2_digest_8 18 rfl rfl)
theorem dX2_digest_205 : decode cX2_digest 205 = .ok (.iinc 2 1, 3) := dk_132 2 1 (dk_at dksX2_digest_8 21 rfl rfl)
theorem dX2_digest_208 : decode cX2_digest 208 = .ok (.goto (-19), 3) := dk_167 255 237 (dk_at dksX2_digest_9 0 rfl rfl)
theorem dX2_digest_211 : decode cX2_digest 211 = .ok (.iinc 1 1, 3) := dk_132 1 1 (dk_at dksX2_digest_9 3 rfl rfl)
theorem dX2_digest_214 : decode cX2_digest 214 = .ok (.goto (-35), 3) := dk_167 255 221 (dk_at dksX2_digest_9 6 rfl rfl)
theorem dX2_digest_217 : decode cX2_digest 217 = .ok (.aload_n 0, 1) := dk_42 (dk_at dksX2_digest_9 9 rfl rfl)
theorem dX2_digest_218 : decode cX2_digest 218 = .ok (.aload_n 0, 1) := dk_42 (dk_at dksX2_digest_9 10 rfl rfl)
theorem dX2_digest_219 : decode cX2_digest 219 = .ok (.getfield 229, 3) := dk_180 0 229 (dk_at dksX2_digest_9 11 rfl rfl)
theorem dX2_digest_222 : decode cX2_digest 222 = .ok (.i2l, 1) := dk_133 (dk_at dksX2_digest_9 14 rfl rfl)
theorem dX2_digest_223 : decode cX2_digest 223 = .ok (.invokevirtual 324, 3) := dk_182 1 68 (dk_at dksX2_digest_9 15 rfl rfl)
theorem dX2_digest_226 : decode cX2_digest 226 = .ok (.aload_n 0, 1) := dk_42 (dk_at dksX2_digest_9 18 rfl rfl)
theorem dX2_digest_227 : decode cX2_digest 227 = .ok (.getfield 318, 3) := dk_180 1 62 (dk_at dksX2_digest_9 19 rfl rfl)
theorem dX2_digest_230 : decode cX2_digest 230 = .ok (.lreturn, 1) := dk_173 (dk_at dksX2_digest_9 22 rfl rfl)
abbrev cX2_mix : ByteArray := prog_14_method_56_code
def yX2_mix : MethodName := ⟨RX2, "mix", "(J)V"⟩
def dkwX2_mix_0 : List UInt8 := [42, 20, 1, 60, 42, 180, 1, 62, 105, 31, 97, 181, 1, 62, 177]
abbrev dktX2_mix_0 : List UInt8 := dkwX2_mix_0 ++ []
theorem dksX2_mix_0 : cX2_mix.data.toList.drop 0 = dktX2_mix_0 := by decide +kernel
theorem dX2_mix_0 : decode cX2_mix 0 = .ok (.aload_n 0, 1) := dk_42 (dk_at dksX2_mix_0 0 rfl rfl)
theorem dX2_mix_1 : decode cX2_mix 1 = .ok (.ldc2_w 316, 3) := dk_20 1 60 (dk_at dksX2_mix_0 1 rfl rfl)
theorem dX2_mix_4 : decode cX2_mix 4 = .ok (.aload_n 0, 1) := dk_42 (dk_at dksX2_mix_0 4 rfl rfl)
theorem dX2_mix_5 : decode cX2_mix 5 = .ok (.getfield 318, 3) := dk_180 1 62 (dk_at dksX2_mix_0 5 rfl rfl)
theorem dX2_mix_8 : decode cX2_mix 8 = .ok (.lmul, 1) := dk_105 (dk_at dksX2_mix_0 8 rfl rfl)
theorem dX2_mix_9 : decode cX2_mix 9 = .ok (.lload_n 1, 1) := dk_31 (dk_at dksX2_mix_0 9 rfl rfl)
theorem dX2_mix_10 : decode cX2_mix 10 = .ok (.ladd, 1) := dk_97 (dk_at dksX2_mix_0 10 rfl rfl)
theorem dX2_mix_11 : decode cX2_mix 11 = .ok (.putfield 318, 3) := dk_181 1 62 (dk_at dksX2_mix_0 11 rfl rfl)
theorem dX2_mix_14 : decode cX2_mix 14 = .ok (.return_, 1) := dk_177 (dk_at dksX2_mix_0 14 rfl rfl)
theorem q54 : (Jvm.Cond.initialized "ScoreThreadsModel") ∈ lw_all := lw_g (lw_at lw_m1 3 rfl) rfl
theorem q927 : (Jvm.Cond.instantiable "ScoreThreadsModel" (53 : Nat)) ∈ lw_all := lw_g (lw_at lw_m4 156 rfl) rfl
theorem q929 : (Jvm.Cond.instanceMethod ({ cls := "ScoreThreadsModel", name := "<init>", desc := "()V" } : Jvm.MethodName)) ∈ lw_all := lw_g (lw_at lw_m4 158 rfl) rfl
theorem q930 : (Jvm.Cond.code ({ cls := "ScoreThreadsModel", name := "<init>", desc := "()V" } : Jvm.MethodName) prog_14_method_1_code (2 : Nat) (Option.none : Option Jvm.ClassFile.FieldType)) ∈ lw_all := lw_g (lw_at lw_m4 159 rfl) rfl
theorem q931 : (Jvm.Cond.methodLink "ScoreThreadsModel" (1 : Nat) ({ cls := "java/lang/Object", name := "<init>", desc := "()V" } : Jvm.MethodName)) ∈ lw_all := lw_g (lw_at lw_m4 160 rfl) rfl
theorem q932 : (Jvm.Cond.fieldLink "ScoreThreadsModel" (140 : Nat) "ScoreThreadsModel" "clips" "I") ∈ lw_all := lw_g (lw_at lw_m4 161 rfl) rfl
theorem q933 : (Jvm.Cond.fieldLink "ScoreThreadsModel" (7 : Nat) "ScoreThreadsModel" "laneOf" "[I") ∈ lw_all := lw_g (lw_at lw_m4 162 rfl) rfl
theorem q934 : (Jvm.Cond.fieldLink "ScoreThreadsModel" (13 : Nat) "ScoreThreadsModel" "lengthOf" "[I") ∈ lw_all := lw_g (lw_at lw_m4 163 rfl) rfl
theorem q935 : (Jvm.Cond.fieldLink "ScoreThreadsModel" (16 : Nat) "ScoreThreadsModel" "numbers" "[J") ∈ lw_all := lw_g (lw_at lw_m4 164 rfl) rfl
theorem q936 : (Jvm.Cond.fieldLink "ScoreThreadsModel" (203 : Nat) "ScoreThreadsModel" "plugs" "I") ∈ lw_all := lw_g (lw_at lw_m4 165 rfl) rfl
theorem q937 : (Jvm.Cond.fieldLink "ScoreThreadsModel" (20 : Nat) "ScoreThreadsModel" "kindOf" "[I") ∈ lw_all := lw_g (lw_at lw_m4 166 rfl) rfl
theorem q938 : (Jvm.Cond.fieldLink "ScoreThreadsModel" (23 : Nat) "ScoreThreadsModel" "factor" "[F") ∈ lw_all := lw_g (lw_at lw_m4 167 rfl) rfl
theorem q939 : (Jvm.Cond.fieldLink "ScoreThreadsModel" (27 : Nat) "ScoreThreadsModel" "whole" "[I") ∈ lw_all := lw_g (lw_at lw_m4 168 rfl) rfl
theorem q940 : (Jvm.Cond.fieldLink "ScoreThreadsModel" (30 : Nat) "ScoreThreadsModel" "often" "[I") ∈ lw_all := lw_g (lw_at lw_m4 169 rfl) rfl
theorem q941 : (Jvm.Cond.fieldLink "ScoreThreadsModel" (33 : Nat) "ScoreThreadsModel" "at" "[I") ∈ lw_all := lw_g (lw_at lw_m4 170 rfl) rfl
theorem q942 : (Jvm.Cond.fieldLink "ScoreThreadsModel" (36 : Nat) "ScoreThreadsModel" "lineOf" "[I") ∈ lw_all := lw_g (lw_at lw_m4 171 rfl) rfl
theorem q943 : (Jvm.Cond.fieldLink "ScoreThreadsModel" (39 : Nat) "ScoreThreadsModel" "line" "[F") ∈ lw_all := lw_g (lw_at lw_m4 172 rfl) rfl
theorem q944 : (Jvm.Cond.fieldLink "ScoreThreadsModel" (42 : Nat) "ScoreThreadsModel" "keptLine" "[F") ∈ lw_all := lw_g (lw_at lw_m4 173 rfl) rfl
theorem q945 : (Jvm.Cond.fieldLink "ScoreThreadsModel" (45 : Nat) "ScoreThreadsModel" "isOn" "[Z") ∈ lw_all := lw_g (lw_at lw_m4 174 rfl) rfl
theorem q946 : (Jvm.Cond.fieldLink "ScoreThreadsModel" (49 : Nat) "ScoreThreadsModel" "clipOf" "[I") ∈ lw_all := lw_g (lw_at lw_m4 175 rfl) rfl
theorem q947 : (Jvm.Cond.fieldLink "ScoreThreadsModel" (52 : Nat) "ScoreThreadsModel" "startOf" "[I") ∈ lw_all := lw_g (lw_at lw_m4 176 rfl) rfl
theorem q948 : (Jvm.Cond.fieldLink "ScoreThreadsModel" (55 : Nat) "ScoreThreadsModel" "isStrict" "[Z") ∈ lw_all := lw_g (lw_at lw_m4 177 rfl) rfl
theorem q949 : (Jvm.Cond.fieldLink "ScoreThreadsModel" (58 : Nat) "ScoreThreadsModel" "levelOf" "[F") ∈ lw_all := lw_g (lw_at lw_m4 178 rfl) rfl
theorem q950 : (Jvm.Cond.fieldLink "ScoreThreadsModel" (61 : Nat) "ScoreThreadsModel" "isPure" "[Z") ∈ lw_all := lw_g (lw_at lw_m4 179 rfl) rfl
theorem q951 : (Jvm.Cond.fieldLink "ScoreThreadsModel" (64 : Nat) "ScoreThreadsModel" "chains" "[I") ∈ lw_all := lw_g (lw_at lw_m4 180 rfl) rfl
theorem q952 : (Jvm.Cond.fieldLink "ScoreThreadsModel" (67 : Nat) "ScoreThreadsModel" "states" "[I") ∈ lw_all := lw_g (lw_at lw_m4 181 rfl) rfl
theorem q953 : (Jvm.Cond.fieldLink "ScoreThreadsModel" (70 : Nat) "ScoreThreadsModel" "goesOn" "[I") ∈ lw_all := lw_g (lw_at lw_m4 182 rfl) rfl
theorem q954 : (Jvm.Cond.fieldLink "ScoreThreadsModel" (73 : Nat) "ScoreThreadsModel" "times" "[I") ∈ lw_all := lw_g (lw_at lw_m4 183 rfl) rfl
theorem q955 : (Jvm.Cond.fieldLink "ScoreThreadsModel" (76 : Nat) "ScoreThreadsModel" "failedAt" "[I") ∈ lw_all := lw_g (lw_at lw_m4 184 rfl) rfl
theorem q956 : (Jvm.Cond.fieldLink "ScoreThreadsModel" (79 : Nat) "ScoreThreadsModel" "failedBy" "[I") ∈ lw_all := lw_g (lw_at lw_m4 185 rfl) rfl
theorem q957 : (Jvm.Cond.fieldLink "ScoreThreadsModel" (82 : Nat) "ScoreThreadsModel" "samples" "[F") ∈ lw_all := lw_g (lw_at lw_m4 186 rfl) rfl
theorem q958 : (Jvm.Cond.fieldLink "ScoreThreadsModel" (85 : Nat) "ScoreThreadsModel" "workers" "I") ∈ lw_all := lw_g (lw_at lw_m4 187 rfl) rfl
theorem q959 : (Jvm.Cond.fieldLink "ScoreThreadsModel" (89 : Nat) "ScoreThreadsModel" "trackOf" "[I") ∈ lw_all := lw_g (lw_at lw_m4 188 rfl) rfl
theorem q960 : (Jvm.Cond.fieldLink "ScoreThreadsModel" (159 : Nat) "ScoreThreadsModel" "isRunning" "Z") ∈ lw_all := lw_g (lw_at lw_m4 189 rfl) rfl
theorem q961 : (Jvm.Cond.fieldLink "ScoreThreadsModel" (241 : Nat) "ScoreThreadsModel" "isToStop" "Z") ∈ lw_all := lw_g (lw_at lw_m4 190 rfl) rfl
theorem q962 : (Jvm.Cond.fieldLink "ScoreThreadsModel" (244 : Nat) "ScoreThreadsModel" "left" "I") ∈ lw_all := lw_g (lw_at lw_m4 191 rfl) rfl
theorem q963 : (Jvm.Cond.fieldLink "ScoreThreadsModel" (238 : Nat) "ScoreThreadsModel" "rendered" "I") ∈ lw_all := lw_g (lw_at lw_m4 192 rfl) rfl
theorem q964 : (Jvm.Cond.fieldLink "ScoreThreadsModel" (92 : Nat) "ScoreThreadsModel" "outs" "[F") ∈ lw_all := lw_g (lw_at lw_m4 193 rfl) rfl
theorem q965 : (Jvm.Cond.fieldLink "ScoreThreadsModel" (298 : Nat) "ScoreThreadsModel" "faults" "I") ∈ lw_all := lw_g (lw_at lw_m4 194 rfl) rfl
theorem q966 : (Jvm.Cond.fieldLink "ScoreThreadsModel" (95 : Nat) "ScoreThreadsModel" "faultTrack" "[I") ∈ lw_all := lw_g (lw_at lw_m4 195 rfl) rfl
theorem q967 : (Jvm.Cond.fieldLink "ScoreThreadsModel" (98 : Nat) "ScoreThreadsModel" "faultBlock" "[I") ∈ lw_all := lw_g (lw_at lw_m4 196 rfl) rfl
theorem q968 : (Jvm.Cond.fieldLink "ScoreThreadsModel" (101 : Nat) "ScoreThreadsModel" "faultPlace" "[I") ∈ lw_all := lw_g (lw_at lw_m4 197 rfl) rfl
theorem q969 : (Jvm.Cond.fieldLink "ScoreThreadsModel" (104 : Nat) "ScoreThreadsModel" "faultBy" "[I") ∈ lw_all := lw_g (lw_at lw_m4 198 rfl) rfl
theorem q970 : (Jvm.Cond.fieldLink "ScoreThreadsModel" (107 : Nat) "ScoreThreadsModel" "faultTime" "[I") ∈ lw_all := lw_g (lw_at lw_m4 199 rfl) rfl
theorem q971 : (Jvm.Cond.fieldLink "ScoreThreadsModel" (226 : Nat) "ScoreThreadsModel" "queued" "I") ∈ lw_all := lw_g (lw_at lw_m4 200 rfl) rfl
theorem q972 : (Jvm.Cond.fieldLink "ScoreThreadsModel" (110 : Nat) "ScoreThreadsModel" "queueWhat" "[I") ∈ lw_all := lw_g (lw_at lw_m4 201 rfl) rfl
theorem q973 : (Jvm.Cond.fieldLink "ScoreThreadsModel" (113 : Nat) "ScoreThreadsModel" "queueA" "[I") ∈ lw_all := lw_g (lw_at lw_m4 202 rfl) rfl
theorem q974 : (Jvm.Cond.fieldLink "ScoreThreadsModel" (116 : Nat) "ScoreThreadsModel" "queueB" "[I") ∈ lw_all := lw_g (lw_at lw_m4 203 rfl) rfl
theorem q975 : (Jvm.Cond.fieldLink "ScoreThreadsModel" (119 : Nat) "ScoreThreadsModel" "queueC" "[I") ∈ lw_all := lw_g (lw_at lw_m4 204 rfl) rfl
theorem q976 : (Jvm.Cond.fieldLink "ScoreThreadsModel" (122 : Nat) "ScoreThreadsModel" "queueD" "[I") ∈ lw_all := lw_g (lw_at lw_m4 205 rfl) rfl
theorem q977 : (Jvm.Cond.fieldLink "ScoreThreadsModel" (229 : Nat) "ScoreThreadsModel" "edits" "I") ∈ lw_all := lw_g (lw_at lw_m4 206 rfl) rfl
theorem q978 : (Jvm.Cond.fieldLink "ScoreThreadsModel" (254 : Nat) "ScoreThreadsModel" "steps" "I") ∈ lw_all := lw_g (lw_at lw_m4 207 rfl) rfl
theorem q979 : (Jvm.Cond.fieldLink "ScoreThreadsModel" (268 : Nat) "ScoreThreadsModel" "waits" "I") ∈ lw_all := lw_g (lw_at lw_m4 208 rfl) rfl
theorem q980 : (Jvm.Cond.fieldLink "ScoreThreadsModel" (125 : Nat) "ScoreThreadsModel" "founds" "[I") ∈ lw_all := lw_g (lw_at lw_m4 209 rfl) rfl
theorem q981 : (Jvm.Cond.fieldLink "ScoreThreadsModel" (210 : Nat) "ScoreThreadsModel" "met" "I") ∈ lw_all := lw_g (lw_at lw_m4 210 rfl) rfl
theorem q982 : (Jvm.Cond.fieldLink "ScoreThreadsModel" (128 : Nat) "ScoreThreadsModel" "kept" "[F") ∈ lw_all := lw_g (lw_at lw_m4 211 rfl) rfl
theorem q983 : (Jvm.Cond.fieldLink "ScoreThreadsModel" (131 : Nat) "ScoreThreadsModel" "sums" "[F") ∈ lw_all := lw_g (lw_at lw_m4 212 rfl) rfl
theorem q984 : (Jvm.Cond.fieldLink "ScoreThreadsModel" (318 : Nat) "ScoreThreadsModel" "h" "J") ∈ lw_all := lw_g (lw_at lw_m4 213 rfl) rfl
theorem q985 : (Jvm.Cond.lays "ScoreThreadsModel" "ScoreThreadsModel" "clips" "I") ∈ lw_all := lw_g (lw_at lw_m4 214 rfl) rfl
theorem q986 : (Jvm.Cond.soleField "ScoreThreadsModel" "clips") ∈ lw_all := lw_g (lw_at lw_m4 215 rfl) rfl
theorem q987 : (Jvm.Cond.laysFinal "ScoreThreadsModel" "ScoreThreadsModel" "laneOf" "[I") ∈ lw_all := lw_g (lw_at lw_m4 216 rfl) rfl
theorem q988 : (Jvm.Cond.soleField "ScoreThreadsModel" "laneOf") ∈ lw_all := lw_g (lw_at lw_m4 217 rfl) rfl
theorem q989 : (Jvm.Cond.laysFinal "ScoreThreadsModel" "ScoreThreadsModel" "lengthOf" "[I") ∈ lw_all := lw_g (lw_at lw_m4 218 rfl) rfl
theorem q990 : (Jvm.Cond.soleField "ScoreThreadsModel" "lengthOf") ∈ lw_all := lw_g (lw_at lw_m4 219 rfl) rfl
theorem q991 : (Jvm.Cond.laysFinal "ScoreThreadsModel" "ScoreThreadsModel" "numbers" "[J") ∈ lw_all := lw_g (lw_at lw_m4 220 rfl) rfl
theorem q992 : (Jvm.Cond.soleField "ScoreThreadsModel" "numbers") ∈ lw_all := lw_g (lw_at lw_m4 221 rfl) rfl
theorem q993 : (Jvm.Cond.lays "ScoreThreadsModel" "ScoreThreadsModel" "plugs" "I") ∈ lw_all := lw_g (lw_at lw_m4 222 rfl) rfl
theorem q994 : (Jvm.Cond.soleField "ScoreThreadsModel" "plugs") ∈ lw_all := lw_g (lw_at lw_m4 223 rfl) rfl
theorem q995 : (Jvm.Cond.laysFinal "ScoreThreadsModel" "ScoreThreadsModel" "kindOf" "[I") ∈ lw_all := lw_g (lw_at lw_m4 224 rfl) rfl
theorem q996 : (Jvm.Cond.soleField "ScoreThreadsModel" "kindOf") ∈ lw_all := lw_g (lw_at lw_m4 225 rfl) rfl
theorem q997 : (Jvm.Cond.laysFinal "ScoreThreadsModel" "ScoreThreadsModel" "factor" "[F") ∈ lw_all := lw_g (lw_at lw_m4 226 rfl) rfl
theorem q998 : (Jvm.Cond.soleField "ScoreThreadsModel" "factor") ∈ lw_all := lw_g (lw_at lw_m4 227 rfl) rfl
theorem q999 : (Jvm.Cond.laysFinal "ScoreThreadsModel" "ScoreThreadsModel" "whole" "[I") ∈ lw_all := lw_g (lw_at lw_m4 228 rfl) rfl
theorem q1000 : (Jvm.Cond.soleField "ScoreThreadsModel" "whole") ∈ lw_all := lw_g (lw_at lw_m4 229 rfl) rfl
theorem q1001 : (Jvm.Cond.laysFinal "ScoreThreadsModel" "ScoreThreadsModel" "often" "[I") ∈ lw_all := lw_g (lw_at lw_m4 230 rfl) rfl
theorem q1002 : (Jvm.Cond.soleField "ScoreThreadsModel" "often") ∈ lw_all := lw_g (lw_at lw_m4 231 rfl) rfl
theorem q1003 : (Jvm.Cond.laysFinal "ScoreThreadsModel" "ScoreThreadsModel" "at" "[I") ∈ lw_all := lw_g (lw_at lw_m4 232 rfl) rfl
theorem q1004 : (Jvm.Cond.soleField "ScoreThreadsModel" "at") ∈ lw_all := lw_g (lw_at lw_m4 233 rfl) rfl
theorem q1005 : (Jvm.Cond.laysFinal "ScoreThreadsModel" "ScoreThreadsModel" "lineOf" "[I") ∈ lw_all := lw_g (lw_at lw_m4 234 rfl) rfl
theorem q1006 : (Jvm.Cond.soleField "ScoreThreadsModel" "lineOf") ∈ lw_all := lw_g (lw_at lw_m4 235 rfl) rfl
theorem q1007 : (Jvm.Cond.laysFinal "ScoreThreadsModel" "ScoreThreadsModel" "line" "[F") ∈ lw_all := lw_g (lw_at lw_m4 236 rfl) rfl
theorem q1008 : (Jvm.Cond.soleField "ScoreThreadsModel" "line") ∈ lw_all := lw_g (lw_at lw_m4 237 rfl) rfl
theorem q1009 : (Jvm.Cond.laysFinal "ScoreThreadsModel" "ScoreThreadsModel" "keptLine" "[F") ∈ lw_all := lw_g (lw_at lw_m4 238 rfl) rfl
theorem q1010 : (Jvm.Cond.soleField "ScoreThreadsModel" "keptLine") ∈ lw_all := lw_g (lw_at lw_m4 239 rfl) rfl
theorem q1011 : (Jvm.Cond.laysFinal "ScoreThreadsModel" "ScoreThreadsModel" "isOn" "[Z") ∈ lw_all := lw_g (lw_at lw_m5 0 rfl) rfl
theorem q1012 : (Jvm.Cond.soleField "ScoreThreadsModel" "isOn") ∈ lw_all := lw_g (lw_at lw_m5 1 rfl) rfl
theorem q1013 : (Jvm.Cond.laysFinal "ScoreThreadsModel" "ScoreThreadsModel" "clipOf" "[I") ∈ lw_all := lw_g (lw_at lw_m5 2 rfl) rfl
theorem q1014 : (Jvm.Cond.soleField "ScoreThreadsModel" "clipOf") ∈ lw_all := lw_g (lw_at lw_m5 3 rfl) rfl
theorem q1015 : (Jvm.Cond.laysFinal "ScoreThreadsModel" "ScoreThreadsModel" "startOf" "[I") ∈ lw_all := lw_g (lw_at lw_m5 4 rfl) rfl
theorem q1016 : (Jvm.Cond.soleField "ScoreThreadsModel" "startOf") ∈ lw_all := lw_g (lw_at lw_m5 5 rfl) rfl
theorem q1017 : (Jvm.Cond.laysFinal "ScoreThreadsModel" "ScoreThreadsModel" "isStrict" "[Z") ∈ lw_all := lw_g (lw_at lw_m5 6 rfl) rfl
theorem q1018 : (Jvm.Cond.soleField "ScoreThreadsModel" "isStrict") ∈ lw_all := lw_g (lw_at lw_m5 7 rfl) rfl
theorem q1019 : (Jvm.Cond.laysFinal "ScoreThreadsModel" "ScoreThreadsModel" "levelOf" "[F") ∈ lw_all := lw_g (lw_at lw_m5 8 rfl) rfl
theorem q1020 : (Jvm.Cond.soleField "ScoreThreadsModel" "levelOf") ∈ lw_all := lw_g (lw_at lw_m5 9 rfl) rfl
theorem q1021 : (Jvm.Cond.laysFinal "ScoreThreadsModel" "ScoreThreadsModel" "isPure" "[Z") ∈ lw_all := lw_g (lw_at lw_m5 10 rfl) rfl
theorem q1022 : (Jvm.Cond.soleField "ScoreThreadsModel" "isPure") ∈ lw_all := lw_g (lw_at lw_m5 11 rfl) rfl
theorem q1023 : (Jvm.Cond.laysFinal "ScoreThreadsModel" "ScoreThreadsModel" "chains" "[I") ∈ lw_all := lw_g (lw_at lw_m5 12 rfl) rfl
theorem q1024 : (Jvm.Cond.soleField "ScoreThreadsModel" "chains") ∈ lw_all := lw_g (lw_at lw_m5 13 rfl) rfl
theorem q1025 : (Jvm.Cond.laysFinal "ScoreThreadsModel" "ScoreThreadsModel" "states" "[I") ∈ lw_all := lw_g (lw_at lw_m5 14 rfl) rfl
theorem q1026 : (Jvm.Cond.soleField "ScoreThreadsModel" "states") ∈ lw_all := lw_g (lw_at lw_m5 15 rfl) rfl
theorem q1027 : (Jvm.Cond.laysFinal "ScoreThreadsModel" "ScoreThreadsModel" "goesOn" "[I") ∈ lw_all := lw_g (lw_at lw_m5 16 rfl) rfl
theorem q1028 : (Jvm.Cond.soleField "ScoreThreadsModel" "goesOn") ∈ lw_all := lw_g (lw_at lw_m5 17 rfl) rfl
theorem q1029 : (Jvm.Cond.laysFinal "ScoreThreadsModel" "ScoreThreadsModel" "times" "[I") ∈ lw_all := lw_g (lw_at lw_m5 18 rfl) rfl
theorem q1030 : (Jvm.Cond.soleField "ScoreThreadsModel" "times") ∈ lw_all := lw_g (lw_at lw_m5 19 rfl) rfl
theorem q1031 : (Jvm.Cond.laysFinal "ScoreThreadsModel" "ScoreThreadsModel" "failedAt" "[I") ∈ lw_all := lw_g (lw_at lw_m5 20 rfl) rfl
theorem q1032 : (Jvm.Cond.soleField "ScoreThreadsModel" "failedAt") ∈ lw_all := lw_g (lw_at lw_m5 21 rfl) rfl
theorem q1033 : (Jvm.Cond.laysFinal "ScoreThreadsModel" "ScoreThreadsModel" "failedBy" "[I") ∈ lw_all := lw_g (lw_at lw_m5 22 rfl) rfl
theorem q1034 : (Jvm.Cond.soleField "ScoreThreadsModel" "failedBy") ∈ lw_all := lw_g (lw_at lw_m5 23 rfl) rfl
theorem q1035 : (Jvm.Cond.laysFinal "ScoreThreadsModel" "ScoreThreadsModel" "samples" "[F") ∈ lw_all := lw_g (lw_at lw_m5 24 rfl) rfl
theorem q1036 : (Jvm.Cond.soleField "ScoreThreadsModel" "samples") ∈ lw_all := lw_g (lw_at lw_m5 25 rfl) rfl
theorem q1037 : (Jvm.Cond.lays "ScoreThreadsModel" "ScoreThreadsModel" "workers" "I") ∈ lw_all := lw_g (lw_at lw_m5 26 rfl) rfl
theorem q1038 : (Jvm.Cond.soleField "ScoreThreadsModel" "workers") ∈ lw_all := lw_g (lw_at lw_m5 27 rfl) rfl
theorem q1039 : (Jvm.Cond.laysFinal "ScoreThreadsModel" "ScoreThreadsModel" "trackOf" "[I") ∈ lw_all := lw_g (lw_at lw_m5 28 rfl) rfl
theorem q1040 : (Jvm.Cond.soleField "ScoreThreadsModel" "trackOf") ∈ lw_all := lw_g (lw_at lw_m5 29 rfl) rfl
theorem q1041 : (Jvm.Cond.lays "ScoreThreadsModel" "ScoreThreadsModel" "isRunning" "Z") ∈ lw_all := lw_g (lw_at lw_m5 30 rfl) rfl
theorem q1042 : (Jvm.Cond.soleField "ScoreThreadsModel" "isRunning") ∈ lw_all := lw_g (lw_at lw_m5 31 rfl) rfl
theorem q1043 : (Jvm.Cond.lays "ScoreThreadsModel" "ScoreThreadsModel" "isToStop" "Z") ∈ lw_all := lw_g (lw_at lw_m5 32 rfl) rfl
theorem q1044 : (Jvm.Cond.soleField "ScoreThreadsModel" "isToStop") ∈ lw_all := lw_g (lw_at lw_m5 33 rfl) rfl
theorem q1045 : (Jvm.Cond.lays "ScoreThreadsModel" "ScoreThreadsModel" "left" "I") ∈ lw_all := lw_g (lw_at lw_m5 34 rfl) rfl
theorem q1046 : (Jvm.Cond.soleField "ScoreThreadsModel" "left") ∈ lw_all := lw_g (lw_at lw_m5 35 rfl) rfl
theorem q1047 : (Jvm.Cond.lays "ScoreThreadsModel" "ScoreThreadsModel" "rendered" "I") ∈ lw_all := lw_g (lw_at lw_m5 36 rfl) rfl
theorem q1048 : (Jvm.Cond.soleField "ScoreThreadsModel" "rendered") ∈ lw_all := lw_g (lw_at lw_m5 37 rfl) rfl
theorem q1049 : (Jvm.Cond.laysFinal "ScoreThreadsModel" "ScoreThreadsModel" "outs" "[F") ∈ lw_all := lw_g (lw_at lw_m5 38 rfl) rfl
theorem q1050 : (Jvm.Cond.soleField "ScoreThreadsModel" "outs") ∈ lw_all := lw_g (lw_at lw_m5 39 rfl) rfl
theorem q1051 : (Jvm.Cond.lays "ScoreThreadsModel" "ScoreThreadsModel" "faults" "I") ∈ lw_all := lw_g (lw_at lw_m5 40 rfl) rfl
theorem q1052 : (Jvm.Cond.soleField "ScoreThreadsModel" "faults") ∈ lw_all := lw_g (lw_at lw_m5 41 rfl) rfl
theorem q1053 : (Jvm.Cond.laysFinal "ScoreThreadsModel" "ScoreThreadsModel" "faultTrack" "[I") ∈ lw_all := lw_g (lw_at lw_m5 42 rfl) rfl
theorem q1054 : (Jvm.Cond.soleField "ScoreThreadsModel" "faultTrack") ∈ lw_all := lw_g (lw_at lw_m5 43 rfl) rfl
theorem q1055 : (Jvm.Cond.laysFinal "ScoreThreadsModel" "ScoreThreadsModel" "faultBlock" "[I") ∈ lw_all := lw_g (lw_at lw_m5 44 rfl) rfl
theorem q1056 : (Jvm.Cond.soleField "ScoreThreadsModel" "faultBlock") ∈ lw_all := lw_g (lw_at lw_m5 45 rfl) rfl
theorem q1057 : (Jvm.Cond.laysFinal "ScoreThreadsModel" "ScoreThreadsModel" "faultPlace" "[I") ∈ lw_all := lw_g (lw_at lw_m5 46 rfl) rfl
theorem q1058 : (Jvm.Cond.soleField "ScoreThreadsModel" "faultPlace") ∈ lw_all := lw_g (lw_at lw_m5 47 rfl) rfl
theorem q1059 : (Jvm.Cond.laysFinal "ScoreThreadsModel" "ScoreThreadsModel" "faultBy" "[I") ∈ lw_all := lw_g (lw_at lw_m5 48 rfl) rfl
theorem q1060 : (Jvm.Cond.soleField "ScoreThreadsModel" "faultBy") ∈ lw_all := lw_g (lw_at lw_m5 49 rfl) rfl
theorem q1061 : (Jvm.Cond.laysFinal "ScoreThreadsModel" "ScoreThreadsModel" "faultTime" "[I") ∈ lw_all := lw_g (lw_at lw_m5 50 rfl) rfl
theorem q1062 : (Jvm.Cond.soleField "ScoreThreadsModel" "faultTime") ∈ lw_all := lw_g (lw_at lw_m5 51 rfl) rfl
theorem q1063 : (Jvm.Cond.lays "ScoreThreadsModel" "ScoreThreadsModel" "queued" "I") ∈ lw_all := lw_g (lw_at lw_m5 52 rfl) rfl
theorem q1064 : (Jvm.Cond.soleField "ScoreThreadsModel" "queued") ∈ lw_all := lw_g (lw_at lw_m5 53 rfl) rfl
theorem q1065 : (Jvm.Cond.laysFinal "ScoreThreadsModel" "ScoreThreadsModel" "queueWhat" "[I") ∈ lw_all := lw_g (lw_at lw_m5 54 rfl) rfl
theorem q1066 : (Jvm.Cond.soleField "ScoreThreadsModel" "queueWhat") ∈ lw_all := lw_g (lw_at lw_m5 55 rfl) rfl
theorem q1067 : (Jvm.Cond.laysFinal "ScoreThreadsModel" "ScoreThreadsModel" "queueA" "[I") ∈ lw_all := lw_g (lw_at lw_m5 56 rfl) rfl
theorem q1068 : (Jvm.Cond.soleField "ScoreThreadsModel" "queueA") ∈ lw_all := lw_g (lw_at lw_m5 57 rfl) rfl
theorem q1069 : (Jvm.Cond.laysFinal "ScoreThreadsModel" "ScoreThreadsModel" "queueB" "[I") ∈ lw_all := lw_g (lw_at lw_m5 58 rfl) rfl
theorem q1070 : (Jvm.Cond.soleField "ScoreThreadsModel" "queueB") ∈ lw_all := lw_g (lw_at lw_m5 59 rfl) rfl
theorem q1071 : (Jvm.Cond.laysFinal "ScoreThreadsModel" "ScoreThreadsModel" "queueC" "[I") ∈ lw_all := lw_g (lw_at lw_m5 60 rfl) rfl
theorem q1072 : (Jvm.Cond.soleField "ScoreThreadsModel" "queueC") ∈ lw_all := lw_g (lw_at lw_m5 61 rfl) rfl
theorem q1073 : (Jvm.Cond.laysFinal "ScoreThreadsModel" "ScoreThreadsModel" "queueD" "[I") ∈ lw_all := lw_g (lw_at lw_m5 62 rfl) rfl
theorem q1074 : (Jvm.Cond.soleField "ScoreThreadsModel" "queueD") ∈ lw_all := lw_g (lw_at lw_m5 63 rfl) rfl
theorem q1075 : (Jvm.Cond.lays "ScoreThreadsModel" "ScoreThreadsModel" "edits" "I") ∈ lw_all := lw_g (lw_at lw_m5 64 rfl) rfl
theorem q1076 : (Jvm.Cond.soleField "ScoreThreadsModel" "edits") ∈ lw_all := lw_g (lw_at lw_m5 65 rfl) rfl
theorem q1077 : (Jvm.Cond.lays "ScoreThreadsModel" "ScoreThreadsModel" "steps" "I") ∈ lw_all := lw_g (lw_at lw_m5 66 rfl) rfl
theorem q1078 : (Jvm.Cond.soleField "ScoreThreadsModel" "steps") ∈ lw_all := lw_g (lw_at lw_m5 67 rfl) rfl
theorem q1079 : (Jvm.Cond.lays "ScoreThreadsModel" "ScoreThreadsModel" "waits" "I") ∈ lw_all := lw_g (lw_at lw_m5 68 rfl) rfl
theorem q1080 : (Jvm.Cond.soleField "ScoreThreadsModel" "waits") ∈ lw_all := lw_g (lw_at lw_m5 69 rfl) rfl
theorem q1081 : (Jvm.Cond.laysFinal "ScoreThreadsModel" "ScoreThreadsModel" "founds" "[I") ∈ lw_all := lw_g (lw_at lw_m5 70 rfl) rfl
theorem q1082 : (Jvm.Cond.soleField "ScoreThreadsModel" "founds") ∈ lw_all := lw_g (lw_at lw_m5 71 rfl) rfl
theorem q1083 : (Jvm.Cond.lays "ScoreThreadsModel" "ScoreThreadsModel" "met" "I") ∈ lw_all := lw_g (lw_at lw_m5 72 rfl) rfl
theorem q1084 : (Jvm.Cond.soleField "ScoreThreadsModel" "met") ∈ lw_all := lw_g (lw_at lw_m5 73 rfl) rfl
theorem q1085 : (Jvm.Cond.laysFinal "ScoreThreadsModel" "ScoreThreadsModel" "kept" "[F") ∈ lw_all := lw_g (lw_at lw_m5 74 rfl) rfl
theorem q1086 : (Jvm.Cond.soleField "ScoreThreadsModel" "kept") ∈ lw_all := lw_g (lw_at lw_m5 75 rfl) rfl
theorem q1087 : (Jvm.Cond.laysFinal "ScoreThreadsModel" "ScoreThreadsModel" "sums" "[F") ∈ lw_all := lw_g (lw_at lw_m5 76 rfl) rfl
theorem q1088 : (Jvm.Cond.soleField "ScoreThreadsModel" "sums") ∈ lw_all := lw_g (lw_at lw_m5 77 rfl) rfl
theorem q1089 : (Jvm.Cond.lays "ScoreThreadsModel" "ScoreThreadsModel" "h" "J") ∈ lw_all := lw_g (lw_at lw_m5 78 rfl) rfl
theorem q1090 : (Jvm.Cond.soleField "ScoreThreadsModel" "h") ∈ lw_all := lw_g (lw_at lw_m5 79 rfl) rfl
theorem q1091 : (Jvm.Cond.superclass "ScoreThreadsModel" "java/lang/Object") ∈ lw_all := lw_g (lw_at lw_m5 80 rfl) rfl
theorem q1095 : (Jvm.Cond.instanceMethod ({ cls := "ScoreThreadsModel", name := "clip", desc := "(II)I" } : Jvm.MethodName)) ∈ lw_all := lw_g (lw_at lw_m5 84 rfl) rfl
theorem q1096 : (Jvm.Cond.selects "ScoreThreadsModel" ({ cls := "ScoreThreadsModel", name := "clip", desc := "(II)I" } : Jvm.MethodName) ({ cls := "ScoreThreadsModel", name := "clip", desc := "(II)I" } : Jvm.MethodName)) ∈ lw_all := lw_g (lw_at lw_m5 85 rfl) rfl
theorem q1097 : (Jvm.Cond.code ({ cls := "ScoreThreadsModel", name := "clip", desc := "(II)I" } : Jvm.MethodName) prog_14_method_6_code (3 : Nat) (Option.some Jvm.ClassFile.FieldType.int)) ∈ lw_all := lw_g (lw_at lw_m5 86 rfl) rfl
theorem q1098 : (Jvm.Cond.methodLink "ScoreThreadsModel" (136 : Nat) ({ cls := "ScoreThreadsModel", name := "in", desc := "(III)Z" } : Jvm.MethodName)) ∈ lw_all := lw_g (lw_at lw_m5 87 rfl) rfl
theorem q1099 : (Jvm.Cond.static ({ cls := "ScoreThreadsModel", name := "in", desc := "(III)Z" } : Jvm.MethodName)) ∈ lw_all := lw_g (lw_at lw_m5 88 rfl) rfl
theorem q1100 : (Jvm.Cond.code ({ cls := "ScoreThreadsModel", name := "in", desc := "(III)Z" } : Jvm.MethodName) prog_14_method_3_code (3 : Nat) (Option.some Jvm.ClassFile.FieldType.boolean)) ∈ lw_all := lw_g (lw_at lw_m5 89 rfl) rfl
theorem q1101 : (Jvm.Cond.methodLink "ScoreThreadsModel" (143 : Nat) ({ cls := "ScoreThreadsModel", name := "finds", desc := "(I)I" } : Jvm.MethodName)) ∈ lw_all := lw_g (lw_at lw_m5 90 rfl) rfl
theorem q1102 : (Jvm.Cond.privateMethod ({ cls := "ScoreThreadsModel", name := "finds", desc := "(I)I" } : Jvm.MethodName)) ∈ lw_tbl := lw_at lw_m5 91 rfl
theorem q1103 : (Jvm.Cond.instanceMethod ({ cls := "ScoreThreadsModel", name := "finds", desc := "(I)I" } : Jvm.MethodName)) ∈ lw_all := lw_g (lw_at lw_m5 92 rfl) rfl
theorem q1104 : (Jvm.Cond.code ({ cls := "ScoreThreadsModel", name := "finds", desc := "(I)I" } : Jvm.MethodName) prog_14_method_4_code (2 : Nat) (Option.some Jvm.ClassFile.FieldType.int)) ∈ lw_all := lw_g (lw_at lw_m5 93 rfl) rfl
theorem q1106 : (Jvm.Cond.instanceMethod ({ cls := "ScoreThreadsModel", name := "number", desc := "(IIIJ)I" } : Jvm.MethodName)) ∈ lw_all := lw_g (lw_at lw_m5 95 rfl) rfl
theorem q1107 : (Jvm.Cond.selects "ScoreThreadsModel" ({ cls := "ScoreThreadsModel", name := "number", desc := "(IIIJ)I" } : Jvm.MethodName) ({ cls := "ScoreThreadsModel", name := "number", desc := "(IIIJ)I" } : Jvm.MethodName)) ∈ lw_all := lw_g (lw_at lw_m5 96 rfl) rfl
theorem q1108 : (Jvm.Cond.code ({ cls := "ScoreThreadsModel", name := "number", desc := "(IIIJ)I" } : Jvm.MethodName) prog_14_method_8_code (6 : Nat) (Option.some Jvm.ClassFile.FieldType.int)) ∈ lw_all := lw_g (lw_at lw_m5 97 rfl) rfl
theorem q1109 : (Jvm.Cond.methodLink "ScoreThreadsModel" (155 : Nat) ({ cls := "ScoreThreadsModel", name := "tells", desc := "(IJ)Z" } : Jvm.MethodName)) ∈ lw_all := lw_g (lw_at lw_m5 98 rfl) rfl
theorem q1110 : (Jvm.Cond.static ({ cls := "ScoreThreadsModel", name := "tells", desc := "(IJ)Z" } : Jvm.MethodName)) ∈ lw_all := lw_g (lw_at lw_m5 99 rfl) rfl
theorem q1111 : (Jvm.Cond.code ({ cls := "ScoreThreadsModel", name := "tells", desc := "(IJ)Z" } : Jvm.MethodName) prog_14_method_7_code (3 : Nat) (Option.some Jvm.ClassFile.FieldType.boolean)) ∈ lw_all := lw_g (lw_at lw_m5 100 rfl) rfl
theorem q1112 : (Jvm.Cond.constantLong "ScoreThreadsModel" (147 : Nat) (2147483647 : Int64)) ∈ lw_all := lw_g (lw_at lw_m5 101 rfl) rfl
theorem q1113 : (Jvm.Cond.constantLong "ScoreThreadsModel" (149 : Nat) (2139095040 : Int64)) ∈ lw_all := lw_g (lw_at lw_m5 102 rfl) rfl
theorem q1114 : (Jvm.Cond.constantLong "ScoreThreadsModel" (151 : Nat) (9223372036854775807 : Int64)) ∈ lw_all := lw_g (lw_at lw_m5 103 rfl) rfl
theorem q1115 : (Jvm.Cond.constantLong "ScoreThreadsModel" (153 : Nat) (9218868437227405312 : Int64)) ∈ lw_all := lw_g (lw_at lw_m5 104 rfl) rfl
theorem q1117 : (Jvm.Cond.instanceMethod ({ cls := "ScoreThreadsModel", name := "sample", desc := "(II)I" } : Jvm.MethodName)) ∈ lw_all := lw_g (lw_at lw_m5 106 rfl) rfl
theorem q1118 : (Jvm.Cond.selects "ScoreThreadsModel" ({ cls := "ScoreThreadsModel", name := "sample", desc := "(II)I" } : Jvm.MethodName) ({ cls := "ScoreThreadsModel", name := "sample", desc := "(II)I" } : Jvm.MethodName)) ∈ lw_all := lw_g (lw_at lw_m5 107 rfl) rfl
theorem q1119 : (Jvm.Cond.code ({ cls := "ScoreThreadsModel", name := "sample", desc := "(II)I" } : Jvm.MethodName) prog_14_method_10_code (3 : Nat) (Option.some Jvm.ClassFile.FieldType.int)) ∈ lw_all := lw_g (lw_at lw_m5 108 rfl) rfl
theorem q1120 : (Jvm.Cond.methodLink "ScoreThreadsModel" (185 : Nat) ({ cls := "ScoreThreadsModel", name := "sampleAt", desc := "(II)F" } : Jvm.MethodName)) ∈ lw_all := lw_g (lw_at lw_m5 109 rfl) rfl
theorem q1121 : (Jvm.Cond.privateMethod ({ cls := "ScoreThreadsModel", name := "sampleAt", desc := "(II)F" } : Jvm.MethodName)) ∈ lw_tbl := lw_at lw_m5 110 rfl
theorem q1122 : (Jvm.Cond.instanceMethod ({ cls := "ScoreThreadsModel", name := "sampleAt", desc := "(II)F" } : Jvm.MethodName)) ∈ lw_all := lw_g (lw_at lw_m5 111 rfl) rfl
theorem q1123 : (Jvm.Cond.code ({ cls := "ScoreThreadsModel", name := "sampleAt", desc := "(II)F" } : Jvm.MethodName) prog_14_method_9_code (5 : Nat) (Option.some Jvm.ClassFile.FieldType.float)) ∈ lw_all := lw_g (lw_at lw_m5 112 rfl) rfl
theorem q1124 : (Jvm.Cond.constantDouble "ScoreThreadsModel" (163 : Nat) (4638707616191610880 : UInt64)) ∈ lw_all := lw_g (lw_at lw_m5 113 rfl) rfl
theorem q1125 : (Jvm.Cond.methodLink "ScoreThreadsModel" (165 : Nat) ({ cls := "ScoreThreadsModel", name := "clipped", desc := "(F)F" } : Jvm.MethodName)) ∈ lw_all := lw_g (lw_at lw_m5 114 rfl) rfl
theorem q1126 : (Jvm.Cond.static ({ cls := "ScoreThreadsModel", name := "clipped", desc := "(F)F" } : Jvm.MethodName)) ∈ lw_all := lw_g (lw_at lw_m5 115 rfl) rfl
theorem q1127 : (Jvm.Cond.code ({ cls := "ScoreThreadsModel", name := "clipped", desc := "(F)F" } : Jvm.MethodName) prog_14_method_5_code (1 : Nat) (Option.some Jvm.ClassFile.FieldType.float)) ∈ lw_all := lw_g (lw_at lw_m5 116 rfl) rfl
theorem q1128 : (Jvm.Cond.constantFloat "ScoreThreadsModel" (134 : Nat) (1090519040 : UInt32)) ∈ lw_all := lw_g (lw_at lw_m5 117 rfl) rfl
theorem q1129 : (Jvm.Cond.constantFloat "ScoreThreadsModel" (135 : Nat) (3238002688 : UInt32)) ∈ lw_all := lw_g (lw_at lw_m5 118 rfl) rfl
theorem q1130 : (Jvm.Cond.constantDouble "ScoreThreadsModel" (169 : Nat) (4674736413210574848 : UInt64)) ∈ lw_all := lw_g (lw_at lw_m5 119 rfl) rfl
theorem q1131 : (Jvm.Cond.constantDouble "ScoreThreadsModel" (171 : Nat) (4746794007248502784 : UInt64)) ∈ lw_all := lw_g (lw_at lw_m5 120 rfl) rfl
theorem q1132 : (Jvm.Cond.methodLink "ScoreThreadsModel" (173 : Nat) ({ cls := "java/lang/Float", name := "intBitsToFloat", desc := "(I)F" } : Jvm.MethodName)) ∈ lw_all := lw_g (lw_at lw_m5 121 rfl) rfl
theorem q1133 : (Jvm.Cond.methodLink "ScoreThreadsModel" (179 : Nat) ({ cls := "java/lang/Double", name := "longBitsToDouble", desc := "(J)D" } : Jvm.MethodName)) ∈ lw_all := lw_g (lw_at lw_m5 122 rfl) rfl
theorem q1134 : (Jvm.Cond.methodLink "ScoreThreadsModel" (189 : Nat) ({ cls := "java/lang/Float", name := "floatToIntBits", desc := "(F)I" } : Jvm.MethodName)) ∈ lw_all := lw_g (lw_at lw_m5 123 rfl) rfl
theorem q1136 : (Jvm.Cond.instanceMethod ({ cls := "ScoreThreadsModel", name := "plug", desc := "(III)I" } : Jvm.MethodName)) ∈ lw_all := lw_g (lw_at lw_m5 125 rfl) rfl
theorem q1137 : (Jvm.Cond.selects "ScoreThreadsModel" ({ cls := "ScoreThreadsModel", name := "plug", desc := "(III)I" } : Jvm.MethodName) ({ cls := "ScoreThreadsModel", name := "plug", desc := "(III)I" } : Jvm.MethodName)) ∈ lw_all := lw_g (lw_at lw_m5 126 rfl) rfl
theorem q1138 : (Jvm.Cond.code ({ cls := "ScoreThreadsModel", name := "plug", desc := "(III)I" } : Jvm.MethodName) prog_14_method_13_code (4 : Nat) (Option.some Jvm.ClassFile.FieldType.int)) ∈ lw_all := lw_g (lw_at lw_m5 127 rfl) rfl
theorem q1139 : (Jvm.Cond.methodLink "ScoreThreadsModel" (195 : Nat) ({ cls := "ScoreThreadsModel", name := "isWithin", desc := "(IF)Z" } : Jvm.MethodName)) ∈ lw_all := lw_g (lw_at lw_m5 128 rfl) rfl
theorem q1140 : (Jvm.Cond.static ({ cls := "ScoreThreadsModel", name := "isWithin", desc := "(IF)Z" } : Jvm.MethodName)) ∈ lw_all := lw_g (lw_at lw_m5 129 rfl) rfl
theorem q1141 : (Jvm.Cond.code ({ cls := "ScoreThreadsModel", name := "isWithin", desc := "(IF)Z" } : Jvm.MethodName) prog_14_method_11_code (3 : Nat) (Option.some Jvm.ClassFile.FieldType.boolean)) ∈ lw_all := lw_g (lw_at lw_m5 130 rfl) rfl
theorem q1142 : (Jvm.Cond.constant "ScoreThreadsModel" (193 : Nat) (2147483647 : Int32)) ∈ lw_all := lw_g (lw_at lw_m5 131 rfl) rfl
theorem q1143 : (Jvm.Cond.constant "ScoreThreadsModel" (194 : Nat) (2139095040 : Int32)) ∈ lw_all := lw_g (lw_at lw_m5 132 rfl) rfl
theorem q1144 : (Jvm.Cond.methodLink "ScoreThreadsModel" (199 : Nat) ({ cls := "ScoreThreadsModel", name := "isEcho", desc := "(I)Z" } : Jvm.MethodName)) ∈ lw_all := lw_g (lw_at lw_m5 133 rfl) rfl
theorem q1145 : (Jvm.Cond.static ({ cls := "ScoreThreadsModel", name := "isEcho", desc := "(I)Z" } : Jvm.MethodName)) ∈ lw_all := lw_g (lw_at lw_m5 134 rfl) rfl
theorem q1146 : (Jvm.Cond.code ({ cls := "ScoreThreadsModel", name := "isEcho", desc := "(I)Z" } : Jvm.MethodName) prog_14_method_12_code (1 : Nat) (Option.some Jvm.ClassFile.FieldType.boolean)) ∈ lw_all := lw_g (lw_at lw_m5 135 rfl) rfl
theorem q1148 : (Jvm.Cond.instanceMethod ({ cls := "ScoreThreadsModel", name := "plugged", desc := "(II)I" } : Jvm.MethodName)) ∈ lw_all := lw_g (lw_at lw_m5 137 rfl) rfl
theorem q1149 : (Jvm.Cond.selects "ScoreThreadsModel" ({ cls := "ScoreThreadsModel", name := "plugged", desc := "(II)I" } : Jvm.MethodName) ({ cls := "ScoreThreadsModel", name := "plugged", desc := "(II)I" } : Jvm.MethodName)) ∈ lw_all := lw_g (lw_at lw_m5 138 rfl) rfl
theorem q1150 : (Jvm.Cond.code ({ cls := "ScoreThreadsModel", name := "plugged", desc := "(II)I" } : Jvm.MethodName) prog_14_method_15_code (3 : Nat) (Option.some Jvm.ClassFile.FieldType.int)) ∈ lw_all := lw_g (lw_at lw_m5 139 rfl) rfl
theorem q1151 : (Jvm.Cond.methodLink "ScoreThreadsModel" (206 : Nat) ({ cls := "ScoreThreadsModel", name := "tail", desc := "(I)I" } : Jvm.MethodName)) ∈ lw_all := lw_g (lw_at lw_m5 140 rfl) rfl
theorem q1152 : (Jvm.Cond.privateMethod ({ cls := "ScoreThreadsModel", name := "tail", desc := "(I)I" } : Jvm.MethodName)) ∈ lw_tbl := lw_at lw_m5 141 rfl
theorem q1153 : (Jvm.Cond.instanceMethod ({ cls := "ScoreThreadsModel", name := "tail", desc := "(I)I" } : Jvm.MethodName)) ∈ lw_all := lw_g (lw_at lw_m5 142 rfl) rfl
theorem q1154 : (Jvm.Cond.code ({ cls := "ScoreThreadsModel", name := "tail", desc := "(I)I" } : Jvm.MethodName) prog_14_method_14_code (2 : Nat) (Option.some Jvm.ClassFile.FieldType.int)) ∈ lw_all := lw_g (lw_at lw_m5 143 rfl) rfl
theorem q1156 : (Jvm.Cond.instanceMethod ({ cls := "ScoreThreadsModel", name := "track", desc := "(IIIZ)I" } : Jvm.MethodName)) ∈ lw_all := lw_g (lw_at lw_m5 145 rfl) rfl
theorem q1157 : (Jvm.Cond.selects "ScoreThreadsModel" ({ cls := "ScoreThreadsModel", name := "track", desc := "(IIIZ)I" } : Jvm.MethodName) ({ cls := "ScoreThreadsModel", name := "track", desc := "(IIIZ)I" } : Jvm.MethodName)) ∈ lw_all := lw_g (lw_at lw_m5 146 rfl) rfl
theorem q1158 : (Jvm.Cond.code ({ cls := "ScoreThreadsModel", name := "track", desc := "(IIIZ)I" } : Jvm.MethodName) prog_14_method_22_code (5 : Nat) (Option.some Jvm.ClassFile.FieldType.int)) ∈ lw_all := lw_g (lw_at lw_m5 147 rfl) rfl
theorem q1159 : (Jvm.Cond.methodLink "ScoreThreadsModel" (232 : Nat) ({ cls := "ScoreThreadsModel", name := "isTrack", desc := "(I)Z" } : Jvm.MethodName)) ∈ lw_all := lw_g (lw_at lw_m5 148 rfl) rfl
theorem q1160 : (Jvm.Cond.static ({ cls := "ScoreThreadsModel", name := "isTrack", desc := "(I)Z" } : Jvm.MethodName)) ∈ lw_all := lw_g (lw_at lw_m5 149 rfl) rfl
theorem q1161 : (Jvm.Cond.code ({ cls := "ScoreThreadsModel", name := "isTrack", desc := "(I)Z" } : Jvm.MethodName) prog_14_method_21_code (1 : Nat) (Option.some Jvm.ClassFile.FieldType.boolean)) ∈ lw_all := lw_g (lw_at lw_m5 150 rfl) rfl
theorem q1162 : (Jvm.Cond.methodLink "ScoreThreadsModel" (235 : Nat) ({ cls := "ScoreThreadsModel", name := "edit", desc := "(IIIII)I" } : Jvm.MethodName)) ∈ lw_all := lw_g (lw_at lw_m5 151 rfl) rfl
theorem q1163 : (Jvm.Cond.privateMethod ({ cls := "ScoreThreadsModel", name := "edit", desc := "(IIIII)I" } : Jvm.MethodName)) ∈ lw_tbl := lw_at lw_m5 152 rfl
theorem q1164 : (Jvm.Cond.instanceMethod ({ cls := "ScoreThreadsModel", name := "edit", desc := "(IIIII)I" } : Jvm.MethodName)) ∈ lw_all := lw_g (lw_at lw_m5 153 rfl) rfl
theorem q1165 : (Jvm.Cond.code ({ cls := "ScoreThreadsModel", name := "edit", desc := "(IIIII)I" } : Jvm.MethodName) prog_14_method_19_code (6 : Nat) (Option.some Jvm.ClassFile.FieldType.int)) ∈ lw_all := lw_g (lw_at lw_m5 154 rfl) rfl
theorem q1166 : (Jvm.Cond.methodLink "ScoreThreadsModel" (222 : Nat) ({ cls := "ScoreThreadsModel", name := "does", desc := "(IIIII)I" } : Jvm.MethodName)) ∈ lw_all := lw_g (lw_at lw_m5 155 rfl) rfl
theorem q1167 : (Jvm.Cond.privateMethod ({ cls := "ScoreThreadsModel", name := "does", desc := "(IIIII)I" } : Jvm.MethodName)) ∈ lw_tbl := lw_at lw_m5 156 rfl
theorem q1168 : (Jvm.Cond.instanceMethod ({ cls := "ScoreThreadsModel", name := "does", desc := "(IIIII)I" } : Jvm.MethodName)) ∈ lw_all := lw_g (lw_at lw_m5 157 rfl) rfl
theorem q1169 : (Jvm.Cond.code ({ cls := "ScoreThreadsModel", name := "does", desc := "(IIIII)I" } : Jvm.MethodName) prog_14_method_20_code (7 : Nat) (Option.some Jvm.ClassFile.FieldType.int)) ∈ lw_all := lw_g (lw_at lw_m5 158 rfl) rfl
theorem q1171 : (Jvm.Cond.instanceMethod ({ cls := "ScoreThreadsModel", name := "pure", desc := "(IZ)I" } : Jvm.MethodName)) ∈ lw_all := lw_g (lw_at lw_m5 160 rfl) rfl
theorem q1172 : (Jvm.Cond.selects "ScoreThreadsModel" ({ cls := "ScoreThreadsModel", name := "pure", desc := "(IZ)I" } : Jvm.MethodName) ({ cls := "ScoreThreadsModel", name := "pure", desc := "(IZ)I" } : Jvm.MethodName)) ∈ lw_all := lw_g (lw_at lw_m5 161 rfl) rfl
theorem q1173 : (Jvm.Cond.code ({ cls := "ScoreThreadsModel", name := "pure", desc := "(IZ)I" } : Jvm.MethodName) prog_14_method_23_code (3 : Nat) (Option.some Jvm.ClassFile.FieldType.int)) ∈ lw_all := lw_g (lw_at lw_m5 162 rfl) rfl
theorem q1175 : (Jvm.Cond.instanceMethod ({ cls := "ScoreThreadsModel", name := "chain", desc := "(III)I" } : Jvm.MethodName)) ∈ lw_all := lw_g (lw_at lw_m5 164 rfl) rfl
theorem q1176 : (Jvm.Cond.selects "ScoreThreadsModel" ({ cls := "ScoreThreadsModel", name := "chain", desc := "(III)I" } : Jvm.MethodName) ({ cls := "ScoreThreadsModel", name := "chain", desc := "(III)I" } : Jvm.MethodName)) ∈ lw_all := lw_g (lw_at lw_m5 165 rfl) rfl
theorem q1177 : (Jvm.Cond.code ({ cls := "ScoreThreadsModel", name := "chain", desc := "(III)I" } : Jvm.MethodName) prog_14_method_24_code (4 : Nat) (Option.some Jvm.ClassFile.FieldType.int)) ∈ lw_all := lw_g (lw_at lw_m5 166 rfl) rfl
theorem q1179 : (Jvm.Cond.instanceMethod ({ cls := "ScoreThreadsModel", name := "level", desc := "(II)I" } : Jvm.MethodName)) ∈ lw_all := lw_g (lw_at lw_m5 168 rfl) rfl
theorem q1180 : (Jvm.Cond.selects "ScoreThreadsModel" ({ cls := "ScoreThreadsModel", name := "level", desc := "(II)I" } : Jvm.MethodName) ({ cls := "ScoreThreadsModel", name := "level", desc := "(II)I" } : Jvm.MethodName)) ∈ lw_all := lw_g (lw_at lw_m5 169 rfl) rfl
theorem q1181 : (Jvm.Cond.code ({ cls := "ScoreThreadsModel", name := "level", desc := "(II)I" } : Jvm.MethodName) prog_14_method_25_code (3 : Nat) (Option.some Jvm.ClassFile.FieldType.int)) ∈ lw_all := lw_g (lw_at lw_m5 170 rfl) rfl
theorem q1183 : (Jvm.Cond.instanceMethod ({ cls := "ScoreThreadsModel", name := "on", desc := "(IZ)I" } : Jvm.MethodName)) ∈ lw_all := lw_g (lw_at lw_m5 172 rfl) rfl
theorem q1184 : (Jvm.Cond.selects "ScoreThreadsModel" ({ cls := "ScoreThreadsModel", name := "on", desc := "(IZ)I" } : Jvm.MethodName) ({ cls := "ScoreThreadsModel", name := "on", desc := "(IZ)I" } : Jvm.MethodName)) ∈ lw_all := lw_g (lw_at lw_m5 173 rfl) rfl
theorem q1185 : (Jvm.Cond.code ({ cls := "ScoreThreadsModel", name := "on", desc := "(IZ)I" } : Jvm.MethodName) prog_14_method_26_code (3 : Nat) (Option.some Jvm.ClassFile.FieldType.int)) ∈ lw_all := lw_g (lw_at lw_m5 174 rfl) rfl
theorem q1187 : (Jvm.Cond.instanceMethod ({ cls := "ScoreThreadsModel", name := "line", desc := "(II)I" } : Jvm.MethodName)) ∈ lw_all := lw_g (lw_at lw_m5 176 rfl) rfl
theorem q1188 : (Jvm.Cond.selects "ScoreThreadsModel" ({ cls := "ScoreThreadsModel", name := "line", desc := "(II)I" } : Jvm.MethodName) ({ cls := "ScoreThreadsModel", name := "line", desc := "(II)I" } : Jvm.MethodName)) ∈ lw_all := lw_g (lw_at lw_m5 177 rfl) rfl
theorem q1189 : (Jvm.Cond.code ({ cls := "ScoreThreadsModel", name := "line", desc := "(II)I" } : Jvm.MethodName) prog_14_method_27_code (3 : Nat) (Option.some Jvm.ClassFile.FieldType.int)) ∈ lw_all := lw_g (lw_at lw_m5 178 rfl) rfl
theorem q1191 : (Jvm.Cond.instanceMethod ({ cls := "ScoreThreadsModel", name := "hire", desc := "(I)I" } : Jvm.MethodName)) ∈ lw_all := lw_g (lw_at lw_m5 180 rfl) rfl
theorem q1192 : (Jvm.Cond.selects "ScoreThreadsModel" ({ cls := "ScoreThreadsModel", name := "hire", desc := "(I)I" } : Jvm.MethodName) ({ cls := "ScoreThreadsModel", name := "hire", desc := "(I)I" } : Jvm.MethodName)) ∈ lw_all := lw_g (lw_at lw_m5 181 rfl) rfl
theorem q1193 : (Jvm.Cond.code ({ cls := "ScoreThreadsModel", name := "hire", desc := "(I)I" } : Jvm.MethodName) prog_14_method_28_code (3 : Nat) (Option.some Jvm.ClassFile.FieldType.int)) ∈ lw_all := lw_g (lw_at lw_m5 182 rfl) rfl
theorem q1195 : (Jvm.Cond.instanceMethod ({ cls := "ScoreThreadsModel", name := "render", desc := "(I)I" } : Jvm.MethodName)) ∈ lw_all := lw_g (lw_at lw_m5 184 rfl) rfl
theorem q1196 : (Jvm.Cond.selects "ScoreThreadsModel" ({ cls := "ScoreThreadsModel", name := "render", desc := "(I)I" } : Jvm.MethodName) ({ cls := "ScoreThreadsModel", name := "render", desc := "(I)I" } : Jvm.MethodName)) ∈ lw_all := lw_g (lw_at lw_m5 185 rfl) rfl
theorem q1197 : (Jvm.Cond.code ({ cls := "ScoreThreadsModel", name := "render", desc := "(I)I" } : Jvm.MethodName) prog_14_method_30_code (2 : Nat) (Option.some Jvm.ClassFile.FieldType.int)) ∈ lw_all := lw_g (lw_at lw_m5 186 rfl) rfl
theorem q1198 : (Jvm.Cond.methodLink "ScoreThreadsModel" (247 : Nat) ({ cls := "ScoreThreadsModel", name := "beginBlock", desc := "()V" } : Jvm.MethodName)) ∈ lw_all := lw_g (lw_at lw_m5 187 rfl) rfl
theorem q1199 : (Jvm.Cond.privateMethod ({ cls := "ScoreThreadsModel", name := "beginBlock", desc := "()V" } : Jvm.MethodName)) ∈ lw_tbl := lw_at lw_m5 188 rfl
theorem q1200 : (Jvm.Cond.instanceMethod ({ cls := "ScoreThreadsModel", name := "beginBlock", desc := "()V" } : Jvm.MethodName)) ∈ lw_all := lw_g (lw_at lw_m5 189 rfl) rfl
theorem q1201 : (Jvm.Cond.code ({ cls := "ScoreThreadsModel", name := "beginBlock", desc := "()V" } : Jvm.MethodName) prog_14_method_29_code (2 : Nat) (Option.none : Option Jvm.ClassFile.FieldType)) ∈ lw_all := lw_g (lw_at lw_m5 190 rfl) rfl
theorem q1203 : (Jvm.Cond.instanceMethod ({ cls := "ScoreThreadsModel", name := "turn", desc := "(I)I" } : Jvm.MethodName)) ∈ lw_all := lw_g (lw_at lw_m5 192 rfl) rfl
theorem q1204 : (Jvm.Cond.selects "ScoreThreadsModel" ({ cls := "ScoreThreadsModel", name := "turn", desc := "(I)I" } : Jvm.MethodName) ({ cls := "ScoreThreadsModel", name := "turn", desc := "(I)I" } : Jvm.MethodName)) ∈ lw_all := lw_g (lw_at lw_m5 193 rfl) rfl
theorem q1205 : (Jvm.Cond.code ({ cls := "ScoreThreadsModel", name := "turn", desc := "(I)I" } : Jvm.MethodName) prog_14_method_44_code (2 : Nat) (Option.some Jvm.ClassFile.FieldType.int)) ∈ lw_all := lw_g (lw_at lw_m5 194 rfl) rfl
theorem q1206 : (Jvm.Cond.methodLink "ScoreThreadsModel" (301 : Nat) ({ cls := "ScoreThreadsModel", name := "isWorker", desc := "(I)Z" } : Jvm.MethodName)) ∈ lw_all := lw_g (lw_at lw_m5 195 rfl) rfl
theorem q1207 : (Jvm.Cond.privateMethod ({ cls := "ScoreThreadsModel", name := "isWorker", desc := "(I)Z" } : Jvm.MethodName)) ∈ lw_tbl := lw_at lw_m5 196 rfl
theorem q1208 : (Jvm.Cond.instanceMethod ({ cls := "ScoreThreadsModel", name := "isWorker", desc := "(I)Z" } : Jvm.MethodName)) ∈ lw_all := lw_g (lw_at lw_m5 197 rfl) rfl
theorem q1209 : (Jvm.Cond.code ({ cls := "ScoreThreadsModel", name := "isWorker", desc := "(I)Z" } : Jvm.MethodName) prog_14_method_43_code (2 : Nat) (Option.some Jvm.ClassFile.FieldType.boolean)) ∈ lw_all := lw_g (lw_at lw_m5 198 rfl) rfl
theorem q1210 : (Jvm.Cond.methodLink "ScoreThreadsModel" (304 : Nat) ({ cls := "ScoreThreadsModel", name := "goes", desc := "(I)I" } : Jvm.MethodName)) ∈ lw_all := lw_g (lw_at lw_m5 199 rfl) rfl
theorem q1211 : (Jvm.Cond.privateMethod ({ cls := "ScoreThreadsModel", name := "goes", desc := "(I)I" } : Jvm.MethodName)) ∈ lw_tbl := lw_at lw_m5 200 rfl
theorem q1212 : (Jvm.Cond.instanceMethod ({ cls := "ScoreThreadsModel", name := "goes", desc := "(I)I" } : Jvm.MethodName)) ∈ lw_all := lw_g (lw_at lw_m5 201 rfl) rfl
theorem q1213 : (Jvm.Cond.code ({ cls := "ScoreThreadsModel", name := "goes", desc := "(I)I" } : Jvm.MethodName) prog_14_method_40_code (4 : Nat) (Option.some Jvm.ClassFile.FieldType.int)) ∈ lw_all := lw_g (lw_at lw_m5 202 rfl) rfl
theorem q1214 : (Jvm.Cond.methodLink "ScoreThreadsModel" (271 : Nat) ({ cls := "ScoreThreadsModel", name := "mayPass", desc := "(II)Z" } : Jvm.MethodName)) ∈ lw_all := lw_g (lw_at lw_m5 203 rfl) rfl
theorem q1215 : (Jvm.Cond.privateMethod ({ cls := "ScoreThreadsModel", name := "mayPass", desc := "(II)Z" } : Jvm.MethodName)) ∈ lw_tbl := lw_at lw_m5 204 rfl
theorem q1216 : (Jvm.Cond.instanceMethod ({ cls := "ScoreThreadsModel", name := "mayPass", desc := "(II)Z" } : Jvm.MethodName)) ∈ lw_all := lw_g (lw_at lw_m5 205 rfl) rfl
theorem q1217 : (Jvm.Cond.code ({ cls := "ScoreThreadsModel", name := "mayPass", desc := "(II)Z" } : Jvm.MethodName) prog_14_method_32_code (5 : Nat) (Option.some Jvm.ClassFile.FieldType.boolean)) ∈ lw_all := lw_g (lw_at lw_m5 206 rfl) rfl
theorem q1218 : (Jvm.Cond.methodLink "ScoreThreadsModel" (275 : Nat) ({ cls := "ScoreThreadsModel", name := "passes", desc := "(III)I" } : Jvm.MethodName)) ∈ lw_all := lw_g (lw_at lw_m5 207 rfl) rfl
theorem q1219 : (Jvm.Cond.privateMethod ({ cls := "ScoreThreadsModel", name := "passes", desc := "(III)I" } : Jvm.MethodName)) ∈ lw_tbl := lw_at lw_m5 208 rfl
theorem q1220 : (Jvm.Cond.instanceMethod ({ cls := "ScoreThreadsModel", name := "passes", desc := "(III)I" } : Jvm.MethodName)) ∈ lw_all := lw_g (lw_at lw_m5 209 rfl) rfl
theorem q1221 : (Jvm.Cond.code ({ cls := "ScoreThreadsModel", name := "passes", desc := "(III)I" } : Jvm.MethodName) prog_14_method_36_code (7 : Nat) (Option.some Jvm.ClassFile.FieldType.int)) ∈ lw_all := lw_g (lw_at lw_m5 210 rfl) rfl
theorem q1222 : (Jvm.Cond.methodLink "ScoreThreadsModel" (265 : Nat) ({ cls := "ScoreThreadsModel", name := "through", desc := "(IF)F" } : Jvm.MethodName)) ∈ lw_all := lw_g (lw_at lw_m5 211 rfl) rfl
theorem q1223 : (Jvm.Cond.privateMethod ({ cls := "ScoreThreadsModel", name := "through", desc := "(IF)F" } : Jvm.MethodName)) ∈ lw_tbl := lw_at lw_m5 212 rfl
theorem q1224 : (Jvm.Cond.instanceMethod ({ cls := "ScoreThreadsModel", name := "through", desc := "(IF)F" } : Jvm.MethodName)) ∈ lw_all := lw_g (lw_at lw_m5 213 rfl) rfl
theorem q1225 : (Jvm.Cond.code ({ cls := "ScoreThreadsModel", name := "through", desc := "(IF)F" } : Jvm.MethodName) prog_14_method_18_code (8 : Nat) (Option.some Jvm.ClassFile.FieldType.float)) ∈ lw_all := lw_g (lw_at lw_m5 214 rfl) rfl
theorem q1226 : (Jvm.Cond.methodLink "ScoreThreadsModel" (213 : Nat) ({ cls := "ScoreThreadsModel", name := "nearest", desc := "(F)F" } : Jvm.MethodName)) ∈ lw_all := lw_g (lw_at lw_m5 215 rfl) rfl
theorem q1227 : (Jvm.Cond.static ({ cls := "ScoreThreadsModel", name := "nearest", desc := "(F)F" } : Jvm.MethodName)) ∈ lw_all := lw_g (lw_at lw_m5 216 rfl) rfl
theorem q1228 : (Jvm.Cond.code ({ cls := "ScoreThreadsModel", name := "nearest", desc := "(F)F" } : Jvm.MethodName) prog_14_method_16_code (3 : Nat) (Option.some Jvm.ClassFile.FieldType.float)) ∈ lw_all := lw_g (lw_at lw_m5 217 rfl) rfl
theorem q1229 : (Jvm.Cond.constantFloat "ScoreThreadsModel" (209 : Nat) (1258291200 : UInt32)) ∈ lw_all := lw_g (lw_at lw_m5 218 rfl) rfl
theorem q1230 : (Jvm.Cond.methodLink "ScoreThreadsModel" (216 : Nat) ({ cls := "ScoreThreadsModel", name := "echo", desc := "(IF)F" } : Jvm.MethodName)) ∈ lw_all := lw_g (lw_at lw_m5 219 rfl) rfl
theorem q1231 : (Jvm.Cond.privateMethod ({ cls := "ScoreThreadsModel", name := "echo", desc := "(IF)F" } : Jvm.MethodName)) ∈ lw_tbl := lw_at lw_m5 220 rfl
theorem q1232 : (Jvm.Cond.instanceMethod ({ cls := "ScoreThreadsModel", name := "echo", desc := "(IF)F" } : Jvm.MethodName)) ∈ lw_all := lw_g (lw_at lw_m5 221 rfl) rfl
theorem q1233 : (Jvm.Cond.code ({ cls := "ScoreThreadsModel", name := "echo", desc := "(IF)F" } : Jvm.MethodName) prog_14_method_17_code (5 : Nat) (Option.some Jvm.ClassFile.FieldType.float)) ∈ lw_all := lw_g (lw_at lw_m5 222 rfl) rfl
theorem q1234 : (Jvm.Cond.constant "ScoreThreadsModel" (220 : Nat) (-2147483648 : Int32)) ∈ lw_all := lw_g (lw_at lw_m5 223 rfl) rfl
theorem q1235 : (Jvm.Cond.constantFloat "ScoreThreadsModel" (221 : Nat) (1082130432 : UInt32)) ∈ lw_all := lw_g (lw_at lw_m5 224 rfl) rfl
theorem q1236 : (Jvm.Cond.methodLink "ScoreThreadsModel" (257 : Nat) ({ cls := "ScoreThreadsModel", name := "fails", desc := "(III)I" } : Jvm.MethodName)) ∈ lw_all := lw_g (lw_at lw_m5 225 rfl) rfl
theorem q1237 : (Jvm.Cond.privateMethod ({ cls := "ScoreThreadsModel", name := "fails", desc := "(III)I" } : Jvm.MethodName)) ∈ lw_tbl := lw_at lw_m5 226 rfl
theorem q1238 : (Jvm.Cond.instanceMethod ({ cls := "ScoreThreadsModel", name := "fails", desc := "(III)I" } : Jvm.MethodName)) ∈ lw_all := lw_g (lw_at lw_m5 227 rfl) rfl
theorem q1239 : (Jvm.Cond.code ({ cls := "ScoreThreadsModel", name := "fails", desc := "(III)I" } : Jvm.MethodName) prog_14_method_34_code (5 : Nat) (Option.some Jvm.ClassFile.FieldType.int)) ∈ lw_all := lw_g (lw_at lw_m5 228 rfl) rfl
theorem q1240 : (Jvm.Cond.methodLink "ScoreThreadsModel" (261 : Nat) ({ cls := "ScoreThreadsModel", name := "behind", desc := "(III)V" } : Jvm.MethodName)) ∈ lw_all := lw_g (lw_at lw_m5 229 rfl) rfl
theorem q1241 : (Jvm.Cond.privateMethod ({ cls := "ScoreThreadsModel", name := "behind", desc := "(III)V" } : Jvm.MethodName)) ∈ lw_tbl := lw_at lw_m5 230 rfl
theorem q1242 : (Jvm.Cond.instanceMethod ({ cls := "ScoreThreadsModel", name := "behind", desc := "(III)V" } : Jvm.MethodName)) ∈ lw_all := lw_g (lw_at lw_m5 231 rfl) rfl
theorem q1243 : (Jvm.Cond.code ({ cls := "ScoreThreadsModel", name := "behind", desc := "(III)V" } : Jvm.MethodName) prog_14_method_33_code (4 : Nat) (Option.none : Option Jvm.ClassFile.FieldType)) ∈ lw_all := lw_g (lw_at lw_m5 232 rfl) rfl
theorem q1244 : (Jvm.Cond.methodLink "ScoreThreadsModel" (250 : Nat) ({ cls := "ScoreThreadsModel", name := "nextPlace", desc := "(II)I" } : Jvm.MethodName)) ∈ lw_all := lw_g (lw_at lw_m5 233 rfl) rfl
theorem q1245 : (Jvm.Cond.privateMethod ({ cls := "ScoreThreadsModel", name := "nextPlace", desc := "(II)I" } : Jvm.MethodName)) ∈ lw_tbl := lw_at lw_m5 234 rfl
theorem q1246 : (Jvm.Cond.instanceMethod ({ cls := "ScoreThreadsModel", name := "nextPlace", desc := "(II)I" } : Jvm.MethodName)) ∈ lw_all := lw_g (lw_at lw_m5 235 rfl) rfl
theorem q1247 : (Jvm.Cond.code ({ cls := "ScoreThreadsModel", name := "nextPlace", desc := "(II)I" } : Jvm.MethodName) prog_14_method_31_code (4 : Nat) (Option.some Jvm.ClassFile.FieldType.int)) ∈ lw_all := lw_g (lw_at lw_m5 236 rfl) rfl
theorem q1248 : (Jvm.Cond.methodLink "ScoreThreadsModel" (278 : Nat) ({ cls := "ScoreThreadsModel", name := "waits", desc := "()I" } : Jvm.MethodName)) ∈ lw_all := lw_g (lw_at lw_m5 237 rfl) rfl
theorem q1249 : (Jvm.Cond.privateMethod ({ cls := "ScoreThreadsModel", name := "waits", desc := "()I" } : Jvm.MethodName)) ∈ lw_tbl := lw_at lw_m5 238 rfl
theorem q1250 : (Jvm.Cond.instanceMethod ({ cls := "ScoreThreadsModel", name := "waits", desc := "()I" } : Jvm.MethodName)) ∈ lw_all := lw_g (lw_at lw_m5 239 rfl) rfl
theorem q1251 : (Jvm.Cond.code ({ cls := "ScoreThreadsModel", name := "waits", desc := "()I" } : Jvm.MethodName) prog_14_method_39_code (1 : Nat) (Option.some Jvm.ClassFile.FieldType.int)) ∈ lw_all := lw_g (lw_at lw_m6 0 rfl) rfl
theorem q1252 : (Jvm.Cond.methodLink "ScoreThreadsModel" (281 : Nat) ({ cls := "ScoreThreadsModel", name := "firstOf", desc := "(I)I" } : Jvm.MethodName)) ∈ lw_all := lw_g (lw_at lw_m6 1 rfl) rfl
theorem q1253 : (Jvm.Cond.privateMethod ({ cls := "ScoreThreadsModel", name := "firstOf", desc := "(I)I" } : Jvm.MethodName)) ∈ lw_tbl := lw_at lw_m6 2 rfl
theorem q1254 : (Jvm.Cond.instanceMethod ({ cls := "ScoreThreadsModel", name := "firstOf", desc := "(I)I" } : Jvm.MethodName)) ∈ lw_all := lw_g (lw_at lw_m6 3 rfl) rfl
theorem q1255 : (Jvm.Cond.code ({ cls := "ScoreThreadsModel", name := "firstOf", desc := "(I)I" } : Jvm.MethodName) prog_14_method_37_code (3 : Nat) (Option.some Jvm.ClassFile.FieldType.int)) ∈ lw_all := lw_g (lw_at lw_m6 4 rfl) rfl
theorem q1256 : (Jvm.Cond.methodLink "ScoreThreadsModel" (284 : Nat) ({ cls := "ScoreThreadsModel", name := "loads", desc := "(II)I" } : Jvm.MethodName)) ∈ lw_all := lw_g (lw_at lw_m6 5 rfl) rfl
theorem q1257 : (Jvm.Cond.privateMethod ({ cls := "ScoreThreadsModel", name := "loads", desc := "(II)I" } : Jvm.MethodName)) ∈ lw_tbl := lw_at lw_m6 6 rfl
theorem q1258 : (Jvm.Cond.instanceMethod ({ cls := "ScoreThreadsModel", name := "loads", desc := "(II)I" } : Jvm.MethodName)) ∈ lw_all := lw_g (lw_at lw_m6 7 rfl) rfl
theorem q1259 : (Jvm.Cond.code ({ cls := "ScoreThreadsModel", name := "loads", desc := "(II)I" } : Jvm.MethodName) prog_14_method_35_code (6 : Nat) (Option.some Jvm.ClassFile.FieldType.int)) ∈ lw_all := lw_g (lw_at lw_m6 8 rfl) rfl
theorem q1260 : (Jvm.Cond.methodLink "ScoreThreadsModel" (287 : Nat) ({ cls := "ScoreThreadsModel", name := "hasTrack", desc := "()Z" } : Jvm.MethodName)) ∈ lw_all := lw_g (lw_at lw_m6 9 rfl) rfl
theorem q1261 : (Jvm.Cond.privateMethod ({ cls := "ScoreThreadsModel", name := "hasTrack", desc := "()Z" } : Jvm.MethodName)) ∈ lw_tbl := lw_at lw_m6 10 rfl
theorem q1262 : (Jvm.Cond.instanceMethod ({ cls := "ScoreThreadsModel", name := "hasTrack", desc := "()Z" } : Jvm.MethodName)) ∈ lw_all := lw_g (lw_at lw_m6 11 rfl) rfl
theorem q1263 : (Jvm.Cond.code ({ cls := "ScoreThreadsModel", name := "hasTrack", desc := "()Z" } : Jvm.MethodName) prog_14_method_38_code (3 : Nat) (Option.some Jvm.ClassFile.FieldType.boolean)) ∈ lw_all := lw_g (lw_at lw_m6 12 rfl) rfl
theorem q1264 : (Jvm.Cond.methodLink "ScoreThreadsModel" (291 : Nat) ({ cls := "ScoreThreadsModel", name := "mixes", desc := "()I" } : Jvm.MethodName)) ∈ lw_all := lw_g (lw_at lw_m6 13 rfl) rfl
theorem q1265 : (Jvm.Cond.privateMethod ({ cls := "ScoreThreadsModel", name := "mixes", desc := "()I" } : Jvm.MethodName)) ∈ lw_tbl := lw_at lw_m6 14 rfl
theorem q1266 : (Jvm.Cond.instanceMethod ({ cls := "ScoreThreadsModel", name := "mixes", desc := "()I" } : Jvm.MethodName)) ∈ lw_all := lw_g (lw_at lw_m6 15 rfl) rfl
theorem q1267 : (Jvm.Cond.code ({ cls := "ScoreThreadsModel", name := "mixes", desc := "()I" } : Jvm.MethodName) prog_14_method_41_code (4 : Nat) (Option.some Jvm.ClassFile.FieldType.int)) ∈ lw_all := lw_g (lw_at lw_m6 16 rfl) rfl
theorem q1268 : (Jvm.Cond.methodLink "ScoreThreadsModel" (294 : Nat) ({ cls := "ScoreThreadsModel", name := "note", desc := "(II)V" } : Jvm.MethodName)) ∈ lw_all := lw_g (lw_at lw_m6 17 rfl) rfl
theorem q1269 : (Jvm.Cond.privateMethod ({ cls := "ScoreThreadsModel", name := "note", desc := "(II)V" } : Jvm.MethodName)) ∈ lw_tbl := lw_at lw_m6 18 rfl
theorem q1270 : (Jvm.Cond.instanceMethod ({ cls := "ScoreThreadsModel", name := "note", desc := "(II)V" } : Jvm.MethodName)) ∈ lw_all := lw_g (lw_at lw_m6 19 rfl) rfl
theorem q1271 : (Jvm.Cond.code ({ cls := "ScoreThreadsModel", name := "note", desc := "(II)V" } : Jvm.MethodName) prog_14_method_42_code (3 : Nat) (Option.none : Option Jvm.ClassFile.FieldType)) ∈ lw_all := lw_g (lw_at lw_m6 20 rfl) rfl
theorem q1273 : (Jvm.Cond.instanceMethod ({ cls := "ScoreThreadsModel", name := "rounds", desc := "(II)I" } : Jvm.MethodName)) ∈ lw_all := lw_g (lw_at lw_m6 22 rfl) rfl
theorem q1274 : (Jvm.Cond.selects "ScoreThreadsModel" ({ cls := "ScoreThreadsModel", name := "rounds", desc := "(II)I" } : Jvm.MethodName) ({ cls := "ScoreThreadsModel", name := "rounds", desc := "(II)I" } : Jvm.MethodName)) ∈ lw_all := lw_g (lw_at lw_m6 23 rfl) rfl
theorem q1275 : (Jvm.Cond.code ({ cls := "ScoreThreadsModel", name := "rounds", desc := "(II)I" } : Jvm.MethodName) prog_14_method_45_code (5 : Nat) (Option.some Jvm.ClassFile.FieldType.int)) ∈ lw_all := lw_g (lw_at lw_m6 24 rfl) rfl
theorem q1277 : (Jvm.Cond.instanceMethod ({ cls := "ScoreThreadsModel", name := "stop", desc := "()I" } : Jvm.MethodName)) ∈ lw_all := lw_g (lw_at lw_m6 26 rfl) rfl
theorem q1278 : (Jvm.Cond.selects "ScoreThreadsModel" ({ cls := "ScoreThreadsModel", name := "stop", desc := "()I" } : Jvm.MethodName) ({ cls := "ScoreThreadsModel", name := "stop", desc := "()I" } : Jvm.MethodName)) ∈ lw_all := lw_g (lw_at lw_m6 27 rfl) rfl
theorem q1279 : (Jvm.Cond.code ({ cls := "ScoreThreadsModel", name := "stop", desc := "()I" } : Jvm.MethodName) prog_14_method_46_code (2 : Nat) (Option.some Jvm.ClassFile.FieldType.int)) ∈ lw_all := lw_g (lw_at lw_m6 28 rfl) rfl
theorem q1281 : (Jvm.Cond.instanceMethod ({ cls := "ScoreThreadsModel", name := "out", desc := "(I)I" } : Jvm.MethodName)) ∈ lw_all := lw_g (lw_at lw_m6 30 rfl) rfl
theorem q1282 : (Jvm.Cond.selects "ScoreThreadsModel" ({ cls := "ScoreThreadsModel", name := "out", desc := "(I)I" } : Jvm.MethodName) ({ cls := "ScoreThreadsModel", name := "out", desc := "(I)I" } : Jvm.MethodName)) ∈ lw_all := lw_g (lw_at lw_m6 31 rfl) rfl
theorem q1283 : (Jvm.Cond.code ({ cls := "ScoreThreadsModel", name := "out", desc := "(I)I" } : Jvm.MethodName) prog_14_method_47_code (2 : Nat) (Option.some Jvm.ClassFile.FieldType.int)) ∈ lw_all := lw_g (lw_at lw_m6 32 rfl) rfl
theorem q1285 : (Jvm.Cond.instanceMethod ({ cls := "ScoreThreadsModel", name := "told", desc := "(II)I" } : Jvm.MethodName)) ∈ lw_all := lw_g (lw_at lw_m6 34 rfl) rfl
theorem q1286 : (Jvm.Cond.selects "ScoreThreadsModel" ({ cls := "ScoreThreadsModel", name := "told", desc := "(II)I" } : Jvm.MethodName) ({ cls := "ScoreThreadsModel", name := "told", desc := "(II)I" } : Jvm.MethodName)) ∈ lw_all := lw_g (lw_at lw_m6 35 rfl) rfl
theorem q1287 : (Jvm.Cond.code ({ cls := "ScoreThreadsModel", name := "told", desc := "(II)I" } : Jvm.MethodName) prog_14_method_49_code (3 : Nat) (Option.some Jvm.ClassFile.FieldType.int)) ∈ lw_all := lw_g (lw_at lw_m6 36 rfl) rfl
theorem q1288 : (Jvm.Cond.methodLink "ScoreThreadsModel" (307 : Nat) ({ cls := "ScoreThreadsModel", name := "toldOf", desc := "(II)I" } : Jvm.MethodName)) ∈ lw_all := lw_g (lw_at lw_m6 37 rfl) rfl
theorem q1289 : (Jvm.Cond.privateMethod ({ cls := "ScoreThreadsModel", name := "toldOf", desc := "(II)I" } : Jvm.MethodName)) ∈ lw_tbl := lw_at lw_m6 38 rfl
theorem q1290 : (Jvm.Cond.instanceMethod ({ cls := "ScoreThreadsModel", name := "toldOf", desc := "(II)I" } : Jvm.MethodName)) ∈ lw_all := lw_g (lw_at lw_m6 39 rfl) rfl
theorem q1291 : (Jvm.Cond.code ({ cls := "ScoreThreadsModel", name := "toldOf", desc := "(II)I" } : Jvm.MethodName) prog_14_method_48_code (3 : Nat) (Option.some Jvm.ClassFile.FieldType.int)) ∈ lw_all := lw_g (lw_at lw_m6 40 rfl) rfl
theorem q1293 : (Jvm.Cond.instanceMethod ({ cls := "ScoreThreadsModel", name := "worker", desc := "(I)I" } : Jvm.MethodName)) ∈ lw_all := lw_g (lw_at lw_m6 42 rfl) rfl
theorem q1294 : (Jvm.Cond.selects "ScoreThreadsModel" ({ cls := "ScoreThreadsModel", name := "worker", desc := "(I)I" } : Jvm.MethodName) ({ cls := "ScoreThreadsModel", name := "worker", desc := "(I)I" } : Jvm.MethodName)) ∈ lw_all := lw_g (lw_at lw_m6 43 rfl) rfl
theorem q1295 : (Jvm.Cond.code ({ cls := "ScoreThreadsModel", name := "worker", desc := "(I)I" } : Jvm.MethodName) prog_14_method_50_code (2 : Nat) (Option.some Jvm.ClassFile.FieldType.int)) ∈ lw_all := lw_g (lw_at lw_m6 44 rfl) rfl
theorem q1297 : (Jvm.Cond.instanceMethod ({ cls := "ScoreThreadsModel", name := "fault", desc := "(II)I" } : Jvm.MethodName)) ∈ lw_all := lw_g (lw_at lw_m6 46 rfl) rfl
theorem q1298 : (Jvm.Cond.selects "ScoreThreadsModel" ({ cls := "ScoreThreadsModel", name := "fault", desc := "(II)I" } : Jvm.MethodName) ({ cls := "ScoreThreadsModel", name := "fault", desc := "(II)I" } : Jvm.MethodName)) ∈ lw_all := lw_g (lw_at lw_m6 47 rfl) rfl
theorem q1299 : (Jvm.Cond.code ({ cls := "ScoreThreadsModel", name := "fault", desc := "(II)I" } : Jvm.MethodName) prog_14_method_53_code (3 : Nat) (Option.some Jvm.ClassFile.FieldType.int)) ∈ lw_all := lw_g (lw_at lw_m6 48 rfl) rfl
theorem q1300 : (Jvm.Cond.methodLink "ScoreThreadsModel" (310 : Nat) ({ cls := "ScoreThreadsModel", name := "noted", desc := "()I" } : Jvm.MethodName)) ∈ lw_all := lw_g (lw_at lw_m6 49 rfl) rfl
theorem q1301 : (Jvm.Cond.privateMethod ({ cls := "ScoreThreadsModel", name := "noted", desc := "()I" } : Jvm.MethodName)) ∈ lw_tbl := lw_at lw_m6 50 rfl
theorem q1302 : (Jvm.Cond.instanceMethod ({ cls := "ScoreThreadsModel", name := "noted", desc := "()I" } : Jvm.MethodName)) ∈ lw_all := lw_g (lw_at lw_m6 51 rfl) rfl
theorem q1303 : (Jvm.Cond.code ({ cls := "ScoreThreadsModel", name := "noted", desc := "()I" } : Jvm.MethodName) prog_14_method_52_code (1 : Nat) (Option.some Jvm.ClassFile.FieldType.int)) ∈ lw_all := lw_g (lw_at lw_m6 52 rfl) rfl
theorem q1304 : (Jvm.Cond.methodLink "ScoreThreadsModel" (313 : Nat) ({ cls := "ScoreThreadsModel", name := "faultOf", desc := "(II)I" } : Jvm.MethodName)) ∈ lw_all := lw_g (lw_at lw_m6 53 rfl) rfl
theorem q1305 : (Jvm.Cond.privateMethod ({ cls := "ScoreThreadsModel", name := "faultOf", desc := "(II)I" } : Jvm.MethodName)) ∈ lw_tbl := lw_at lw_m6 54 rfl
theorem q1306 : (Jvm.Cond.instanceMethod ({ cls := "ScoreThreadsModel", name := "faultOf", desc := "(II)I" } : Jvm.MethodName)) ∈ lw_all := lw_g (lw_at lw_m6 55 rfl) rfl
theorem q1307 : (Jvm.Cond.code ({ cls := "ScoreThreadsModel", name := "faultOf", desc := "(II)I" } : Jvm.MethodName) prog_14_method_51_code (3 : Nat) (Option.some Jvm.ClassFile.FieldType.int)) ∈ lw_all := lw_g (lw_at lw_m6 56 rfl) rfl
theorem q1309 : (Jvm.Cond.instanceMethod ({ cls := "ScoreThreadsModel", name := "found", desc := "(I)I" } : Jvm.MethodName)) ∈ lw_all := lw_g (lw_at lw_m6 58 rfl) rfl
theorem q1310 : (Jvm.Cond.selects "ScoreThreadsModel" ({ cls := "ScoreThreadsModel", name := "found", desc := "(I)I" } : Jvm.MethodName) ({ cls := "ScoreThreadsModel", name := "found", desc := "(I)I" } : Jvm.MethodName)) ∈ lw_all := lw_g (lw_at lw_m6 59 rfl) rfl
theorem q1311 : (Jvm.Cond.code ({ cls := "ScoreThreadsModel", name := "found", desc := "(I)I" } : Jvm.MethodName) prog_14_method_54_code (2 : Nat) (Option.some Jvm.ClassFile.FieldType.int)) ∈ lw_all := lw_g (lw_at lw_m6 60 rfl) rfl
theorem q1313 : (Jvm.Cond.instanceMethod ({ cls := "ScoreThreadsModel", name := "about", desc := "(I)I" } : Jvm.MethodName)) ∈ lw_all := lw_g (lw_at lw_m6 62 rfl) rfl
theorem q1314 : (Jvm.Cond.selects "ScoreThreadsModel" ({ cls := "ScoreThreadsModel", name := "about", desc := "(I)I" } : Jvm.MethodName) ({ cls := "ScoreThreadsModel", name := "about", desc := "(I)I" } : Jvm.MethodName)) ∈ lw_all := lw_g (lw_at lw_m6 63 rfl) rfl
theorem q1315 : (Jvm.Cond.code ({ cls := "ScoreThreadsModel", name := "about", desc := "(I)I" } : Jvm.MethodName) prog_14_method_55_code (2 : Nat) (Option.some Jvm.ClassFile.FieldType.int)) ∈ lw_all := lw_g (lw_at lw_m6 64 rfl) rfl
theorem q1317 : (Jvm.Cond.instanceMethod ({ cls := "ScoreThreadsModel", name := "digest", desc := "()J" } : Jvm.MethodName)) ∈ lw_all := lw_g (lw_at lw_m6 66 rfl) rfl
theorem q1318 : (Jvm.Cond.selects "ScoreThreadsModel" ({ cls := "ScoreThreadsModel", name := "digest", desc := "()J" } : Jvm.MethodName) ({ cls := "ScoreThreadsModel", name := "digest", desc := "()J" } : Jvm.MethodName)) ∈ lw_all := lw_g (lw_at lw_m6 67 rfl) rfl
theorem q1319 : (Jvm.Cond.code ({ cls := "ScoreThreadsModel", name := "digest", desc := "()J" } : Jvm.MethodName) prog_14_method_57_code (3 : Nat) (Option.some Jvm.ClassFile.FieldType.long)) ∈ lw_all := lw_g (lw_at lw_m6 68 rfl) rfl
theorem q1320 : (Jvm.Cond.constantLong "ScoreThreadsModel" (322 : Nat) (17 : Int64)) ∈ lw_all := lw_g (lw_at lw_m6 69 rfl) rfl
theorem q1321 : (Jvm.Cond.methodLink "ScoreThreadsModel" (324 : Nat) ({ cls := "ScoreThreadsModel", name := "mix", desc := "(J)V" } : Jvm.MethodName)) ∈ lw_all := lw_g (lw_at lw_m6 70 rfl) rfl
theorem q1322 : (Jvm.Cond.privateMethod ({ cls := "ScoreThreadsModel", name := "mix", desc := "(J)V" } : Jvm.MethodName)) ∈ lw_tbl := lw_at lw_m6 71 rfl
theorem q1323 : (Jvm.Cond.instanceMethod ({ cls := "ScoreThreadsModel", name := "mix", desc := "(J)V" } : Jvm.MethodName)) ∈ lw_all := lw_g (lw_at lw_m6 72 rfl) rfl
theorem q1324 : (Jvm.Cond.code ({ cls := "ScoreThreadsModel", name := "mix", desc := "(J)V" } : Jvm.MethodName) prog_14_method_56_code (3 : Nat) (Option.none : Option Jvm.ClassFile.FieldType)) ∈ lw_all := lw_g (lw_at lw_m6 73 rfl) rfl
theorem q1325 : (Jvm.Cond.constantLong "ScoreThreadsModel" (316 : Nat) (31 : Int64)) ∈ lw_all := lw_g (lw_at lw_m6 74 rfl) rfl
theorem in_X2 : ∀ w ∈ wsX20, w ∈ lw_all := lw_in wsX20 [985, 987, 989, 991, 993, 995, 997, 999, 1001, 1003, 1005, 1007, 1009, 1011, 1013, 1015, 1017, 1019, 1021, 1023, 1025, 1027, 1029, 1031, 1033, 1035, 1037, 1039, 1041, 1043, 1045, 1047, 1049, 1051, 1053, 1055, 1057, 1059, 1061, 1063, 1065, 1067, 1069, 1071, 1073, 1075, 1077, 1079, 1081, 1083, 1085, 1087, 1089] (by decide +kernel) (by decide +kernel)

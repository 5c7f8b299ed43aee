/-! ScoreThreads -/
set_option maxRecDepth 100000
def RX0 : String := "ScoreThreads"
def TX0 : u_T := fun k => match k with
  | 0 => ("ScoreThreads", "clips", "[LScoreThreads$Clip;", true)
  | 1 => ("ScoreThreads", "clipMany", "I", false)
  | 2 => ("ScoreThreads", "plugs", "[LScoreThreads$Plug;", true)
  | 3 => ("ScoreThreads", "plugMany", "I", false)
  | 4 => ("ScoreThreads", "tracks", "[LScoreThreads$Track;", true)
  | 5 => ("ScoreThreads", "has", "[I", true)
  | 6 => ("ScoreThreads", "workers", "I", false)
  | 7 => ("ScoreThreads", "runs", "Z", false)
  | 8 => ("ScoreThreads", "stops", "Z", false)
  | 9 => ("ScoreThreads", "left", "I", false)
  | 10 => ("ScoreThreads", "blocks", "I", false)
  | 11 => ("ScoreThreads", "out", "[F", true)
  | 12 => ("ScoreThreads", "steps", "I", false)
  | 13 => ("ScoreThreads", "waits", "I", false)
  | 14 => ("ScoreThreads", "found", "[I", true)
  | 15 => ("ScoreThreads", "faults", "[I", true)
  | 16 => ("ScoreThreads", "faultMany", "I", false)
  | 17 => ("ScoreThreads", "queue", "[I", true)
  | 18 => ("ScoreThreads", "queued", "I", false)
  | _ => ("ScoreThreads", "edits", "I", false)
def tyX0 : Nat → FieldType := fun k => match k with
  | 0 => .array (.object "ScoreThreads$Clip")
  | 1 => .int
  | 2 => .array (.object "ScoreThreads$Plug")
  | 3 => .int
  | 4 => .array (.object "ScoreThreads$Track")
  | 5 => .array .int
  | 6 => .int
  | 7 => .boolean
  | 8 => .boolean
  | 9 => .int
  | 10 => .int
  | 11 => .array .float
  | 12 => .int
  | 13 => .int
  | 14 => .array .int
  | 15 => .array .int
  | 16 => .int
  | 17 => .array .int
  | 18 => .int
  | _ => .int
abbrev wsX00 : List Cond := u_ws RX0 TX0 20
set_option maxRecDepth 100000 in
theorem nmX0 : ∀ a, a < 20 → ∀ b, b < 20 → a ≠ b → (TX0 a).2.1 ≠ (TX0 b).2.1 := by decide +kernel
set_option maxRecDepth 100000 in
theorem tyX0_ok : ∀ k, k < 20 → parseFieldDescriptor (TX0 k).2.2.1 = some (tyX0 k) := by decide +kernel
abbrev cX0_init : ByteArray := prog_1_method_5_code
def yX0_init : MethodName := ⟨RX0, "<init>", "()V"⟩
def dkwX0_init_5 : List UInt8 := [79, 132, 1, 1, 167, 255, 241, 177]
abbrev dktX0_init_5 : List UInt8 := dkwX0_init_5 ++ []
def dkwX0_init_4 : List UInt8 := [89, 183, 0, 80, 83, 132, 1, 1, 167, 255, 234, 3, 60, 27, 7, 162, 0, 16, 42, 180, 0, 59, 27, 2]
abbrev dktX0_init_4 : List UInt8 := dkwX0_init_4 ++ dktX0_init_5
def dkwX0_init_3 : List UInt8 := [17, 0, 150, 188, 10, 181, 0, 77, 3, 60, 27, 16, 8, 162, 0, 22, 42, 180, 0, 55, 27, 187, 0, 53]
abbrev dktX0_init_3 : List UInt8 := dkwX0_init_3 ++ dktX0_init_4
def dkwX0_init_2 : List UInt8 := [188, 6, 181, 0, 67, 42, 16, 7, 188, 10, 181, 0, 71, 42, 17, 1, 244, 188, 10, 181, 0, 74, 42]
abbrev dktX0_init_2 : List UInt8 := dkwX0_init_2 ++ dktX0_init_3
def dkwX0_init_1 : List UInt8 := [16, 8, 189, 0, 53, 181, 0, 55, 42, 7, 188, 10, 181, 0, 59, 42, 5, 181, 0, 63, 42, 17, 2, 0]
abbrev dktX0_init_1 : List UInt8 := dkwX0_init_1 ++ dktX0_init_2
def dkwX0_init_0 : List UInt8 := [42, 183, 0, 40, 42, 16, 16, 189, 0, 45, 181, 0, 31, 42, 16, 12, 189, 0, 47, 181, 0, 49, 42]
abbrev dktX0_init_0 : List UInt8 := dkwX0_init_0 ++ dktX0_init_1
theorem dksX0_init_0 : cX0_init.data.toList.drop 0 = dktX0_init_0 := by decide +kernel
theorem dksX0_init_1 : cX0_init.data.toList.drop 23 = dktX0_init_1 := dk_seg dksX0_init_0 23 rfl rfl
theorem dksX0_init_2 : cX0_init.data.toList.drop 47 = dktX0_init_2 := dk_seg dksX0_init_1 24 rfl rfl
theorem dksX0_init_3 : cX0_init.data.toList.drop 70 = dktX0_init_3 := dk_seg dksX0_init_2 23 rfl rfl
theorem dksX0_init_4 : cX0_init.data.toList.drop 94 = dktX0_init_4 := dk_seg dksX0_init_3 24 rfl rfl
theorem dksX0_init_5 : cX0_init.data.toList.drop 118 = dktX0_init_5 := dk_seg dksX0_init_4 24 rfl rfl
theorem dX0_init_0 : decode cX0_init 0 = .ok (.aload_n 0, 1) := dk_42 (dk_at dksX0_init_0 0 rfl rfl)
theorem dX0_init_1 : decode cX0_init 1 = .ok (.invokespecial 40, 3) := dk_183 0 40 (dk_at dksX0_init_0 1 rfl rfl)
theorem dX0_init_4 : decode cX0_init 4 = .ok (.aload_n 0, 1) := dk_42 (dk_at dksX0_init_0 4 rfl rfl)
theorem dX0_init_5 : decode cX0_init 5 = .ok (.bipush 16, 2) := dk_16 16 (dk_at dksX0_init_0 5 rfl rfl)
theorem dX0_init_7 : decode cX0_init 7 = .ok (.anewarray 45, 3) := dk_189 0 45 (dk_at dksX0_init_0 7 rfl rfl)
theorem dX0_init_10 : decode cX0_init 10 = .ok (.putfield 31, 3) := dk_181 0 31 (dk_at dksX0_init_0 10 rfl rfl)
theorem dX0_init_13 : decode cX0_init 13 = .ok (.aload_n 0, 1) := dk_42 (dk_at dksX0_init_0 13 rfl rfl)
theorem dX0_init_14 : decode cX0_init 14 = .ok (.bipush 12, 2) := dk_16 12 (dk_at dksX0_init_0 14 rfl rfl)
theorem dX0_init_16 : decode cX0_init 16 = .ok (.anewarray 47, 3) := dk_189 0 47 (dk_at dksX0_init_0 16 rfl rfl)
theorem dX0_init_19 : decode cX0_init 19 = .ok (.putfield 49, 3) := dk_181 0 49 (dk_at dksX0_init_0 19 rfl rfl)
theorem dX0_init_22 : decode cX0_init 22 = .ok (.aload_n 0, 1) := dk_42 (dk_at dksX0_init_0 22 rfl rfl)
theorem dX0_init_23 : decode cX0_init 23 = .ok (.bipush 8, 2) := dk_16 8 (dk_at dksX0_init_1 0 rfl rfl)
theorem dX0_init_25 : decode cX0_init 25 = .ok (.anewarray 53, 3) := dk_189 0 53 (dk_at dksX0_init_1 2 rfl rfl)
theorem dX0_init_28 : decode cX0_init 28 = .ok (.putfield 55, 3) := dk_181 0 55 (dk_at dksX0_init_1 5 rfl rfl)
theorem dX0_init_31 : decode cX0_init 31 = .ok (.aload_n 0, 1) := dk_42 (dk_at dksX0_init_1 8 rfl rfl)
theorem dX0_init_32 : decode cX0_init 32 = .ok (.iconst 4, 1) := dk_7 (dk_at dksX0_init_1 9 rfl rfl)
theorem dX0_init_33 : decode cX0_init 33 = .ok (.newarray .int, 2) := dk_188_10 (dk_at dksX0_init_1 10 rfl rfl)
theorem dX0_init_35 : decode cX0_init 35 = .ok (.putfield 59, 3) := dk_181 0 59 (dk_at dksX0_init_1 12 rfl rfl)
theorem dX0_init_38 : decode cX0_init 38 = .ok (.aload_n 0, 1) := dk_42 (dk_at dksX0_init_1 15 rfl rfl)
theorem dX0_init_39 : decode cX0_init 39 = .ok (.iconst 2, 1) := dk_5 (dk_at dksX0_init_1 16 rfl rfl)
theorem dX0_init_40 : decode cX0_init 40 = .ok (.putfield 63, 3) := dk_181 0 63 (dk_at dksX0_init_1 17 rfl rfl)
theorem dX0_init_43 : decode cX0_init 43 = .ok (.aload_n 0, 1) := dk_42 (dk_at dksX0_init_1 20 rfl rfl)
theorem dX0_init_44 : decode cX0_init 44 = .ok (.sipush 512, 3) := dk_17 2 0 (dk_at dksX0_init_1 21 rfl rfl)
theorem dX0_init_47 : decode cX0_init 47 = .ok (.newarray .float, 2) := dk_188_6 (dk_at dksX0_init_2 0 rfl rfl)
theorem dX0_init_49 : decode cX0_init 49 = .ok (.putfield 67, 3) := dk_181 0 67 (dk_at dksX0_init_2 2 rfl rfl)
theorem dX0_init_52 : decode cX0_init 52 = .ok (.aload_n 0, 1) := dk_42 (dk_at dksX0_init_2 5 rfl rfl)
theorem dX0_init_53 : decode cX0_init 53 = .ok (.bipush 7, 2) := dk_16 7 (dk_at dksX0_init_2 6 rfl rfl)
theorem dX0_init_55 : decode cX0_init 55 = .ok (.newarray .int, 2) := dk_188_10 (dk_at dksX0_init_2 8 rfl rfl)
theorem dX0_init_57 : decode cX0_init 57 = .ok (.putfield 71, 3) := dk_181 0 71 (dk_at dksX0_init_2 10 rfl rfl)
theorem dX0_init_60 : decode cX0_init 60 = .ok (.aload_n 0, 1) := dk_42 (dk_at dksX0_init_2 13 rfl rfl)
theorem dX0_init_61 : decode cX0_init 61 = .ok (.sipush 500, 3) := dk_17 1 244 (dk_at dksX0_init_2 14 rfl rfl)
theorem dX0_init_64 : decode cX0_init 64 = .ok (.newarray .int, 2) := dk_188_10 (dk_at dksX0_init_2 17 rfl rfl)
theorem dX0_init_66 : decode cX0_init 66 = .ok (.putfield 74, 3) := dk_181 0 74 (dk_at dksX0_init_2 19 rfl rfl)
theorem dX0_init_69 : decode cX0_init 69 = .ok (.aload_n 0, 1) := dk_42 (dk_at dksX0_init_2 22 rfl rfl)
theorem dX0_init_70 : decode cX0_init 70 = .ok (.sipush 150, 3) := dk_17 0 150 (dk_at dksX0_init_3 0 rfl rfl)
theorem dX0_init_73 : decode cX0_init 73 = .ok (.newarray .int, 2) := dk_188_10 (dk_at dksX0_init_3 3 rfl rfl)
theorem dX0_init_75 : decode cX0_init 75 = .ok (.putfield 77, 3) := dk_181 0 77 (dk_at dksX0_init_3 5 rfl rfl)
theorem dX0_init_78 : decode cX0_init 78 = .ok (.iconst 0, 1) := dk_3 (dk_at dksX0_init_3 8 rfl rfl)
theorem dX0_init_79 : decode cX0_init 79 = .ok (.istore_n 1, 1) := dk_60 (dk_at dksX0_init_3 9 rfl rfl)
theorem dX0_init_80 : decode cX0_init 80 = .ok (.iload_n 1, 1) := dk_27 (dk_at dksX0_init_3 10 rfl rfl)
theorem dX0_init_81 : decode cX0_init 81 = .ok (.bipush 8, 2) := dk_16 8 (dk_at dksX0_init_3 11 rfl rfl)
theorem dX0_init_83 : decode cX0_init 83 = .ok (.if_icmp .ge 22, 3) := dk_162 0 22 (dk_at dksX0_init_3 13 rfl rfl)
theorem dX0_init_86 : decode cX0_init 86 = .ok (.aload_n 0, 1) := dk_42 (dk_at dksX0_init_3 16 rfl rfl)
theorem dX0_init_87 : decode cX0_init 87 = .ok (.getfield 55, 3) := dk_180 0 55 (dk_at dksX0_init_3 17 rfl rfl)
theorem dX0_init_90 : decode cX0_init 90 = .ok (.iload_n 1, 1) := dk_27 (dk_at dksX0_init_3 20 rfl rfl)
theorem dX0_init_91 : decode cX0_init 91 = .ok (.new 53, 3) := dk_187 0 53 (dk_at dksX0_init_3 21 rfl rfl)
theorem dX0_init_94 : decode cX0_init 94 = .ok (.dup, 1) := dk_89 (dk_at dksX0_init_4 0 rfl rfl)
theorem dX0_init_95 : decode cX0_init 95 = .ok (.invokespecial 80, 3) := dk_183 0 80 (dk_at dksX0_init_4 1 rfl rfl)
theorem dX0_init_98 : decode cX0_init 98 = .ok (.aastore, 1) := dk_83 (dk_at dksX0_init_4 4 rfl rfl)
theorem dX0_init_99 : decode cX0_init 99 = .ok (.iinc 1 1, 3) := dk_132 1 1 (dk_at dksX0_init_4 5 rfl rfl)
theorem dX0_init_102 : decode cX0_init 102 = .ok (.goto (-22), 3) := dk_167 255 234 (dk_at dksX0_init_4 8 rfl rfl)
theorem dX0_init_105 : decode cX0_init 105 = .ok (.iconst 0, 1) := dk_3 (dk_at dksX0_init_4 11 rfl rfl)
theorem dX0_init_106 : decode cX0_init 106 = .ok (.istore_n 1, 1) := dk_60 (dk_at dksX0_init_4 12 rfl rfl)
theorem dX0_init_107 : decode cX0_init 107 = .ok (.iload_n 1, 1) := dk_27 (dk_at dksX0_init_4 13 rfl rfl)
theorem dX0_init_108 : decode cX0_init 108 = .ok (.iconst 4, 1) := dk_7 (dk_at dksX0_init_4 14 rfl rfl)
theorem dX0_init_109 : decode cX0_init 109 = .ok (.if_icmp .ge 16, 3) := dk_162 0 16 (dk_at dksX0_init_4 15 rfl rfl)
theorem dX0_init_112 : decode cX0_init 112 = .ok (.aload_n 0, 1) := dk_42 (dk_at dksX0_init_4 18 rfl rfl)
theorem dX0_init_113 : decode cX0_init 113 = .ok (.getfield 59, 3) := dk_180 0 59 (dk_at dksX0_init_4 19 rfl rfl)
theorem dX0_init_116 : decode cX0_init 116 = .ok (.iload_n 1, 1) := dk_27 (dk_at dksX0_init_4 22 rfl rfl)
theorem dX0_init_117 : decode cX0_init 117 = .ok (.iconst (-1), 1) := dk_2 (dk_at dksX0_init_4 23 rfl rfl)
theorem dX0_init_118 : decode cX0_init 118 = .ok (.iastore, 1) := dk_79 (dk_at dksX0_init_5 0 rfl rfl)
theorem dX0_init_119 : decode cX0_init 119 = .ok (.iinc 1 1, 3) := dk_132 1 1 (dk_at dksX0_init_5 1 rfl rfl)
theorem dX0_init_122 : decode cX0_init 122 = .ok (.goto (-15), 3) := dk_167 255 241 (dk_at dksX0_init_5 4 rfl rfl)
theorem dX0_init_125 : decode cX0_init 125 = .ok (.return_, 1) := dk_177 (dk_at dksX0_init_5 7 rfl rfl)
abbrev cX0_clip : ByteArray := prog_1_method_11_code
def yX0_clip : MethodName := ⟨RX0, "clip", "(II)I"⟩
def dkwX0_clip_3 : List UInt8 := [4, 100, 172]
abbrev dktX0_clip_3 : List UInt8 := dkwX0_clip_3 ++ []
def dkwX0_clip_2 : List UInt8 := [167, 0, 10, 78, 42, 8, 182, 0, 96, 172, 42, 89, 180, 0, 85, 4, 96, 181, 0, 85, 42, 180, 0, 85]
abbrev dktX0_clip_2 : List UInt8 := dkwX0_clip_2 ++ dktX0_clip_3
def dkwX0_clip_1 : List UInt8 := [160, 0, 6, 16, 152, 172, 42, 180, 0, 31, 42, 180, 0, 85, 187, 0, 45, 89, 27, 28, 183, 0, 91, 83]
abbrev dktX0_clip_1 : List UInt8 := dkwX0_clip_1 ++ dktX0_clip_2
def dkwX0_clip_0 : List UInt8 := [27, 3, 7, 184, 0, 81, 153, 0, 9, 28, 16, 64, 164, 0, 6, 16, 154, 172, 42, 180, 0, 85, 16, 16]
abbrev dktX0_clip_0 : List UInt8 := dkwX0_clip_0 ++ dktX0_clip_1
theorem dksX0_clip_0 : cX0_clip.data.toList.drop 0 = dktX0_clip_0 := by decide +kernel
theorem dksX0_clip_1 : cX0_clip.data.toList.drop 24 = dktX0_clip_1 := dk_seg dksX0_clip_0 24 rfl rfl
theorem dksX0_clip_2 : cX0_clip.data.toList.drop 48 = dktX0_clip_2 := dk_seg dksX0_clip_1 24 rfl rfl
theorem dksX0_clip_3 : cX0_clip.data.toList.drop 72 = dktX0_clip_3 := dk_seg dksX0_clip_2 24 rfl rfl
theorem dX0_clip_0 : decode cX0_clip 0 = .ok (.iload_n 1, 1) := dk_27 (dk_at dksX0_clip_0 0 rfl rfl)
theorem dX0_clip_1 : decode cX0_clip 1 = .ok (.iconst 0, 1) := dk_3 (dk_at dksX0_clip_0 1 rfl rfl)
theorem dX0_clip_2 : decode cX0_clip 2 = .ok (.iconst 4, 1) := dk_7 (dk_at dksX0_clip_0 2 rfl rfl)
theorem dX0_clip_3 : decode cX0_clip 3 = .ok (.invokestatic 81, 3) := dk_184 0 81 (dk_at dksX0_clip_0 3 rfl rfl)
theorem dX0_clip_6 : decode cX0_clip 6 = .ok (.ifCond .eq 9, 3) := dk_153 0 9 (dk_at dksX0_clip_0 6 rfl rfl)
theorem dX0_clip_9 : decode cX0_clip 9 = .ok (.iload_n 2, 1) := dk_28 (dk_at dksX0_clip_0 9 rfl rfl)
theorem dX0_clip_10 : decode cX0_clip 10 = .ok (.bipush 64, 2) := dk_16 64 (dk_at dksX0_clip_0 10 rfl rfl)
theorem dX0_clip_12 : decode cX0_clip 12 = .ok (.if_icmp .le 6, 3) := dk_164 0 6 (dk_at dksX0_clip_0 12 rfl rfl)
theorem dX0_clip_15 : decode cX0_clip 15 = .ok (.bipush (-102), 2) := dk_16 154 (dk_at dksX0_clip_0 15 rfl rfl)
theorem dX0_clip_17 : decode cX0_clip 17 = .ok (.ireturn, 1) := dk_172 (dk_at dksX0_clip_0 17 rfl rfl)
theorem dX0_clip_18 : decode cX0_clip 18 = .ok (.aload_n 0, 1) := dk_42 (dk_at dksX0_clip_0 18 rfl rfl)
theorem dX0_clip_19 : decode cX0_clip 19 = .ok (.getfield 85, 3) := dk_180 0 85 (dk_at dksX0_clip_0 19 rfl rfl)
theorem dX0_clip_22 : decode cX0_clip 22 = .ok (.bipush 16, 2) := dk_16 16 (dk_at dksX0_clip_0 22 rfl rfl)
theorem dX0_clip_24 : decode cX0_clip 24 = .ok (.if_icmp .ne 6, 3) := dk_160 0 6 (dk_at dksX0_clip_1 0 rfl rfl)
theorem dX0_clip_27 : decode cX0_clip 27 = .ok (.bipush (-104), 2) := dk_16 152 (dk_at dksX0_clip_1 3 rfl rfl)
theorem dX0_clip_29 : decode cX0_clip 29 = .ok (.ireturn, 1) := dk_172 (dk_at dksX0_clip_1 5 rfl rfl)
theorem dX0_clip_30 : decode cX0_clip 30 = .ok (.aload_n 0, 1) := dk_42 (dk_at dksX0_clip_1 6 rfl rfl)
theorem dX0_clip_31 : decode cX0_clip 31 = .ok (.getfield 31, 3) := dk_180 0 31 (dk_at dksX0_clip_1 7 rfl rfl)
theorem dX0_clip_34 : decode cX0_clip 34 = .ok (.aload_n 0, 1) := dk_42 (dk_at dksX0_clip_1 10 rfl rfl)
theorem dX0_clip_35 : decode cX0_clip 35 = .ok (.getfield 85, 3) := dk_180 0 85 (dk_at dksX0_clip_1 11 rfl rfl)
theorem dX0_clip_38 : decode cX0_clip 38 = .ok (.new 45, 3) := dk_187 0 45 (dk_at dksX0_clip_1 14 rfl rfl)
theorem dX0_clip_41 : decode cX0_clip 41 = .ok (.dup, 1) := dk_89 (dk_at dksX0_clip_1 17 rfl rfl)
theorem dX0_clip_42 : decode cX0_clip 42 = .ok (.iload_n 1, 1) := dk_27 (dk_at dksX0_clip_1 18 rfl rfl)
theorem dX0_clip_43 : decode cX0_clip 43 = .ok (.iload_n 2, 1) := dk_28 (dk_at dksX0_clip_1 19 rfl rfl)
theorem dX0_clip_44 : decode cX0_clip 44 = .ok (.invokespecial 91, 3) := dk_183 0 91 (dk_at dksX0_clip_1 20 rfl rfl)
theorem dX0_clip_47 : decode cX0_clip 47 = .ok (.aastore, 1) := dk_83 (dk_at dksX0_clip_1 23 rfl rfl)
theorem dX0_clip_48 : decode cX0_clip 48 = .ok (.goto 10, 3) := dk_167 0 10 (dk_at dksX0_clip_2 0 rfl rfl)
theorem dX0_clip_51 : decode cX0_clip 51 = .ok (.astore_n 3, 1) := dk_78 (dk_at dksX0_clip_2 3 rfl rfl)
theorem dX0_clip_52 : decode cX0_clip 52 = .ok (.aload_n 0, 1) := dk_42 (dk_at dksX0_clip_2 4 rfl rfl)
theorem dX0_clip_53 : decode cX0_clip 53 = .ok (.iconst 5, 1) := dk_8 (dk_at dksX0_clip_2 5 rfl rfl)
theorem dX0_clip_54 : decode cX0_clip 54 = .ok (.invokevirtual 96, 3) := dk_182 0 96 (dk_at dksX0_clip_2 6 rfl rfl)
theorem dX0_clip_57 : decode cX0_clip 57 = .ok (.ireturn, 1) := dk_172 (dk_at dksX0_clip_2 9 rfl rfl)
theorem dX0_clip_58 : decode cX0_clip 58 = .ok (.aload_n 0, 1) := dk_42 (dk_at dksX0_clip_2 10 rfl rfl)
theorem dX0_clip_59 : decode cX0_clip 59 = .ok (.dup, 1) := dk_89 (dk_at dksX0_clip_2 11 rfl rfl)
theorem dX0_clip_60 : decode cX0_clip 60 = .ok (.getfield 85, 3) := dk_180 0 85 (dk_at dksX0_clip_2 12 rfl rfl)
theorem dX0_clip_63 : decode cX0_clip 63 = .ok (.iconst 1, 1) := dk_4 (dk_at dksX0_clip_2 15 rfl rfl)
theorem dX0_clip_64 : decode cX0_clip 64 = .ok (.iadd, 1) := dk_96 (dk_at dksX0_clip_2 16 rfl rfl)
theorem dX0_clip_65 : decode cX0_clip 65 = .ok (.putfield 85, 3) := dk_181 0 85 (dk_at dksX0_clip_2 17 rfl rfl)
theorem dX0_clip_68 : decode cX0_clip 68 = .ok (.aload_n 0, 1) := dk_42 (dk_at dksX0_clip_2 20 rfl rfl)
theorem dX0_clip_69 : decode cX0_clip 69 = .ok (.getfield 85, 3) := dk_180 0 85 (dk_at dksX0_clip_2 21 rfl rfl)
theorem dX0_clip_72 : decode cX0_clip 72 = .ok (.iconst 1, 1) := dk_4 (dk_at dksX0_clip_3 0 rfl rfl)
theorem dX0_clip_73 : decode cX0_clip 73 = .ok (.isub, 1) := dk_100 (dk_at dksX0_clip_3 1 rfl rfl)
theorem dX0_clip_74 : decode cX0_clip 74 = .ok (.ireturn, 1) := dk_172 (dk_at dksX0_clip_3 2 rfl rfl)
abbrev cX0_isIn : ByteArray := prog_1_method_1_code
def yX0_isIn : MethodName := ⟨RX0, "isIn", "(III)Z"⟩
def dkwX0_isIn_0 : List UInt8 := [26, 27, 161, 0, 12, 26, 28, 163, 0, 7, 4, 167, 0, 4, 3, 172]
abbrev dktX0_isIn_0 : List UInt8 := dkwX0_isIn_0 ++ []
theorem dksX0_isIn_0 : cX0_isIn.data.toList.drop 0 = dktX0_isIn_0 := by decide +kernel
theorem dX0_isIn_0 : decode cX0_isIn 0 = .ok (.iload_n 0, 1) := dk_26 (dk_at dksX0_isIn_0 0 rfl rfl)
theorem dX0_isIn_1 : decode cX0_isIn 1 = .ok (.iload_n 1, 1) := dk_27 (dk_at dksX0_isIn_0 1 rfl rfl)
theorem dX0_isIn_2 : decode cX0_isIn 2 = .ok (.if_icmp .lt 12, 3) := dk_161 0 12 (dk_at dksX0_isIn_0 2 rfl rfl)
theorem dX0_isIn_5 : decode cX0_isIn 5 = .ok (.iload_n 0, 1) := dk_26 (dk_at dksX0_isIn_0 5 rfl rfl)
theorem dX0_isIn_6 : decode cX0_isIn 6 = .ok (.iload_n 2, 1) := dk_28 (dk_at dksX0_isIn_0 6 rfl rfl)
theorem dX0_isIn_7 : decode cX0_isIn 7 = .ok (.if_icmp .gt 7, 3) := dk_163 0 7 (dk_at dksX0_isIn_0 7 rfl rfl)
theorem dX0_isIn_10 : decode cX0_isIn 10 = .ok (.iconst 1, 1) := dk_4 (dk_at dksX0_isIn_0 10 rfl rfl)
theorem dX0_isIn_11 : decode cX0_isIn 11 = .ok (.goto 4, 3) := dk_167 0 4 (dk_at dksX0_isIn_0 11 rfl rfl)
theorem dX0_isIn_14 : decode cX0_isIn 14 = .ok (.iconst 0, 1) := dk_3 (dk_at dksX0_isIn_0 14 rfl rfl)
theorem dX0_isIn_15 : decode cX0_isIn 15 = .ok (.ireturn, 1) := dk_172 (dk_at dksX0_isIn_0 15 rfl rfl)
abbrev cX0_met : ByteArray := prog_1_method_6_code
def yX0_met : MethodName := ⟨RX0, "met", "(I)I"⟩
def dkwX0_met_0 : List UInt8 := [42, 180, 0, 71, 27, 92, 46, 4, 96, 79, 16, 246, 27, 100, 172]
abbrev dktX0_met_0 : List UInt8 := dkwX0_met_0 ++ []
theorem dksX0_met_0 : cX0_met.data.toList.drop 0 = dktX0_met_0 := by decide +kernel
theorem dX0_met_0 : decode cX0_met 0 = .ok (.aload_n 0, 1) := dk_42 (dk_at dksX0_met_0 0 rfl rfl)
theorem dX0_met_1 : decode cX0_met 1 = .ok (.getfield 71, 3) := dk_180 0 71 (dk_at dksX0_met_0 1 rfl rfl)
theorem dX0_met_4 : decode cX0_met 4 = .ok (.iload_n 1, 1) := dk_27 (dk_at dksX0_met_0 4 rfl rfl)
theorem dX0_met_5 : decode cX0_met 5 = .ok (.dup2, 1) := dk_92 (dk_at dksX0_met_0 5 rfl rfl)
theorem dX0_met_6 : decode cX0_met 6 = .ok (.iaload, 1) := dk_46 (dk_at dksX0_met_0 6 rfl rfl)
theorem dX0_met_7 : decode cX0_met 7 = .ok (.iconst 1, 1) := dk_4 (dk_at dksX0_met_0 7 rfl rfl)
theorem dX0_met_8 : decode cX0_met 8 = .ok (.iadd, 1) := dk_96 (dk_at dksX0_met_0 8 rfl rfl)
theorem dX0_met_9 : decode cX0_met 9 = .ok (.iastore, 1) := dk_79 (dk_at dksX0_met_0 9 rfl rfl)
theorem dX0_met_10 : decode cX0_met 10 = .ok (.bipush (-10), 2) := dk_16 246 (dk_at dksX0_met_0 10 rfl rfl)
theorem dX0_met_12 : decode cX0_met 12 = .ok (.iload_n 1, 1) := dk_27 (dk_at dksX0_met_0 12 rfl rfl)
theorem dX0_met_13 : decode cX0_met 13 = .ok (.isub, 1) := dk_100 (dk_at dksX0_met_0 13 rfl rfl)
theorem dX0_met_14 : decode cX0_met 14 = .ok (.ireturn, 1) := dk_172 (dk_at dksX0_met_0 14 rfl rfl)
abbrev cX0_number : ByteArray := prog_1_method_12_code
def yX0_number : MethodName := ⟨RX0, "number", "(IIIJ)I"⟩
def dkwX0_number_4 : List UInt8 := [167, 0, 19, 58, 7, 42, 6, 182, 0, 96, 172, 58, 7, 42, 5, 182, 0, 96, 172, 3, 172]
abbrev dktX0_number_4 : List UInt8 := dkwX0_number_4 ++ []
def dkwX0_number_3 : List UInt8 := [180, 0, 111, 153, 0, 6, 16, 153, 172, 42, 180, 0, 31, 27, 50, 28, 29, 22, 4, 182, 0, 115]
abbrev dktX0_number_3 : List UInt8 := dkwX0_number_3 ++ dktX0_number_4
def dkwX0_number_2 : List UInt8 := [167, 0, 4, 3, 54, 6, 28, 3, 7, 184, 0, 81, 153, 0, 8, 21, 6, 153, 0, 6, 16, 154, 172, 42]
abbrev dktX0_number_2 : List UInt8 := dkwX0_number_2 ++ dktX0_number_3
def dkwX0_number_1 : List UInt8 := [167, 0, 26, 28, 7, 160, 0, 20, 22, 4, 20, 0, 107, 127, 20, 0, 109, 148, 158, 0, 7, 4]
abbrev dktX0_number_1 : List UInt8 := dkwX0_number_1 ++ dktX0_number_2
def dkwX0_number_0 : List UInt8 := [42, 27, 182, 0, 100, 154, 0, 6, 16, 155, 172, 28, 6, 160, 0, 12, 22, 4, 136, 184, 0, 104]
abbrev dktX0_number_0 : List UInt8 := dkwX0_number_0 ++ dktX0_number_1
theorem dksX0_number_0 : cX0_number.data.toList.drop 0 = dktX0_number_0 := by decide +kernel
theorem dksX0_number_1 : cX0_number.data.toList.drop 22 = dktX0_number_1 := dk_seg dksX0_number_0 22 rfl rfl
theorem dksX0_number_2 : cX0_number.data.toList.drop 44 = dktX0_number_2 := dk_seg dksX0_number_1 22 rfl rfl
theorem dksX0_number_3 : cX0_number.data.toList.drop 68 = dktX0_number_3 := dk_seg dksX0_number_2 24 rfl rfl
theorem dksX0_number_4 : cX0_number.data.toList.drop 90 = dktX0_number_4 := dk_seg dksX0_number_3 22 rfl rfl
theorem dX0_number_0 : decode cX0_number 0 = .ok (.aload_n 0, 1) := dk_42 (dk_at dksX0_number_0 0 rfl rfl)
theorem dX0_number_1 : decode cX0_number 1 = .ok (.iload_n 1, 1) := dk_27 (dk_at dksX0_number_0 1 rfl rfl)
theorem dX0_number_2 : decode cX0_number 2 = .ok (.invokevirtual 100, 3) := dk_182 0 100 (dk_at dksX0_number_0 2 rfl rfl)
theorem dX0_number_5 : decode cX0_number 5 = .ok (.ifCond .ne 6, 3) := dk_154 0 6 (dk_at dksX0_number_0 5 rfl rfl)
theorem dX0_number_8 : decode cX0_number 8 = .ok (.bipush (-101), 2) := dk_16 155 (dk_at dksX0_number_0 8 rfl rfl)
theorem dX0_number_10 : decode cX0_number 10 = .ok (.ireturn, 1) := dk_172 (dk_at dksX0_number_0 10 rfl rfl)
theorem dX0_number_11 : decode cX0_number 11 = .ok (.iload_n 2, 1) := dk_28 (dk_at dksX0_number_0 11 rfl rfl)
theorem dX0_number_12 : decode cX0_number 12 = .ok (.iconst 3, 1) := dk_6 (dk_at dksX0_number_0 12 rfl rfl)
theorem dX0_number_13 : decode cX0_number 13 = .ok (.if_icmp .ne 12, 3) := dk_160 0 12 (dk_at dksX0_number_0 13 rfl rfl)
theorem dX0_number_16 : decode cX0_number 16 = .ok (.lload 4, 2) := dk_22 4 (dk_at dksX0_number_0 16 rfl rfl)
theorem dX0_number_18 : decode cX0_number 18 = .ok (.l2i, 1) := dk_136 (dk_at dksX0_number_0 18 rfl rfl)
theorem dX0_number_19 : decode cX0_number 19 = .ok (.invokestatic 104, 3) := dk_184 0 104 (dk_at dksX0_number_0 19 rfl rfl)
theorem dX0_number_22 : decode cX0_number 22 = .ok (.goto 26, 3) := dk_167 0 26 (dk_at dksX0_number_1 0 rfl rfl)
theorem dX0_number_25 : decode cX0_number 25 = .ok (.iload_n 2, 1) := dk_28 (dk_at dksX0_number_1 3 rfl rfl)
theorem dX0_number_26 : decode cX0_number 26 = .ok (.iconst 4, 1) := dk_7 (dk_at dksX0_number_1 4 rfl rfl)
theorem dX0_number_27 : decode cX0_number 27 = .ok (.if_icmp .ne 20, 3) := dk_160 0 20 (dk_at dksX0_number_1 5 rfl rfl)
theorem dX0_number_30 : decode cX0_number 30 = .ok (.lload 4, 2) := dk_22 4 (dk_at dksX0_number_1 8 rfl rfl)
theorem dX0_number_32 : decode cX0_number 32 = .ok (.ldc2_w 107, 3) := dk_20 0 107 (dk_at dksX0_number_1 10 rfl rfl)
theorem dX0_number_35 : decode cX0_number 35 = .ok (.land, 1) := dk_127 (dk_at dksX0_number_1 13 rfl rfl)
theorem dX0_number_36 : decode cX0_number 36 = .ok (.ldc2_w 109, 3) := dk_20 0 109 (dk_at dksX0_number_1 14 rfl rfl)
theorem dX0_number_39 : decode cX0_number 39 = .ok (.lcmp, 1) := dk_148 (dk_at dksX0_number_1 17 rfl rfl)
theorem dX0_number_40 : decode cX0_number 40 = .ok (.ifCond .le 7, 3) := dk_158 0 7 (dk_at dksX0_number_1 18 rfl rfl)
theorem dX0_number_43 : decode cX0_number 43 = .ok (.iconst 1, 1) := dk_4 (dk_at dksX0_number_1 21 rfl rfl)
theorem dX0_number_44 : decode cX0_number 44 = .ok (.goto 4, 3) := dk_167 0 4 (dk_at dksX0_number_2 0 rfl rfl)
theorem dX0_number_47 : decode cX0_number 47 = .ok (.iconst 0, 1) := dk_3 (dk_at dksX0_number_2 3 rfl rfl)
theorem dX0_number_48 : decode cX0_number 48 = .ok (.istore 6, 2) := dk_54 6 (dk_at dksX0_number_2 4 rfl rfl)
theorem dX0_number_50 : decode cX0_number 50 = .ok (.iload_n 2, 1) := dk_28 (dk_at dksX0_number_2 6 rfl rfl)
theorem dX0_number_51 : decode cX0_number 51 = .ok (.iconst 0, 1) := dk_3 (dk_at dksX0_number_2 7 rfl rfl)
theorem dX0_number_52 : decode cX0_number 52 = .ok (.iconst 4, 1) := dk_7 (dk_at dksX0_number_2 8 rfl rfl)
theorem dX0_number_53 : decode cX0_number 53 = .ok (.invokestatic 81, 3) := dk_184 0 81 (dk_at dksX0_number_2 9 rfl rfl)
theorem dX0_number_56 : decode cX0_number 56 = .ok (.ifCond .eq 8, 3) := dk_153 0 8 (dk_at dksX0_number_2 12 rfl rfl)
theorem dX0_number_59 : decode cX0_number 59 = .ok (.iload 6, 2) := dk_21 6 (dk_at dksX0_number_2 15 rfl rfl)
theorem dX0_number_61 : decode cX0_number 61 = .ok (.ifCond .eq 6, 3) := dk_153 0 6 (dk_at dksX0_number_2 17 rfl rfl)
theorem dX0_number_64 : decode cX0_number 64 = .ok (.bipush (-102), 2) := dk_16 154 (dk_at dksX0_number_2 20 rfl rfl)
theorem dX0_number_66 : decode cX0_number 66 = .ok (.ireturn, 1) := dk_172 (dk_at dksX0_number_2 22 rfl rfl)
theorem dX0_number_67 : decode cX0_number 67 = .ok (.aload_n 0, 1) := dk_42 (dk_at dksX0_number_2 23 rfl rfl)
theorem dX0_number_68 : decode cX0_number 68 = .ok (.getfield 111, 3) := dk_180 0 111 (dk_at dksX0_number_3 0 rfl rfl)
theorem dX0_number_71 : decode cX0_number 71 = .ok (.ifCond .eq 6, 3) := dk_153 0 6 (dk_at dksX0_number_3 3 rfl rfl)
theorem dX0_number_74 : decode cX0_number 74 = .ok (.bipush (-103), 2) := dk_16 153 (dk_at dksX0_number_3 6 rfl rfl)
theorem dX0_number_76 : decode cX0_number 76 = .ok (.ireturn, 1) := dk_172 (dk_at dksX0_number_3 8 rfl rfl)
theorem dX0_number_77 : decode cX0_number 77 = .ok (.aload_n 0, 1) := dk_42 (dk_at dksX0_number_3 9 rfl rfl)
theorem dX0_number_78 : decode cX0_number 78 = .ok (.getfield 31, 3) := dk_180 0 31 (dk_at dksX0_number_3 10 rfl rfl)
theorem dX0_number_81 : decode cX0_number 81 = .ok (.iload_n 1, 1) := dk_27 (dk_at dksX0_number_3 13 rfl rfl)
theorem dX0_number_82 : decode cX0_number 82 = .ok (.aaload, 1) := dk_50 (dk_at dksX0_number_3 14 rfl rfl)
theorem dX0_number_83 : decode cX0_number 83 = .ok (.iload_n 2, 1) := dk_28 (dk_at dksX0_number_3 15 rfl rfl)
theorem dX0_number_84 : decode cX0_number 84 = .ok (.iload_n 3, 1) := dk_29 (dk_at dksX0_number_3 16 rfl rfl)
theorem dX0_number_85 : decode cX0_number 85 = .ok (.lload 4, 2) := dk_22 4 (dk_at dksX0_number_3 17 rfl rfl)
theorem dX0_number_87 : decode cX0_number 87 = .ok (.invokevirtual 115, 3) := dk_182 0 115 (dk_at dksX0_number_3 19 rfl rfl)
theorem dX0_number_90 : decode cX0_number 90 = .ok (.goto 19, 3) := dk_167 0 19 (dk_at dksX0_number_4 0 rfl rfl)
theorem dX0_number_93 : decode cX0_number 93 = .ok (.astore 7, 2) := dk_58 7 (dk_at dksX0_number_4 3 rfl rfl)
theorem dX0_number_95 : decode cX0_number 95 = .ok (.aload_n 0, 1) := dk_42 (dk_at dksX0_number_4 5 rfl rfl)
theorem dX0_number_96 : decode cX0_number 96 = .ok (.iconst 3, 1) := dk_6 (dk_at dksX0_number_4 6 rfl rfl)
theorem dX0_number_97 : decode cX0_number 97 = .ok (.invokevirtual 96, 3) := dk_182 0 96 (dk_at dksX0_number_4 7 rfl rfl)
theorem dX0_number_100 : decode cX0_number 100 = .ok (.ireturn, 1) := dk_172 (dk_at dksX0_number_4 10 rfl rfl)
theorem dX0_number_101 : decode cX0_number 101 = .ok (.astore 7, 2) := dk_58 7 (dk_at dksX0_number_4 11 rfl rfl)
theorem dX0_number_103 : decode cX0_number 103 = .ok (.aload_n 0, 1) := dk_42 (dk_at dksX0_number_4 13 rfl rfl)
theorem dX0_number_104 : decode cX0_number 104 = .ok (.iconst 2, 1) := dk_5 (dk_at dksX0_number_4 14 rfl rfl)
theorem dX0_number_105 : decode cX0_number 105 = .ok (.invokevirtual 96, 3) := dk_182 0 96 (dk_at dksX0_number_4 15 rfl rfl)
theorem dX0_number_108 : decode cX0_number 108 = .ok (.ireturn, 1) := dk_172 (dk_at dksX0_number_4 18 rfl rfl)
theorem dX0_number_109 : decode cX0_number 109 = .ok (.iconst 0, 1) := dk_3 (dk_at dksX0_number_4 19 rfl rfl)
theorem dX0_number_110 : decode cX0_number 110 = .ok (.ireturn, 1) := dk_172 (dk_at dksX0_number_4 20 rfl rfl)
abbrev cX0_isClip : ByteArray := prog_1_method_8_code
def yX0_isClip : MethodName := ⟨RX0, "isClip", "(I)Z"⟩
def dkwX0_isClip_0 : List UInt8 := [27, 3, 42, 180, 0, 85, 4, 100, 184, 0, 81, 172]
abbrev dktX0_isClip_0 : List UInt8 := dkwX0_isClip_0 ++ []
theorem dksX0_isClip_0 : cX0_isClip.data.toList.drop 0 = dktX0_isClip_0 := by decide +kernel
theorem dX0_isClip_0 : decode cX0_isClip 0 = .ok (.iload_n 1, 1) := dk_27 (dk_at dksX0_isClip_0 0 rfl rfl)
theorem dX0_isClip_1 : decode cX0_isClip 1 = .ok (.iconst 0, 1) := dk_3 (dk_at dksX0_isClip_0 1 rfl rfl)
theorem dX0_isClip_2 : decode cX0_isClip 2 = .ok (.aload_n 0, 1) := dk_42 (dk_at dksX0_isClip_0 2 rfl rfl)
theorem dX0_isClip_3 : decode cX0_isClip 3 = .ok (.getfield 85, 3) := dk_180 0 85 (dk_at dksX0_isClip_0 3 rfl rfl)
theorem dX0_isClip_6 : decode cX0_isClip 6 = .ok (.iconst 1, 1) := dk_4 (dk_at dksX0_isClip_0 6 rfl rfl)
theorem dX0_isClip_7 : decode cX0_isClip 7 = .ok (.isub, 1) := dk_100 (dk_at dksX0_isClip_0 7 rfl rfl)
theorem dX0_isClip_8 : decode cX0_isClip 8 = .ok (.invokestatic 81, 3) := dk_184 0 81 (dk_at dksX0_isClip_0 8 rfl rfl)
theorem dX0_isClip_11 : decode cX0_isClip 11 = .ok (.ireturn, 1) := dk_172 (dk_at dksX0_isClip_0 11 rfl rfl)
abbrev cX0_isNoFloat : ByteArray := prog_1_method_3_code
def yX0_isNoFloat : MethodName := ⟨RX0, "isNoFloat", "(I)Z"⟩
def dkwX0_isNoFloat_0 : List UInt8 := [26, 18, 3, 126, 18, 4, 164, 0, 7, 4, 167, 0, 4, 3, 172]
abbrev dktX0_isNoFloat_0 : List UInt8 := dkwX0_isNoFloat_0 ++ []
theorem dksX0_isNoFloat_0 : cX0_isNoFloat.data.toList.drop 0 = dktX0_isNoFloat_0 := by decide +kernel
theorem dX0_isNoFloat_0 : decode cX0_isNoFloat 0 = .ok (.iload_n 0, 1) := dk_26 (dk_at dksX0_isNoFloat_0 0 rfl rfl)
theorem dX0_isNoFloat_1 : decode cX0_isNoFloat 1 = .ok (.ldc 3, 2) := dk_18 3 (dk_at dksX0_isNoFloat_0 1 rfl rfl)
theorem dX0_isNoFloat_3 : decode cX0_isNoFloat 3 = .ok (.iand, 1) := dk_126 (dk_at dksX0_isNoFloat_0 3 rfl rfl)
theorem dX0_isNoFloat_4 : decode cX0_isNoFloat 4 = .ok (.ldc 4, 2) := dk_18 4 (dk_at dksX0_isNoFloat_0 4 rfl rfl)
theorem dX0_isNoFloat_6 : decode cX0_isNoFloat 6 = .ok (.if_icmp .le 7, 3) := dk_164 0 7 (dk_at dksX0_isNoFloat_0 6 rfl rfl)
theorem dX0_isNoFloat_9 : decode cX0_isNoFloat 9 = .ok (.iconst 1, 1) := dk_4 (dk_at dksX0_isNoFloat_0 9 rfl rfl)
theorem dX0_isNoFloat_10 : decode cX0_isNoFloat 10 = .ok (.goto 4, 3) := dk_167 0 4 (dk_at dksX0_isNoFloat_0 10 rfl rfl)
theorem dX0_isNoFloat_13 : decode cX0_isNoFloat 13 = .ok (.iconst 0, 1) := dk_3 (dk_at dksX0_isNoFloat_0 13 rfl rfl)
theorem dX0_isNoFloat_14 : decode cX0_isNoFloat 14 = .ok (.ireturn, 1) := dk_172 (dk_at dksX0_isNoFloat_0 14 rfl rfl)
abbrev cX0_sample : ByteArray := prog_1_method_13_code
def yX0_sample : MethodName := ⟨RX0, "sample", "(II)I"⟩
def dkwX0_sample_1 : List UInt8 := [180, 0, 31, 27, 50, 28, 182, 0, 125, 184, 0, 129, 167, 0, 4, 3, 172]
abbrev dktX0_sample_1 : List UInt8 := dkwX0_sample_1 ++ []
def dkwX0_sample_0 : List UInt8 := [42, 27, 182, 0, 100, 153, 0, 32, 42, 180, 0, 31, 27, 50, 28, 182, 0, 123, 153, 0, 19, 42]
abbrev dktX0_sample_0 : List UInt8 := dkwX0_sample_0 ++ dktX0_sample_1
theorem dksX0_sample_0 : cX0_sample.data.toList.drop 0 = dktX0_sample_0 := by decide +kernel
theorem dksX0_sample_1 : cX0_sample.data.toList.drop 22 = dktX0_sample_1 := dk_seg dksX0_sample_0 22 rfl rfl
theorem dX0_sample_0 : decode cX0_sample 0 = .ok (.aload_n 0, 1) := dk_42 (dk_at dksX0_sample_0 0 rfl rfl)
theorem dX0_sample_1 : decode cX0_sample 1 = .ok (.iload_n 1, 1) := dk_27 (dk_at dksX0_sample_0 1 rfl rfl)
theorem dX0_sample_2 : decode cX0_sample 2 = .ok (.invokevirtual 100, 3) := dk_182 0 100 (dk_at dksX0_sample_0 2 rfl rfl)
theorem dX0_sample_5 : decode cX0_sample 5 = .ok (.ifCond .eq 32, 3) := dk_153 0 32 (dk_at dksX0_sample_0 5 rfl rfl)
theorem dX0_sample_8 : decode cX0_sample 8 = .ok (.aload_n 0, 1) := dk_42 (dk_at dksX0_sample_0 8 rfl rfl)
theorem dX0_sample_9 : decode cX0_sample 9 = .ok (.getfield 31, 3) := dk_180 0 31 (dk_at dksX0_sample_0 9 rfl rfl)
theorem dX0_sample_12 : decode cX0_sample 12 = .ok (.iload_n 1, 1) := dk_27 (dk_at dksX0_sample_0 12 rfl rfl)
theorem dX0_sample_13 : decode cX0_sample 13 = .ok (.aaload, 1) := dk_50 (dk_at dksX0_sample_0 13 rfl rfl)
theorem dX0_sample_14 : decode cX0_sample 14 = .ok (.iload_n 2, 1) := dk_28 (dk_at dksX0_sample_0 14 rfl rfl)
theorem dX0_sample_15 : decode cX0_sample 15 = .ok (.invokevirtual 123, 3) := dk_182 0 123 (dk_at dksX0_sample_0 15 rfl rfl)
theorem dX0_sample_18 : decode cX0_sample 18 = .ok (.ifCond .eq 19, 3) := dk_153 0 19 (dk_at dksX0_sample_0 18 rfl rfl)
theorem dX0_sample_21 : decode cX0_sample 21 = .ok (.aload_n 0, 1) := dk_42 (dk_at dksX0_sample_0 21 rfl rfl)
theorem dX0_sample_22 : decode cX0_sample 22 = .ok (.getfield 31, 3) := dk_180 0 31 (dk_at dksX0_sample_1 0 rfl rfl)
theorem dX0_sample_25 : decode cX0_sample 25 = .ok (.iload_n 1, 1) := dk_27 (dk_at dksX0_sample_1 3 rfl rfl)
theorem dX0_sample_26 : decode cX0_sample 26 = .ok (.aaload, 1) := dk_50 (dk_at dksX0_sample_1 4 rfl rfl)
theorem dX0_sample_27 : decode cX0_sample 27 = .ok (.iload_n 2, 1) := dk_28 (dk_at dksX0_sample_1 5 rfl rfl)
theorem dX0_sample_28 : decode cX0_sample 28 = .ok (.invokevirtual 125, 3) := dk_182 0 125 (dk_at dksX0_sample_1 6 rfl rfl)
theorem dX0_sample_31 : decode cX0_sample 31 = .ok (.invokestatic 129, 3) := dk_184 0 129 (dk_at dksX0_sample_1 9 rfl rfl)
theorem dX0_sample_34 : decode cX0_sample 34 = .ok (.goto 4, 3) := dk_167 0 4 (dk_at dksX0_sample_1 12 rfl rfl)
theorem dX0_sample_37 : decode cX0_sample 37 = .ok (.iconst 0, 1) := dk_3 (dk_at dksX0_sample_1 15 rfl rfl)
theorem dX0_sample_38 : decode cX0_sample 38 = .ok (.ireturn, 1) := dk_172 (dk_at dksX0_sample_1 16 rfl rfl)
abbrev cX0_clipped : ByteArray := prog_1_method_2_code
def yX0_clipped : MethodName := ⟨RX0, "clipped", "(F)F"⟩
def dkwX0_clipped_1 : List UInt8 := [34, 174]
abbrev dktX0_clipped_1 : List UInt8 := dkwX0_clipped_1 ++ []
def dkwX0_clipped_0 : List UInt8 := [34, 18, 1, 149, 158, 0, 8, 18, 1, 167, 0, 16, 34, 18, 2, 150, 156, 0, 8, 18, 2, 167, 0, 4]
abbrev dktX0_clipped_0 : List UInt8 := dkwX0_clipped_0 ++ dktX0_clipped_1
theorem dksX0_clipped_0 : cX0_clipped.data.toList.drop 0 = dktX0_clipped_0 := by decide +kernel
theorem dksX0_clipped_1 : cX0_clipped.data.toList.drop 24 = dktX0_clipped_1 := dk_seg dksX0_clipped_0 24 rfl rfl
theorem dX0_clipped_0 : decode cX0_clipped 0 = .ok (.fload_n 0, 1) := dk_34 (dk_at dksX0_clipped_0 0 rfl rfl)
theorem dX0_clipped_1 : decode cX0_clipped 1 = .ok (.ldc 1, 2) := dk_18 1 (dk_at dksX0_clipped_0 1 rfl rfl)
theorem dX0_clipped_3 : decode cX0_clipped 3 = .ok (.fcmp .l, 1) := dk_149 (dk_at dksX0_clipped_0 3 rfl rfl)
theorem dX0_clipped_4 : decode cX0_clipped 4 = .ok (.ifCond .le 8, 3) := dk_158 0 8 (dk_at dksX0_clipped_0 4 rfl rfl)
theorem dX0_clipped_7 : decode cX0_clipped 7 = .ok (.ldc 1, 2) := dk_18 1 (dk_at dksX0_clipped_0 7 rfl rfl)
theorem dX0_clipped_9 : decode cX0_clipped 9 = .ok (.goto 16, 3) := dk_167 0 16 (dk_at dksX0_clipped_0 9 rfl rfl)
theorem dX0_clipped_12 : decode cX0_clipped 12 = .ok (.fload_n 0, 1) := dk_34 (dk_at dksX0_clipped_0 12 rfl rfl)
theorem dX0_clipped_13 : decode cX0_clipped 13 = .ok (.ldc 2, 2) := dk_18 2 (dk_at dksX0_clipped_0 13 rfl rfl)
theorem dX0_clipped_15 : decode cX0_clipped 15 = .ok (.fcmp .g, 1) := dk_150 (dk_at dksX0_clipped_0 15 rfl rfl)
theorem dX0_clipped_16 : decode cX0_clipped 16 = .ok (.ifCond .ge 8, 3) := dk_156 0 8 (dk_at dksX0_clipped_0 16 rfl rfl)
theorem dX0_clipped_19 : decode cX0_clipped 19 = .ok (.ldc 2, 2) := dk_18 2 (dk_at dksX0_clipped_0 19 rfl rfl)
theorem dX0_clipped_21 : decode cX0_clipped 21 = .ok (.goto 4, 3) := dk_167 0 4 (dk_at dksX0_clipped_0 21 rfl rfl)
theorem dX0_clipped_24 : decode cX0_clipped 24 = .ok (.fload_n 0, 1) := dk_34 (dk_at dksX0_clipped_1 0 rfl rfl)
theorem dX0_clipped_25 : decode cX0_clipped 25 = .ok (.freturn, 1) := dk_174 (dk_at dksX0_clipped_1 1 rfl rfl)
abbrev cX0_plug : ByteArray := prog_1_method_16_code
def yX0_plug : MethodName := ⟨RX0, "plug", "(III)I"⟩
def dkwX0_plug_3 : List UInt8 := [8, 182, 0, 96, 172, 42, 89, 180, 0, 88, 4, 96, 181, 0, 88, 42, 180, 0, 88, 4, 100, 172]
abbrev dktX0_plug_3 : List UInt8 := dkwX0_plug_3 ++ []
def dkwX0_plug_2 : List UInt8 := [180, 0, 49, 42, 180, 0, 88, 42, 27, 28, 184, 0, 136, 29, 182, 0, 147, 83, 167, 0, 11, 58, 4, 42]
abbrev dktX0_plug_2 : List UInt8 := dkwX0_plug_2 ++ dktX0_plug_3
def dkwX0_plug_1 : List UInt8 := [182, 0, 143, 154, 0, 6, 16, 154, 172, 42, 180, 0, 88, 16, 12, 160, 0, 6, 16, 152, 172, 42]
abbrev dktX0_plug_1 : List UInt8 := dkwX0_plug_1 ++ dktX0_plug_2
def dkwX0_plug_0 : List UInt8 := [27, 3, 16, 7, 184, 0, 81, 153, 0, 21, 28, 18, 2, 184, 0, 139, 153, 0, 12, 42, 27, 29]
abbrev dktX0_plug_0 : List UInt8 := dkwX0_plug_0 ++ dktX0_plug_1
theorem dksX0_plug_0 : cX0_plug.data.toList.drop 0 = dktX0_plug_0 := by decide +kernel
theorem dksX0_plug_1 : cX0_plug.data.toList.drop 22 = dktX0_plug_1 := dk_seg dksX0_plug_0 22 rfl rfl
theorem dksX0_plug_2 : cX0_plug.data.toList.drop 44 = dktX0_plug_2 := dk_seg dksX0_plug_1 22 rfl rfl
theorem dksX0_plug_3 : cX0_plug.data.toList.drop 68 = dktX0_plug_3 := dk_seg dksX0_plug_2 24 rfl rfl
theorem dX0_plug_0 : decode cX0_plug 0 = .ok (.iload_n 1, 1) := dk_27 (dk_at dksX0_plug_0 0 rfl rfl)
theorem dX0_plug_1 : decode cX0_plug 1 = .ok (.iconst 0, 1) := dk_3 (dk_at dksX0_plug_0 1 rfl rfl)
theorem dX0_plug_2 : decode cX0_plug 2 = .ok (.bipush 7, 2) := dk_16 7 (dk_at dksX0_plug_0 2 rfl rfl)
theorem dX0_plug_4 : decode cX0_plug 4 = .ok (.invokestatic 81, 3) := dk_184 0 81 (dk_at dksX0_plug_0 4 rfl rfl)
theorem dX0_plug_7 : decode cX0_plug 7 = .ok (.ifCond .eq 21, 3) := dk_153 0 21 (dk_at dksX0_plug_0 7 rfl rfl)
theorem dX0_plug_10 : decode cX0_plug 10 = .ok (.iload_n 2, 1) := dk_28 (dk_at dksX0_plug_0 10 rfl rfl)
theorem dX0_plug_11 : decode cX0_plug 11 = .ok (.ldc 2, 2) := dk_18 2 (dk_at dksX0_plug_0 11 rfl rfl)
theorem dX0_plug_13 : decode cX0_plug 13 = .ok (.invokestatic 139, 3) := dk_184 0 139 (dk_at dksX0_plug_0 13 rfl rfl)
theorem dX0_plug_16 : decode cX0_plug 16 = .ok (.ifCond .eq 12, 3) := dk_153 0 12 (dk_at dksX0_plug_0 16 rfl rfl)
theorem dX0_plug_19 : decode cX0_plug 19 = .ok (.aload_n 0, 1) := dk_42 (dk_at dksX0_plug_0 19 rfl rfl)
theorem dX0_plug_20 : decode cX0_plug 20 = .ok (.iload_n 1, 1) := dk_27 (dk_at dksX0_plug_0 20 rfl rfl)
theorem dX0_plug_21 : decode cX0_plug 21 = .ok (.iload_n 3, 1) := dk_29 (dk_at dksX0_plug_0 21 rfl rfl)
theorem dX0_plug_22 : decode cX0_plug 22 = .ok (.invokevirtual 143, 3) := dk_182 0 143 (dk_at dksX0_plug_1 0 rfl rfl)
theorem dX0_plug_25 : decode cX0_plug 25 = .ok (.ifCond .ne 6, 3) := dk_154 0 6 (dk_at dksX0_plug_1 3 rfl rfl)
theorem dX0_plug_28 : decode cX0_plug 28 = .ok (.bipush (-102), 2) := dk_16 154 (dk_at dksX0_plug_1 6 rfl rfl)
theorem dX0_plug_30 : decode cX0_plug 30 = .ok (.ireturn, 1) := dk_172 (dk_at dksX0_plug_1 8 rfl rfl)
theorem dX0_plug_31 : decode cX0_plug 31 = .ok (.aload_n 0, 1) := dk_42 (dk_at dksX0_plug_1 9 rfl rfl)
theorem dX0_plug_32 : decode cX0_plug 32 = .ok (.getfield 88, 3) := dk_180 0 88 (dk_at dksX0_plug_1 10 rfl rfl)
theorem dX0_plug_35 : decode cX0_plug 35 = .ok (.bipush 12, 2) := dk_16 12 (dk_at dksX0_plug_1 13 rfl rfl)
theorem dX0_plug_37 : decode cX0_plug 37 = .ok (.if_icmp .ne 6, 3) := dk_160 0 6 (dk_at dksX0_plug_1 15 rfl rfl)
theorem dX0_plug_40 : decode cX0_plug 40 = .ok (.bipush (-104), 2) := dk_16 152 (dk_at dksX0_plug_1 18 rfl rfl)
theorem dX0_plug_42 : decode cX0_plug 42 = .ok (.ireturn, 1) := dk_172 (dk_at dksX0_plug_1 20 rfl rfl)
theorem dX0_plug_43 : decode cX0_plug 43 = .ok (.aload_n 0, 1) := dk_42 (dk_at dksX0_plug_1 21 rfl rfl)
theorem dX0_plug_44 : decode cX0_plug 44 = .ok (.getfield 49, 3) := dk_180 0 49 (dk_at dksX0_plug_2 0 rfl rfl)
theorem dX0_plug_47 : decode cX0_plug 47 = .ok (.aload_n 0, 1) := dk_42 (dk_at dksX0_plug_2 3 rfl rfl)
theorem dX0_plug_48 : decode cX0_plug 48 = .ok (.getfield 88, 3) := dk_180 0 88 (dk_at dksX0_plug_2 4 rfl rfl)
theorem dX0_plug_51 : decode cX0_plug 51 = .ok (.aload_n 0, 1) := dk_42 (dk_at dksX0_plug_2 7 rfl rfl)
theorem dX0_plug_52 : decode cX0_plug 52 = .ok (.iload_n 1, 1) := dk_27 (dk_at dksX0_plug_2 8 rfl rfl)
theorem dX0_plug_53 : decode cX0_plug 53 = .ok (.iload_n 2, 1) := dk_28 (dk_at dksX0_plug_2 9 rfl rfl)
theorem dX0_plug_54 : decode cX0_plug 54 = .ok (.invokestatic 136, 3) := dk_184 0 136 (dk_at dksX0_plug_2 10 rfl rfl)
theorem dX0_plug_57 : decode cX0_plug 57 = .ok (.iload_n 3, 1) := dk_29 (dk_at dksX0_plug_2 13 rfl rfl)
theorem dX0_plug_58 : decode cX0_plug 58 = .ok (.invokevirtual 147, 3) := dk_182 0 147 (dk_at dksX0_plug_2 14 rfl rfl)
theorem dX0_plug_61 : decode cX0_plug 61 = .ok (.aastore, 1) := dk_83 (dk_at dksX0_plug_2 17 rfl rfl)
theorem dX0_plug_62 : decode cX0_plug 62 = .ok (.goto 11, 3) := dk_167 0 11 (dk_at dksX0_plug_2 18 rfl rfl)
theorem dX0_plug_65 : decode cX0_plug 65 = .ok (.astore 4, 2) := dk_58 4 (dk_at dksX0_plug_2 21 rfl rfl)
theorem dX0_plug_67 : decode cX0_plug 67 = .ok (.aload_n 0, 1) := dk_42 (dk_at dksX0_plug_2 23 rfl rfl)
theorem dX0_plug_68 : decode cX0_plug 68 = .ok (.iconst 5, 1) := dk_8 (dk_at dksX0_plug_3 0 rfl rfl)
theorem dX0_plug_69 : decode cX0_plug 69 = .ok (.invokevirtual 96, 3) := dk_182 0 96 (dk_at dksX0_plug_3 1 rfl rfl)
theorem dX0_plug_72 : decode cX0_plug 72 = .ok (.ireturn, 1) := dk_172 (dk_at dksX0_plug_3 4 rfl rfl)
theorem dX0_plug_73 : decode cX0_plug 73 = .ok (.aload_n 0, 1) := dk_42 (dk_at dksX0_plug_3 5 rfl rfl)
theorem dX0_plug_74 : decode cX0_plug 74 = .ok (.dup, 1) := dk_89 (dk_at dksX0_plug_3 6 rfl rfl)
theorem dX0_plug_75 : decode cX0_plug 75 = .ok (.getfield 88, 3) := dk_180 0 88 (dk_at dksX0_plug_3 7 rfl rfl)
theorem dX0_plug_78 : decode cX0_plug 78 = .ok (.iconst 1, 1) := dk_4 (dk_at dksX0_plug_3 10 rfl rfl)
theorem dX0_plug_79 : decode cX0_plug 79 = .ok (.iadd, 1) := dk_96 (dk_at dksX0_plug_3 11 rfl rfl)
theorem dX0_plug_80 : decode cX0_plug 80 = .ok (.putfield 88, 3) := dk_181 0 88 (dk_at dksX0_plug_3 12 rfl rfl)
theorem dX0_plug_83 : decode cX0_plug 83 = .ok (.aload_n 0, 1) := dk_42 (dk_at dksX0_plug_3 15 rfl rfl)
theorem dX0_plug_84 : decode cX0_plug 84 = .ok (.getfield 88, 3) := dk_180 0 88 (dk_at dksX0_plug_3 16 rfl rfl)
theorem dX0_plug_87 : decode cX0_plug 87 = .ok (.iconst 1, 1) := dk_4 (dk_at dksX0_plug_3 19 rfl rfl)
theorem dX0_plug_88 : decode cX0_plug 88 = .ok (.isub, 1) := dk_100 (dk_at dksX0_plug_3 20 rfl rfl)
theorem dX0_plug_89 : decode cX0_plug 89 = .ok (.ireturn, 1) := dk_172 (dk_at dksX0_plug_3 21 rfl rfl)
abbrev cX0_isLevel : ByteArray := prog_1_method_14_code
def yX0_isLevel : MethodName := ⟨RX0, "isLevel", "(IF)Z"⟩
def dkwX0_isLevel_1 : List UInt8 := [18, 1, 150, 157, 0, 7, 4, 167, 0, 4, 3, 172]
abbrev dktX0_isLevel_1 : List UInt8 := dkwX0_isLevel_1 ++ []
def dkwX0_isLevel_0 : List UInt8 := [26, 184, 0, 104, 153, 0, 8, 18, 135, 167, 0, 7, 26, 184, 0, 136, 69, 36, 35, 149, 155, 0, 14, 36]
abbrev dktX0_isLevel_0 : List UInt8 := dkwX0_isLevel_0 ++ dktX0_isLevel_1
theorem dksX0_isLevel_0 : cX0_isLevel.data.toList.drop 0 = dktX0_isLevel_0 := by decide +kernel
theorem dksX0_isLevel_1 : cX0_isLevel.data.toList.drop 24 = dktX0_isLevel_1 := dk_seg dksX0_isLevel_0 24 rfl rfl
theorem dX0_isLevel_0 : decode cX0_isLevel 0 = .ok (.iload_n 0, 1) := dk_26 (dk_at dksX0_isLevel_0 0 rfl rfl)
theorem dX0_isLevel_1 : decode cX0_isLevel 1 = .ok (.invokestatic 104, 3) := dk_184 0 104 (dk_at dksX0_isLevel_0 1 rfl rfl)
theorem dX0_isLevel_4 : decode cX0_isLevel 4 = .ok (.ifCond .eq 8, 3) := dk_153 0 8 (dk_at dksX0_isLevel_0 4 rfl rfl)
theorem dX0_isLevel_7 : decode cX0_isLevel 7 = .ok (.ldc 135, 2) := dk_18 135 (dk_at dksX0_isLevel_0 7 rfl rfl)
theorem dX0_isLevel_9 : decode cX0_isLevel 9 = .ok (.goto 7, 3) := dk_167 0 7 (dk_at dksX0_isLevel_0 9 rfl rfl)
theorem dX0_isLevel_12 : decode cX0_isLevel 12 = .ok (.iload_n 0, 1) := dk_26 (dk_at dksX0_isLevel_0 12 rfl rfl)
theorem dX0_isLevel_13 : decode cX0_isLevel 13 = .ok (.invokestatic 136, 3) := dk_184 0 136 (dk_at dksX0_isLevel_0 13 rfl rfl)
theorem dX0_isLevel_16 : decode cX0_isLevel 16 = .ok (.fstore_n 2, 1) := dk_69 (dk_at dksX0_isLevel_0 16 rfl rfl)
theorem dX0_isLevel_17 : decode cX0_isLevel 17 = .ok (.fload_n 2, 1) := dk_36 (dk_at dksX0_isLevel_0 17 rfl rfl)
theorem dX0_isLevel_18 : decode cX0_isLevel 18 = .ok (.fload_n 1, 1) := dk_35 (dk_at dksX0_isLevel_0 18 rfl rfl)
theorem dX0_isLevel_19 : decode cX0_isLevel 19 = .ok (.fcmp .l, 1) := dk_149 (dk_at dksX0_isLevel_0 19 rfl rfl)
theorem dX0_isLevel_20 : decode cX0_isLevel 20 = .ok (.ifCond .lt 14, 3) := dk_155 0 14 (dk_at dksX0_isLevel_0 20 rfl rfl)
theorem dX0_isLevel_23 : decode cX0_isLevel 23 = .ok (.fload_n 2, 1) := dk_36 (dk_at dksX0_isLevel_0 23 rfl rfl)
theorem dX0_isLevel_24 : decode cX0_isLevel 24 = .ok (.ldc 1, 2) := dk_18 1 (dk_at dksX0_isLevel_1 0 rfl rfl)
theorem dX0_isLevel_26 : decode cX0_isLevel 26 = .ok (.fcmp .g, 1) := dk_150 (dk_at dksX0_isLevel_1 2 rfl rfl)
theorem dX0_isLevel_27 : decode cX0_isLevel 27 = .ok (.ifCond .gt 7, 3) := dk_157 0 7 (dk_at dksX0_isLevel_1 3 rfl rfl)
theorem dX0_isLevel_30 : decode cX0_isLevel 30 = .ok (.iconst 1, 1) := dk_4 (dk_at dksX0_isLevel_1 6 rfl rfl)
theorem dX0_isLevel_31 : decode cX0_isLevel 31 = .ok (.goto 4, 3) := dk_167 0 4 (dk_at dksX0_isLevel_1 7 rfl rfl)
theorem dX0_isLevel_34 : decode cX0_isLevel 34 = .ok (.iconst 0, 1) := dk_3 (dk_at dksX0_isLevel_1 10 rfl rfl)
theorem dX0_isLevel_35 : decode cX0_isLevel 35 = .ok (.ireturn, 1) := dk_172 (dk_at dksX0_isLevel_1 11 rfl rfl)
abbrev cX0_fitsPlug : ByteArray := prog_1_method_15_code
def yX0_fitsPlug : MethodName := ⟨RX0, "fitsPlug", "(II)Z"⟩
def dkwX0_fitsPlug_2 : List UInt8 := [28, 182, 0, 100, 153, 0, 7, 4, 167, 0, 4, 3, 172]
abbrev dktX0_fitsPlug_2 : List UInt8 := dkwX0_fitsPlug_2 ++ []
def dkwX0_fitsPlug_1 : List UInt8 := [160, 0, 17, 28, 16, 16, 163, 0, 7, 4, 167, 0, 26, 3, 167, 0, 22, 27, 16, 7, 160, 0, 11, 42]
abbrev dktX0_fitsPlug_1 : List UInt8 := dkwX0_fitsPlug_1 ++ dktX0_fitsPlug_2
def dkwX0_fitsPlug_0 : List UInt8 := [27, 6, 160, 0, 14, 28, 16, 192, 16, 64, 184, 0, 81, 167, 0, 46, 27, 7, 159, 0, 8, 27, 8]
abbrev dktX0_fitsPlug_0 : List UInt8 := dkwX0_fitsPlug_0 ++ dktX0_fitsPlug_1
theorem dksX0_fitsPlug_0 : cX0_fitsPlug.data.toList.drop 0 = dktX0_fitsPlug_0 := by decide +kernel
theorem dksX0_fitsPlug_1 : cX0_fitsPlug.data.toList.drop 23 = dktX0_fitsPlug_1 := dk_seg dksX0_fitsPlug_0 23 rfl rfl
theorem dksX0_fitsPlug_2 : cX0_fitsPlug.data.toList.drop 47 = dktX0_fitsPlug_2 := dk_seg dksX0_fitsPlug_1 24 rfl rfl
theorem dX0_fitsPlug_0 : decode cX0_fitsPlug 0 = .ok (.iload_n 1, 1) := dk_27 (dk_at dksX0_fitsPlug_0 0 rfl rfl)
theorem dX0_fitsPlug_1 : decode cX0_fitsPlug 1 = .ok (.iconst 3, 1) := dk_6 (dk_at dksX0_fitsPlug_0 1 rfl rfl)
theorem dX0_fitsPlug_2 : decode cX0_fitsPlug 2 = .ok (.if_icmp .ne 14, 3) := dk_160 0 14 (dk_at dksX0_fitsPlug_0 2 rfl rfl)
theorem dX0_fitsPlug_5 : decode cX0_fitsPlug 5 = .ok (.iload_n 2, 1) := dk_28 (dk_at dksX0_fitsPlug_0 5 rfl rfl)
theorem dX0_fitsPlug_6 : decode cX0_fitsPlug 6 = .ok (.bipush (-64), 2) := dk_16 192 (dk_at dksX0_fitsPlug_0 6 rfl rfl)
theorem dX0_fitsPlug_8 : decode cX0_fitsPlug 8 = .ok (.bipush 64, 2) := dk_16 64 (dk_at dksX0_fitsPlug_0 8 rfl rfl)
theorem dX0_fitsPlug_10 : decode cX0_fitsPlug 10 = .ok (.invokestatic 81, 3) := dk_184 0 81 (dk_at dksX0_fitsPlug_0 10 rfl rfl)
theorem dX0_fitsPlug_13 : decode cX0_fitsPlug 13 = .ok (.goto 46, 3) := dk_167 0 46 (dk_at dksX0_fitsPlug_0 13 rfl rfl)
theorem dX0_fitsPlug_16 : decode cX0_fitsPlug 16 = .ok (.iload_n 1, 1) := dk_27 (dk_at dksX0_fitsPlug_0 16 rfl rfl)
theorem dX0_fitsPlug_17 : decode cX0_fitsPlug 17 = .ok (.iconst 4, 1) := dk_7 (dk_at dksX0_fitsPlug_0 17 rfl rfl)
theorem dX0_fitsPlug_18 : decode cX0_fitsPlug 18 = .ok (.if_icmp .eq 8, 3) := dk_159 0 8 (dk_at dksX0_fitsPlug_0 18 rfl rfl)
theorem dX0_fitsPlug_21 : decode cX0_fitsPlug 21 = .ok (.iload_n 1, 1) := dk_27 (dk_at dksX0_fitsPlug_0 21 rfl rfl)
theorem dX0_fitsPlug_22 : decode cX0_fitsPlug 22 = .ok (.iconst 5, 1) := dk_8 (dk_at dksX0_fitsPlug_0 22 rfl rfl)
theorem dX0_fitsPlug_23 : decode cX0_fitsPlug 23 = .ok (.if_icmp .ne 17, 3) := dk_160 0 17 (dk_at dksX0_fitsPlug_1 0 rfl rfl)
theorem dX0_fitsPlug_26 : decode cX0_fitsPlug 26 = .ok (.iload_n 2, 1) := dk_28 (dk_at dksX0_fitsPlug_1 3 rfl rfl)
theorem dX0_fitsPlug_27 : decode cX0_fitsPlug 27 = .ok (.bipush 16, 2) := dk_16 16 (dk_at dksX0_fitsPlug_1 4 rfl rfl)
theorem dX0_fitsPlug_29 : decode cX0_fitsPlug 29 = .ok (.if_icmp .gt 7, 3) := dk_163 0 7 (dk_at dksX0_fitsPlug_1 6 rfl rfl)
theorem dX0_fitsPlug_32 : decode cX0_fitsPlug 32 = .ok (.iconst 1, 1) := dk_4 (dk_at dksX0_fitsPlug_1 9 rfl rfl)
theorem dX0_fitsPlug_33 : decode cX0_fitsPlug 33 = .ok (.goto 26, 3) := dk_167 0 26 (dk_at dksX0_fitsPlug_1 10 rfl rfl)
theorem dX0_fitsPlug_36 : decode cX0_fitsPlug 36 = .ok (.iconst 0, 1) := dk_3 (dk_at dksX0_fitsPlug_1 13 rfl rfl)
theorem dX0_fitsPlug_37 : decode cX0_fitsPlug 37 = .ok (.goto 22, 3) := dk_167 0 22 (dk_at dksX0_fitsPlug_1 14 rfl rfl)
theorem dX0_fitsPlug_40 : decode cX0_fitsPlug 40 = .ok (.iload_n 1, 1) := dk_27 (dk_at dksX0_fitsPlug_1 17 rfl rfl)
theorem dX0_fitsPlug_41 : decode cX0_fitsPlug 41 = .ok (.bipush 7, 2) := dk_16 7 (dk_at dksX0_fitsPlug_1 18 rfl rfl)
theorem dX0_fitsPlug_43 : decode cX0_fitsPlug 43 = .ok (.if_icmp .ne 11, 3) := dk_160 0 11 (dk_at dksX0_fitsPlug_1 20 rfl rfl)
theorem dX0_fitsPlug_46 : decode cX0_fitsPlug 46 = .ok (.aload_n 0, 1) := dk_42 (dk_at dksX0_fitsPlug_1 23 rfl rfl)
theorem dX0_fitsPlug_47 : decode cX0_fitsPlug 47 = .ok (.iload_n 2, 1) := dk_28 (dk_at dksX0_fitsPlug_2 0 rfl rfl)
theorem dX0_fitsPlug_48 : decode cX0_fitsPlug 48 = .ok (.invokevirtual 100, 3) := dk_182 0 100 (dk_at dksX0_fitsPlug_2 1 rfl rfl)
theorem dX0_fitsPlug_51 : decode cX0_fitsPlug 51 = .ok (.ifCond .eq 7, 3) := dk_153 0 7 (dk_at dksX0_fitsPlug_2 4 rfl rfl)
theorem dX0_fitsPlug_54 : decode cX0_fitsPlug 54 = .ok (.iconst 1, 1) := dk_4 (dk_at dksX0_fitsPlug_2 7 rfl rfl)
theorem dX0_fitsPlug_55 : decode cX0_fitsPlug 55 = .ok (.goto 4, 3) := dk_167 0 4 (dk_at dksX0_fitsPlug_2 8 rfl rfl)
theorem dX0_fitsPlug_58 : decode cX0_fitsPlug 58 = .ok (.iconst 0, 1) := dk_3 (dk_at dksX0_fitsPlug_2 11 rfl rfl)
theorem dX0_fitsPlug_59 : decode cX0_fitsPlug 59 = .ok (.ireturn, 1) := dk_172 (dk_at dksX0_fitsPlug_2 12 rfl rfl)
abbrev cX0_newPlug : ByteArray := prog_1_method_4_code
def yX0_newPlug : MethodName := ⟨RX0, "newPlug", "(IFI)LScoreThreads$Plug;"⟩
def dkwX0_newPlug_6 : List UInt8 := [183, 0, 37, 176]
abbrev dktX0_newPlug_6 : List UInt8 := dkwX0_newPlug_6 ++ []
def dkwX0_newPlug_5 : List UInt8 := [187, 0, 26, 89, 27, 36, 29, 183, 0, 28, 176, 187, 0, 29, 89, 27, 36, 29, 42, 180, 0, 31, 29, 50]
abbrev dktX0_newPlug_5 : List UInt8 := dkwX0_newPlug_5 ++ dktX0_newPlug_6
def dkwX0_newPlug_4 : List UInt8 := [187, 0, 20, 89, 27, 36, 29, 183, 0, 22, 176, 187, 0, 23, 89, 27, 36, 29, 183, 0, 25, 176]
abbrev dktX0_newPlug_4 : List UInt8 := dkwX0_newPlug_4 ++ dktX0_newPlug_5
def dkwX0_newPlug_3 : List UInt8 := [187, 0, 14, 89, 27, 36, 29, 183, 0, 16, 176, 187, 0, 17, 89, 27, 36, 29, 183, 0, 19, 176]
abbrev dktX0_newPlug_3 : List UInt8 := dkwX0_newPlug_3 ++ dktX0_newPlug_4
def dkwX0_newPlug_2 : List UInt8 := [187, 0, 5, 89, 27, 36, 29, 183, 0, 7, 176, 187, 0, 11, 89, 27, 36, 29, 183, 0, 13, 176]
abbrev dktX0_newPlug_2 : List UInt8 := dkwX0_newPlug_2 ++ dktX0_newPlug_3
def dkwX0_newPlug_1 : List UInt8 := [170, 0, 0, 0, 0, 0, 120, 0, 0, 0, 0, 0, 0, 0, 6, 0, 0, 0, 43, 0, 0, 0, 54, 0, 0, 0, 65, 0, 0, 0, 76, 0, 0, 0, 87, 0, 0, 0, 98, 0, 0, 0, 109]
abbrev dktX0_newPlug_1 : List UInt8 := dkwX0_newPlug_1 ++ dktX0_newPlug_2
def dkwX0_newPlug_0 : List UInt8 := [27]
abbrev dktX0_newPlug_0 : List UInt8 := dkwX0_newPlug_0 ++ dktX0_newPlug_1
theorem dksX0_newPlug_0 : cX0_newPlug.data.toList.drop 0 = dktX0_newPlug_0 := by decide +kernel
theorem dksX0_newPlug_1 : cX0_newPlug.data.toList.drop 1 = dktX0_newPlug_1 := dk_seg dksX0_newPlug_0 1 rfl rfl
theorem dksX0_newPlug_2 : cX0_newPlug.data.toList.drop 44 = dktX0_newPlug_2 := dk_seg dksX0_newPlug_1 43 rfl rfl
theorem dksX0_newPlug_3 : cX0_newPlug.data.toList.drop 66 = dktX0_newPlug_3 := dk_seg dksX0_newPlug_2 22 rfl rfl
theorem dksX0_newPlug_4 : cX0_newPlug.data.toList.drop 88 = dktX0_newPlug_4 := dk_seg dksX0_newPlug_3 22 rfl rfl
theorem dksX0_newPlug_5 : cX0_newPlug.data.toList.drop 110 = dktX0_newPlug_5 := dk_seg dksX0_newPlug_4 22 rfl rfl
theorem dksX0_newPlug_6 : cX0_newPlug.data.toList.drop 134 = dktX0_newPlug_6 := dk_seg dksX0_newPlug_5 24 rfl rfl
theorem dX0_newPlug_0 : decode cX0_newPlug 0 = .ok (.iload_n 1, 1) := dk_27 (dk_at dksX0_newPlug_0 0 rfl rfl)
theorem dX0_newPlug_1 : decode cX0_newPlug 1 = .ok (.tableswitch 120 0 6 #[43, 54, 65, 76, 87, 98, 109], 43) := by decide +kernel
theorem dX0_newPlug_44 : decode cX0_newPlug 44 = .ok (.new 5, 3) := dk_187 0 5 (dk_at dksX0_newPlug_2 0 rfl rfl)
theorem dX0_newPlug_47 : decode cX0_newPlug 47 = .ok (.dup, 1) := dk_89 (dk_at dksX0_newPlug_2 3 rfl rfl)
theorem dX0_newPlug_48 : decode cX0_newPlug 48 = .ok (.iload_n 1, 1) := dk_27 (dk_at dksX0_newPlug_2 4 rfl rfl)
theorem dX0_newPlug_49 : decode cX0_newPlug 49 = .ok (.fload_n 2, 1) := dk_36 (dk_at dksX0_newPlug_2 5 rfl rfl)
theorem dX0_newPlug_50 : decode cX0_newPlug 50 = .ok (.iload_n 3, 1) := dk_29 (dk_at dksX0_newPlug_2 6 rfl rfl)
theorem dX0_newPlug_51 : decode cX0_newPlug 51 = .ok (.invokespecial 7, 3) := dk_183 0 7 (dk_at dksX0_newPlug_2 7 rfl rfl)
theorem dX0_newPlug_54 : decode cX0_newPlug 54 = .ok (.areturn, 1) := dk_176 (dk_at dksX0_newPlug_2 10 rfl rfl)
theorem dX0_newPlug_55 : decode cX0_newPlug 55 = .ok (.new 11, 3) := dk_187 0 11 (dk_at dksX0_newPlug_2 11 rfl rfl)
theorem dX0_newPlug_58 : decode cX0_newPlug 58 = .ok (.dup, 1) := dk_89 (dk_at dksX0_newPlug_2 14 rfl rfl)
theorem dX0_newPlug_59 : decode cX0_newPlug 59 = .ok (.iload_n 1, 1) := dk_27 (dk_at dksX0_newPlug_2 15 rfl rfl)
theorem dX0_newPlug_60 : decode cX0_newPlug 60 = .ok (.fload_n 2, 1) := dk_36 (dk_at dksX0_newPlug_2 16 rfl rfl)
theorem dX0_newPlug_61 : decode cX0_newPlug 61 = .ok (.iload_n 3, 1) := dk_29 (dk_at dksX0_newPlug_2 17 rfl rfl)
theorem dX0_newPlug_62 : decode cX0_newPlug 62 = .ok (.invokespecial 13, 3) := dk_183 0 13 (dk_at dksX0_newPlug_2 18 rfl rfl)
theorem dX0_newPlug_65 : decode cX0_newPlug 65 = .ok (.areturn, 1) := dk_176 (dk_at dksX0_newPlug_2 21 rfl rfl)
theorem dX0_newPlug_66 : decode cX0_newPlug 66 = .ok (.new 14, 3) := dk_187 0 14 (dk_at dksX0_newPlug_3 0 rfl rfl)
theorem dX0_newPlug_69 : decode cX0_newPlug 69 = .ok (.dup, 1) := dk_89 (dk_at dksX0_newPlug_3 3 rfl rfl)
theorem dX0_newPlug_70 : decode cX0_newPlug 70 = .ok (.iload_n 1, 1) := dk_27 (dk_at dksX0_newPlug_3 4 rfl rfl)
theorem dX0_newPlug_71 : decode cX0_newPlug 71 = .ok (.fload_n 2, 1) := dk_36 (dk_at dksX0_newPlug_3 5 rfl rfl)
theorem dX0_newPlug_72 : decode cX0_newPlug 72 = .ok (.iload_n 3, 1) := dk_29 (dk_at dksX0_newPlug_3 6 rfl rfl)
theorem dX0_newPlug_73 : decode cX0_newPlug 73 = .ok (.invokespecial 16, 3) := dk_183 0 16 (dk_at dksX0_newPlug_3 7 rfl rfl)
theorem dX0_newPlug_76 : decode cX0_newPlug 76 = .ok (.areturn, 1) := dk_176 (dk_at dksX0_newPlug_3 10 rfl rfl)
theorem dX0_newPlug_77 : decode cX0_newPlug 77 = .ok (.new 17, 3) := dk_187 0 17 (dk_at dksX0_newPlug_3 11 rfl rfl)
theorem dX0_newPlug_80 : decode cX0_newPlug 80 = .ok (.dup, 1) := dk_89 (dk_at dksX0_newPlug_3 14 rfl rfl)
theorem dX0_newPlug_81 : decode cX0_newPlug 81 = .ok (.iload_n 1, 1) := dk_27 (dk_at dksX0_newPlug_3 15 rfl rfl)
theorem dX0_newPlug_82 : decode cX0_newPlug 82 = .ok (.fload_n 2, 1) := dk_36 (dk_at dksX0_newPlug_3 16 rfl rfl)
theorem dX0_newPlug_83 : decode cX0_newPlug 83 = .ok (.iload_n 3, 1) := dk_29 (dk_at dksX0_newPlug_3 17 rfl rfl)
theorem dX0_newPlug_84 : decode cX0_newPlug 84 = .ok (.invokespecial 19, 3) := dk_183 0 19 (dk_at dksX0_newPlug_3 18 rfl rfl)
theorem dX0_newPlug_87 : decode cX0_newPlug 87 = .ok (.areturn, 1) := dk_176 (dk_at dksX0_newPlug_3 21 rfl rfl)
theorem dX0_newPlug_88 : decode cX0_newPlug 88 = .ok (.new 20, 3) := dk_187 0 20 (dk_at dksX0_newPlug_4 0 rfl rfl)
theorem dX0_newPlug_91 : decode cX0_newPlug 91 = .ok (.dup, 1) := dk_89 (dk_at dksX0_newPlug_4 3 rfl rfl)
theorem dX0_newPlug_92 : decode cX0_newPlug 92 = .ok (.iload_n 1, 1) := dk_27 (dk_at dksX0_newPlug_4 4 rfl rfl)
theorem dX0_newPlug_93 : decode cX0_newPlug 93 = .ok (.fload_n 2, 1) := dk_36 (dk_at dksX0_newPlug_4 5 rfl rfl)
theorem dX0_newPlug_94 : decode cX0_newPlug 94 = .ok (.iload_n 3, 1) := dk_29 (dk_at dksX0_newPlug_4 6 rfl rfl)
theorem dX0_newPlug_95 : decode cX0_newPlug 95 = .ok (.invokespecial 22, 3) := dk_183 0 22 (dk_at dksX0_newPlug_4 7 rfl rfl)
theorem dX0_newPlug_98 : decode cX0_newPlug 98 = .ok (.areturn, 1) := dk_176 (dk_at dksX0_newPlug_4 10 rfl rfl)
theorem dX0_newPlug_99 : decode cX0_newPlug 99 = .ok (.new 23, 3) := dk_187 0 23 (dk_at dksX0_newPlug_4 11 rfl rfl)
theorem dX0_newPlug_102 : decode cX0_newPlug 102 = .ok (.dup, 1) := dk_89 (dk_at dksX0_newPlug_4 14 rfl rfl)
theorem dX0_newPlug_103 : decode cX0_newPlug 103 = .ok (.iload_n 1, 1) := dk_27 (dk_at dksX0_newPlug_4 15 rfl rfl)
theorem dX0_newPlug_104 : decode cX0_newPlug 104 = .ok (.fload_n 2, 1) := dk_36 (dk_at dksX0_newPlug_4 16 rfl rfl)
theorem dX0_newPlug_105 : decode cX0_newPlug 105 = .ok (.iload_n 3, 1) := dk_29 (dk_at dksX0_newPlug_4 17 rfl rfl)
theorem dX0_newPlug_106 : decode cX0_newPlug 106 = .ok (.invokespecial 25, 3) := dk_183 0 25 (dk_at dksX0_newPlug_4 18 rfl rfl)
theorem dX0_newPlug_109 : decode cX0_newPlug 109 = .ok (.areturn, 1) := dk_176 (dk_at dksX0_newPlug_4 21 rfl rfl)
theorem dX0_newPlug_110 : decode cX0_newPlug 110 = .ok (.new 26, 3) := dk_187 0 26 (dk_at dksX0_newPlug_5 0 rfl rfl)
theorem dX0_newPlug_113 : decode cX0_newPlug 113 = .ok (.dup, 1) := dk_89 (dk_at dksX0_newPlug_5 3 rfl rfl)
theorem dX0_newPlug_114 : decode cX0_newPlug 114 = .ok (.iload_n 1, 1) := dk_27 (dk_at dksX0_newPlug_5 4 rfl rfl)
theorem dX0_newPlug_115 : decode cX0_newPlug 115 = .ok (.fload_n 2, 1) := dk_36 (dk_at dksX0_newPlug_5 5 rfl rfl)
theorem dX0_newPlug_116 : decode cX0_newPlug 116 = .ok (.iload_n 3, 1) := dk_29 (dk_at dksX0_newPlug_5 6 rfl rfl)
theorem dX0_newPlug_117 : decode cX0_newPlug 117 = .ok (.invokespecial 28, 3) := dk_183 0 28 (dk_at dksX0_newPlug_5 7 rfl rfl)
theorem dX0_newPlug_120 : decode cX0_newPlug 120 = .ok (.areturn, 1) := dk_176 (dk_at dksX0_newPlug_5 10 rfl rfl)
theorem dX0_newPlug_121 : decode cX0_newPlug 121 = .ok (.new 29, 3) := dk_187 0 29 (dk_at dksX0_newPlug_5 11 rfl rfl)
theorem dX0_newPlug_124 : decode cX0_newPlug 124 = .ok (.dup, 1) := dk_89 (dk_at dksX0_newPlug_5 14 rfl rfl)
theorem dX0_newPlug_125 : decode cX0_newPlug 125 = .ok (.iload_n 1, 1) := dk_27 (dk_at dksX0_newPlug_5 15 rfl rfl)
theorem dX0_newPlug_126 : decode cX0_newPlug 126 = .ok (.fload_n 2, 1) := dk_36 (dk_at dksX0_newPlug_5 16 rfl rfl)
theorem dX0_newPlug_127 : decode cX0_newPlug 127 = .ok (.iload_n 3, 1) := dk_29 (dk_at dksX0_newPlug_5 17 rfl rfl)
theorem dX0_newPlug_128 : decode cX0_newPlug 128 = .ok (.aload_n 0, 1) := dk_42 (dk_at dksX0_newPlug_5 18 rfl rfl)
theorem dX0_newPlug_129 : decode cX0_newPlug 129 = .ok (.getfield 31, 3) := dk_180 0 31 (dk_at dksX0_newPlug_5 19 rfl rfl)
theorem dX0_newPlug_132 : decode cX0_newPlug 132 = .ok (.iload_n 3, 1) := dk_29 (dk_at dksX0_newPlug_5 22 rfl rfl)
theorem dX0_newPlug_133 : decode cX0_newPlug 133 = .ok (.aaload, 1) := dk_50 (dk_at dksX0_newPlug_5 23 rfl rfl)
theorem dX0_newPlug_134 : decode cX0_newPlug 134 = .ok (.invokespecial 37, 3) := dk_183 0 37 (dk_at dksX0_newPlug_6 0 rfl rfl)
theorem dX0_newPlug_137 : decode cX0_newPlug 137 = .ok (.areturn, 1) := dk_176 (dk_at dksX0_newPlug_6 3 rfl rfl)
abbrev cX0_plugged : ByteArray := prog_1_method_18_code
def yX0_plugged : MethodName := ⟨RX0, "plugged", "(II)I"⟩
def dkwX0_plugged_4 : List UInt8 := [182, 0, 96, 172, 78, 42, 5, 182, 0, 96, 172]
abbrev dktX0_plugged_4 : List UInt8 := dkwX0_plugged_4 ++ []
def dkwX0_plugged_3 : List UInt8 := [172, 42, 180, 0, 49, 27, 50, 28, 184, 0, 170, 172, 78, 42, 6, 182, 0, 96, 172, 78, 42, 4]
abbrev dktX0_plugged_3 : List UInt8 := dkwX0_plugged_3 ++ dktX0_plugged_4
def dkwX0_plugged_2 : List UInt8 := [160, 0, 15, 42, 180, 0, 49, 27, 50, 182, 0, 163, 167, 0, 12, 42, 180, 0, 49, 27, 50, 182, 0, 167]
abbrev dktX0_plugged_2 : List UInt8 := dkwX0_plugged_2 ++ dktX0_plugged_3
def dkwX0_plugged_1 : List UInt8 := [28, 6, 162, 0, 46, 28, 154, 0, 15, 42, 180, 0, 49, 27, 50, 180, 0, 160, 167, 0, 29, 28, 4]
abbrev dktX0_plugged_1 : List UInt8 := dkwX0_plugged_1 ++ dktX0_plugged_2
def dkwX0_plugged_0 : List UInt8 := [42, 27, 182, 0, 157, 154, 0, 6, 16, 155, 172, 28, 3, 16, 20, 184, 0, 81, 154, 0, 6, 16, 154, 172]
abbrev dktX0_plugged_0 : List UInt8 := dkwX0_plugged_0 ++ dktX0_plugged_1
theorem dksX0_plugged_0 : cX0_plugged.data.toList.drop 0 = dktX0_plugged_0 := by decide +kernel
theorem dksX0_plugged_1 : cX0_plugged.data.toList.drop 24 = dktX0_plugged_1 := dk_seg dksX0_plugged_0 24 rfl rfl
theorem dksX0_plugged_2 : cX0_plugged.data.toList.drop 47 = dktX0_plugged_2 := dk_seg dksX0_plugged_1 23 rfl rfl
theorem dksX0_plugged_3 : cX0_plugged.data.toList.drop 71 = dktX0_plugged_3 := dk_seg dksX0_plugged_2 24 rfl rfl
theorem dksX0_plugged_4 : cX0_plugged.data.toList.drop 93 = dktX0_plugged_4 := dk_seg dksX0_plugged_3 22 rfl rfl
theorem dX0_plugged_0 : decode cX0_plugged 0 = .ok (.aload_n 0, 1) := dk_42 (dk_at dksX0_plugged_0 0 rfl rfl)
theorem dX0_plugged_1 : decode cX0_plugged 1 = .ok (.iload_n 1, 1) := dk_27 (dk_at dksX0_plugged_0 1 rfl rfl)
theorem dX0_plugged_2 : decode cX0_plugged 2 = .ok (.invokevirtual 157, 3) := dk_182 0 157 (dk_at dksX0_plugged_0 2 rfl rfl)
theorem dX0_plugged_5 : decode cX0_plugged 5 = .ok (.ifCond .ne 6, 3) := dk_154 0 6 (dk_at dksX0_plugged_0 5 rfl rfl)
theorem dX0_plugged_8 : decode cX0_plugged 8 = .ok (.bipush (-101), 2) := dk_16 155 (dk_at dksX0_plugged_0 8 rfl rfl)
theorem dX0_plugged_10 : decode cX0_plugged 10 = .ok (.ireturn, 1) := dk_172 (dk_at dksX0_plugged_0 10 rfl rfl)
theorem dX0_plugged_11 : decode cX0_plugged 11 = .ok (.iload_n 2, 1) := dk_28 (dk_at dksX0_plugged_0 11 rfl rfl)
theorem dX0_plugged_12 : decode cX0_plugged 12 = .ok (.iconst 0, 1) := dk_3 (dk_at dksX0_plugged_0 12 rfl rfl)
theorem dX0_plugged_13 : decode cX0_plugged 13 = .ok (.bipush 20, 2) := dk_16 20 (dk_at dksX0_plugged_0 13 rfl rfl)
theorem dX0_plugged_15 : decode cX0_plugged 15 = .ok (.invokestatic 81, 3) := dk_184 0 81 (dk_at dksX0_plugged_0 15 rfl rfl)
theorem dX0_plugged_18 : decode cX0_plugged 18 = .ok (.ifCond .ne 6, 3) := dk_154 0 6 (dk_at dksX0_plugged_0 18 rfl rfl)
theorem dX0_plugged_21 : decode cX0_plugged 21 = .ok (.bipush (-102), 2) := dk_16 154 (dk_at dksX0_plugged_0 21 rfl rfl)
theorem dX0_plugged_23 : decode cX0_plugged 23 = .ok (.ireturn, 1) := dk_172 (dk_at dksX0_plugged_0 23 rfl rfl)
theorem dX0_plugged_24 : decode cX0_plugged 24 = .ok (.iload_n 2, 1) := dk_28 (dk_at dksX0_plugged_1 0 rfl rfl)
theorem dX0_plugged_25 : decode cX0_plugged 25 = .ok (.iconst 3, 1) := dk_6 (dk_at dksX0_plugged_1 1 rfl rfl)
theorem dX0_plugged_26 : decode cX0_plugged 26 = .ok (.if_icmp .ge 46, 3) := dk_162 0 46 (dk_at dksX0_plugged_1 2 rfl rfl)
theorem dX0_plugged_29 : decode cX0_plugged 29 = .ok (.iload_n 2, 1) := dk_28 (dk_at dksX0_plugged_1 5 rfl rfl)
theorem dX0_plugged_30 : decode cX0_plugged 30 = .ok (.ifCond .ne 15, 3) := dk_154 0 15 (dk_at dksX0_plugged_1 6 rfl rfl)
theorem dX0_plugged_33 : decode cX0_plugged 33 = .ok (.aload_n 0, 1) := dk_42 (dk_at dksX0_plugged_1 9 rfl rfl)
theorem dX0_plugged_34 : decode cX0_plugged 34 = .ok (.getfield 49, 3) := dk_180 0 49 (dk_at dksX0_plugged_1 10 rfl rfl)
theorem dX0_plugged_37 : decode cX0_plugged 37 = .ok (.iload_n 1, 1) := dk_27 (dk_at dksX0_plugged_1 13 rfl rfl)
theorem dX0_plugged_38 : decode cX0_plugged 38 = .ok (.aaload, 1) := dk_50 (dk_at dksX0_plugged_1 14 rfl rfl)
theorem dX0_plugged_39 : decode cX0_plugged 39 = .ok (.getfield 160, 3) := dk_180 0 160 (dk_at dksX0_plugged_1 15 rfl rfl)
theorem dX0_plugged_42 : decode cX0_plugged 42 = .ok (.goto 29, 3) := dk_167 0 29 (dk_at dksX0_plugged_1 18 rfl rfl)
theorem dX0_plugged_45 : decode cX0_plugged 45 = .ok (.iload_n 2, 1) := dk_28 (dk_at dksX0_plugged_1 21 rfl rfl)
theorem dX0_plugged_46 : decode cX0_plugged 46 = .ok (.iconst 1, 1) := dk_4 (dk_at dksX0_plugged_1 22 rfl rfl)
theorem dX0_plugged_47 : decode cX0_plugged 47 = .ok (.if_icmp .ne 15, 3) := dk_160 0 15 (dk_at dksX0_plugged_2 0 rfl rfl)
theorem dX0_plugged_50 : decode cX0_plugged 50 = .ok (.aload_n 0, 1) := dk_42 (dk_at dksX0_plugged_2 3 rfl rfl)
theorem dX0_plugged_51 : decode cX0_plugged 51 = .ok (.getfield 49, 3) := dk_180 0 49 (dk_at dksX0_plugged_2 4 rfl rfl)
theorem dX0_plugged_54 : decode cX0_plugged 54 = .ok (.iload_n 1, 1) := dk_27 (dk_at dksX0_plugged_2 7 rfl rfl)
theorem dX0_plugged_55 : decode cX0_plugged 55 = .ok (.aaload, 1) := dk_50 (dk_at dksX0_plugged_2 8 rfl rfl)
theorem dX0_plugged_56 : decode cX0_plugged 56 = .ok (.invokevirtual 163, 3) := dk_182 0 163 (dk_at dksX0_plugged_2 9 rfl rfl)
theorem dX0_plugged_59 : decode cX0_plugged 59 = .ok (.goto 12, 3) := dk_167 0 12 (dk_at dksX0_plugged_2 12 rfl rfl)
theorem dX0_plugged_62 : decode cX0_plugged 62 = .ok (.aload_n 0, 1) := dk_42 (dk_at dksX0_plugged_2 15 rfl rfl)
theorem dX0_plugged_63 : decode cX0_plugged 63 = .ok (.getfield 49, 3) := dk_180 0 49 (dk_at dksX0_plugged_2 16 rfl rfl)
theorem dX0_plugged_66 : decode cX0_plugged 66 = .ok (.iload_n 1, 1) := dk_27 (dk_at dksX0_plugged_2 19 rfl rfl)
theorem dX0_plugged_67 : decode cX0_plugged 67 = .ok (.aaload, 1) := dk_50 (dk_at dksX0_plugged_2 20 rfl rfl)
theorem dX0_plugged_68 : decode cX0_plugged 68 = .ok (.invokevirtual 167, 3) := dk_182 0 167 (dk_at dksX0_plugged_2 21 rfl rfl)
theorem dX0_plugged_71 : decode cX0_plugged 71 = .ok (.ireturn, 1) := dk_172 (dk_at dksX0_plugged_3 0 rfl rfl)
theorem dX0_plugged_72 : decode cX0_plugged 72 = .ok (.aload_n 0, 1) := dk_42 (dk_at dksX0_plugged_3 1 rfl rfl)
theorem dX0_plugged_73 : decode cX0_plugged 73 = .ok (.getfield 49, 3) := dk_180 0 49 (dk_at dksX0_plugged_3 2 rfl rfl)
theorem dX0_plugged_76 : decode cX0_plugged 76 = .ok (.iload_n 1, 1) := dk_27 (dk_at dksX0_plugged_3 5 rfl rfl)
theorem dX0_plugged_77 : decode cX0_plugged 77 = .ok (.aaload, 1) := dk_50 (dk_at dksX0_plugged_3 6 rfl rfl)
theorem dX0_plugged_78 : decode cX0_plugged 78 = .ok (.iload_n 2, 1) := dk_28 (dk_at dksX0_plugged_3 7 rfl rfl)
theorem dX0_plugged_79 : decode cX0_plugged 79 = .ok (.invokestatic 170, 3) := dk_184 0 170 (dk_at dksX0_plugged_3 8 rfl rfl)
theorem dX0_plugged_82 : decode cX0_plugged 82 = .ok (.ireturn, 1) := dk_172 (dk_at dksX0_plugged_3 11 rfl rfl)
theorem dX0_plugged_83 : decode cX0_plugged 83 = .ok (.astore_n 3, 1) := dk_78 (dk_at dksX0_plugged_3 12 rfl rfl)
theorem dX0_plugged_84 : decode cX0_plugged 84 = .ok (.aload_n 0, 1) := dk_42 (dk_at dksX0_plugged_3 13 rfl rfl)
theorem dX0_plugged_85 : decode cX0_plugged 85 = .ok (.iconst 3, 1) := dk_6 (dk_at dksX0_plugged_3 14 rfl rfl)
theorem dX0_plugged_86 : decode cX0_plugged 86 = .ok (.invokevirtual 96, 3) := dk_182 0 96 (dk_at dksX0_plugged_3 15 rfl rfl)
theorem dX0_plugged_89 : decode cX0_plugged 89 = .ok (.ireturn, 1) := dk_172 (dk_at dksX0_plugged_3 18 rfl rfl)
theorem dX0_plugged_90 : decode cX0_plugged 90 = .ok (.astore_n 3, 1) := dk_78 (dk_at dksX0_plugged_3 19 rfl rfl)
theorem dX0_plugged_91 : decode cX0_plugged 91 = .ok (.aload_n 0, 1) := dk_42 (dk_at dksX0_plugged_3 20 rfl rfl)
theorem dX0_plugged_92 : decode cX0_plugged 92 = .ok (.iconst 1, 1) := dk_4 (dk_at dksX0_plugged_3 21 rfl rfl)
theorem dX0_plugged_93 : decode cX0_plugged 93 = .ok (.invokevirtual 96, 3) := dk_182 0 96 (dk_at dksX0_plugged_4 0 rfl rfl)
theorem dX0_plugged_96 : decode cX0_plugged 96 = .ok (.ireturn, 1) := dk_172 (dk_at dksX0_plugged_4 3 rfl rfl)
theorem dX0_plugged_97 : decode cX0_plugged 97 = .ok (.astore_n 3, 1) := dk_78 (dk_at dksX0_plugged_4 4 rfl rfl)
theorem dX0_plugged_98 : decode cX0_plugged 98 = .ok (.aload_n 0, 1) := dk_42 (dk_at dksX0_plugged_4 5 rfl rfl)
theorem dX0_plugged_99 : decode cX0_plugged 99 = .ok (.iconst 2, 1) := dk_5 (dk_at dksX0_plugged_4 6 rfl rfl)
theorem dX0_plugged_100 : decode cX0_plugged 100 = .ok (.invokevirtual 96, 3) := dk_182 0 96 (dk_at dksX0_plugged_4 7 rfl rfl)
theorem dX0_plugged_103 : decode cX0_plugged 103 = .ok (.ireturn, 1) := dk_172 (dk_at dksX0_plugged_4 10 rfl rfl)
abbrev cX0_isPlug : ByteArray := prog_1_method_9_code
def yX0_isPlug : MethodName := ⟨RX0, "isPlug", "(I)Z"⟩
def dkwX0_isPlug_0 : List UInt8 := [27, 3, 42, 180, 0, 88, 4, 100, 184, 0, 81, 172]
abbrev dktX0_isPlug_0 : List UInt8 := dkwX0_isPlug_0 ++ []
theorem dksX0_isPlug_0 : cX0_isPlug.data.toList.drop 0 = dktX0_isPlug_0 := by decide +kernel
theorem dX0_isPlug_0 : decode cX0_isPlug 0 = .ok (.iload_n 1, 1) := dk_27 (dk_at dksX0_isPlug_0 0 rfl rfl)
theorem dX0_isPlug_1 : decode cX0_isPlug 1 = .ok (.iconst 0, 1) := dk_3 (dk_at dksX0_isPlug_0 1 rfl rfl)
theorem dX0_isPlug_2 : decode cX0_isPlug 2 = .ok (.aload_n 0, 1) := dk_42 (dk_at dksX0_isPlug_0 2 rfl rfl)
theorem dX0_isPlug_3 : decode cX0_isPlug 3 = .ok (.getfield 88, 3) := dk_180 0 88 (dk_at dksX0_isPlug_0 3 rfl rfl)
theorem dX0_isPlug_6 : decode cX0_isPlug 6 = .ok (.iconst 1, 1) := dk_4 (dk_at dksX0_isPlug_0 6 rfl rfl)
theorem dX0_isPlug_7 : decode cX0_isPlug 7 = .ok (.isub, 1) := dk_100 (dk_at dksX0_isPlug_0 7 rfl rfl)
theorem dX0_isPlug_8 : decode cX0_isPlug 8 = .ok (.invokestatic 81, 3) := dk_184 0 81 (dk_at dksX0_isPlug_0 8 rfl rfl)
theorem dX0_isPlug_11 : decode cX0_isPlug 11 = .ok (.ireturn, 1) := dk_172 (dk_at dksX0_isPlug_0 11 rfl rfl)
abbrev cX0_ofEcho : ByteArray := prog_1_method_17_code
def yX0_ofEcho : MethodName := ⟨RX0, "ofEcho", "(LScoreThreads$Plug;I)I"⟩
def dkwX0_ofEcho_1 : List UInt8 := [180, 0, 154, 190, 167, 0, 14, 44, 180, 0, 154, 27, 8, 100, 48, 184, 0, 129, 172]
abbrev dktX0_ofEcho_1 : List UInt8 := dkwX0_ofEcho_1 ++ []
def dkwX0_ofEcho_0 : List UInt8 := [42, 192, 0, 20, 77, 27, 6, 160, 0, 10, 44, 180, 0, 151, 167, 0, 27, 27, 7, 160, 0, 11, 44]
abbrev dktX0_ofEcho_0 : List UInt8 := dkwX0_ofEcho_0 ++ dktX0_ofEcho_1
theorem dksX0_ofEcho_0 : cX0_ofEcho.data.toList.drop 0 = dktX0_ofEcho_0 := by decide +kernel
theorem dksX0_ofEcho_1 : cX0_ofEcho.data.toList.drop 23 = dktX0_ofEcho_1 := dk_seg dksX0_ofEcho_0 23 rfl rfl
theorem dX0_ofEcho_0 : decode cX0_ofEcho 0 = .ok (.aload_n 0, 1) := dk_42 (dk_at dksX0_ofEcho_0 0 rfl rfl)
theorem dX0_ofEcho_1 : decode cX0_ofEcho 1 = .ok (.checkcast 20, 3) := dk_192 0 20 (dk_at dksX0_ofEcho_0 1 rfl rfl)
theorem dX0_ofEcho_4 : decode cX0_ofEcho 4 = .ok (.astore_n 2, 1) := dk_77 (dk_at dksX0_ofEcho_0 4 rfl rfl)
theorem dX0_ofEcho_5 : decode cX0_ofEcho 5 = .ok (.iload_n 1, 1) := dk_27 (dk_at dksX0_ofEcho_0 5 rfl rfl)
theorem dX0_ofEcho_6 : decode cX0_ofEcho 6 = .ok (.iconst 3, 1) := dk_6 (dk_at dksX0_ofEcho_0 6 rfl rfl)
theorem dX0_ofEcho_7 : decode cX0_ofEcho 7 = .ok (.if_icmp .ne 10, 3) := dk_160 0 10 (dk_at dksX0_ofEcho_0 7 rfl rfl)
theorem dX0_ofEcho_10 : decode cX0_ofEcho 10 = .ok (.aload_n 2, 1) := dk_44 (dk_at dksX0_ofEcho_0 10 rfl rfl)
theorem dX0_ofEcho_11 : decode cX0_ofEcho 11 = .ok (.getfield 151, 3) := dk_180 0 151 (dk_at dksX0_ofEcho_0 11 rfl rfl)
theorem dX0_ofEcho_14 : decode cX0_ofEcho 14 = .ok (.goto 27, 3) := dk_167 0 27 (dk_at dksX0_ofEcho_0 14 rfl rfl)
theorem dX0_ofEcho_17 : decode cX0_ofEcho 17 = .ok (.iload_n 1, 1) := dk_27 (dk_at dksX0_ofEcho_0 17 rfl rfl)
theorem dX0_ofEcho_18 : decode cX0_ofEcho 18 = .ok (.iconst 4, 1) := dk_7 (dk_at dksX0_ofEcho_0 18 rfl rfl)
theorem dX0_ofEcho_19 : decode cX0_ofEcho 19 = .ok (.if_icmp .ne 11, 3) := dk_160 0 11 (dk_at dksX0_ofEcho_0 19 rfl rfl)
theorem dX0_ofEcho_22 : decode cX0_ofEcho 22 = .ok (.aload_n 2, 1) := dk_44 (dk_at dksX0_ofEcho_0 22 rfl rfl)
theorem dX0_ofEcho_23 : decode cX0_ofEcho 23 = .ok (.getfield 154, 3) := dk_180 0 154 (dk_at dksX0_ofEcho_1 0 rfl rfl)
theorem dX0_ofEcho_26 : decode cX0_ofEcho 26 = .ok (.arraylength, 1) := dk_190 (dk_at dksX0_ofEcho_1 3 rfl rfl)
theorem dX0_ofEcho_27 : decode cX0_ofEcho 27 = .ok (.goto 14, 3) := dk_167 0 14 (dk_at dksX0_ofEcho_1 4 rfl rfl)
theorem dX0_ofEcho_30 : decode cX0_ofEcho 30 = .ok (.aload_n 2, 1) := dk_44 (dk_at dksX0_ofEcho_1 7 rfl rfl)
theorem dX0_ofEcho_31 : decode cX0_ofEcho 31 = .ok (.getfield 154, 3) := dk_180 0 154 (dk_at dksX0_ofEcho_1 8 rfl rfl)
theorem dX0_ofEcho_34 : decode cX0_ofEcho 34 = .ok (.iload_n 1, 1) := dk_27 (dk_at dksX0_ofEcho_1 11 rfl rfl)
theorem dX0_ofEcho_35 : decode cX0_ofEcho 35 = .ok (.iconst 5, 1) := dk_8 (dk_at dksX0_ofEcho_1 12 rfl rfl)
theorem dX0_ofEcho_36 : decode cX0_ofEcho 36 = .ok (.isub, 1) := dk_100 (dk_at dksX0_ofEcho_1 13 rfl rfl)
theorem dX0_ofEcho_37 : decode cX0_ofEcho 37 = .ok (.faload, 1) := dk_48 (dk_at dksX0_ofEcho_1 14 rfl rfl)
theorem dX0_ofEcho_38 : decode cX0_ofEcho 38 = .ok (.invokestatic 129, 3) := dk_184 0 129 (dk_at dksX0_ofEcho_1 15 rfl rfl)
theorem dX0_ofEcho_41 : decode cX0_ofEcho 41 = .ok (.ireturn, 1) := dk_172 (dk_at dksX0_ofEcho_1 18 rfl rfl)
abbrev cX0_track : ByteArray := prog_1_method_22_code
def yX0_track : MethodName := ⟨RX0, "track", "(IIIZ)I"⟩
def dkwX0_track_1 : List UInt8 := [29, 21, 4, 182, 0, 217, 167, 0, 5, 16, 155, 172]
abbrev dktX0_track_1 : List UInt8 := dkwX0_track_1 ++ []
def dkwX0_track_0 : List UInt8 := [27, 184, 0, 214, 153, 0, 29, 28, 2, 159, 0, 11, 42, 28, 182, 0, 100, 153, 0, 16, 42, 3, 27, 28]
abbrev dktX0_track_0 : List UInt8 := dkwX0_track_0 ++ dktX0_track_1
theorem dksX0_track_0 : cX0_track.data.toList.drop 0 = dktX0_track_0 := by decide +kernel
theorem dksX0_track_1 : cX0_track.data.toList.drop 24 = dktX0_track_1 := dk_seg dksX0_track_0 24 rfl rfl
theorem dX0_track_0 : decode cX0_track 0 = .ok (.iload_n 1, 1) := dk_27 (dk_at dksX0_track_0 0 rfl rfl)
theorem dX0_track_1 : decode cX0_track 1 = .ok (.invokestatic 214, 3) := dk_184 0 214 (dk_at dksX0_track_0 1 rfl rfl)
theorem dX0_track_4 : decode cX0_track 4 = .ok (.ifCond .eq 29, 3) := dk_153 0 29 (dk_at dksX0_track_0 4 rfl rfl)
theorem dX0_track_7 : decode cX0_track 7 = .ok (.iload_n 2, 1) := dk_28 (dk_at dksX0_track_0 7 rfl rfl)
theorem dX0_track_8 : decode cX0_track 8 = .ok (.iconst (-1), 1) := dk_2 (dk_at dksX0_track_0 8 rfl rfl)
theorem dX0_track_9 : decode cX0_track 9 = .ok (.if_icmp .eq 11, 3) := dk_159 0 11 (dk_at dksX0_track_0 9 rfl rfl)
theorem dX0_track_12 : decode cX0_track 12 = .ok (.aload_n 0, 1) := dk_42 (dk_at dksX0_track_0 12 rfl rfl)
theorem dX0_track_13 : decode cX0_track 13 = .ok (.iload_n 2, 1) := dk_28 (dk_at dksX0_track_0 13 rfl rfl)
theorem dX0_track_14 : decode cX0_track 14 = .ok (.invokevirtual 100, 3) := dk_182 0 100 (dk_at dksX0_track_0 14 rfl rfl)
theorem dX0_track_17 : decode cX0_track 17 = .ok (.ifCond .eq 16, 3) := dk_153 0 16 (dk_at dksX0_track_0 17 rfl rfl)
theorem dX0_track_20 : decode cX0_track 20 = .ok (.aload_n 0, 1) := dk_42 (dk_at dksX0_track_0 20 rfl rfl)
theorem dX0_track_21 : decode cX0_track 21 = .ok (.iconst 0, 1) := dk_3 (dk_at dksX0_track_0 21 rfl rfl)
theorem dX0_track_22 : decode cX0_track 22 = .ok (.iload_n 1, 1) := dk_27 (dk_at dksX0_track_0 22 rfl rfl)
theorem dX0_track_23 : decode cX0_track 23 = .ok (.iload_n 2, 1) := dk_28 (dk_at dksX0_track_0 23 rfl rfl)
theorem dX0_track_24 : decode cX0_track 24 = .ok (.iload_n 3, 1) := dk_29 (dk_at dksX0_track_1 0 rfl rfl)
theorem dX0_track_25 : decode cX0_track 25 = .ok (.iload 4, 2) := dk_21 4 (dk_at dksX0_track_1 1 rfl rfl)
theorem dX0_track_27 : decode cX0_track 27 = .ok (.invokevirtual 217, 3) := dk_182 0 217 (dk_at dksX0_track_1 3 rfl rfl)
theorem dX0_track_30 : decode cX0_track 30 = .ok (.goto 5, 3) := dk_167 0 5 (dk_at dksX0_track_1 6 rfl rfl)
theorem dX0_track_33 : decode cX0_track 33 = .ok (.bipush (-101), 2) := dk_16 155 (dk_at dksX0_track_1 9 rfl rfl)
theorem dX0_track_35 : decode cX0_track 35 = .ok (.ireturn, 1) := dk_172 (dk_at dksX0_track_1 11 rfl rfl)
abbrev cX0_isTrack : ByteArray := prog_1_method_7_code
def yX0_isTrack : MethodName := ⟨RX0, "isTrack", "(I)Z"⟩
def dkwX0_isTrack_0 : List UInt8 := [26, 3, 16, 7, 184, 0, 81, 172]
abbrev dktX0_isTrack_0 : List UInt8 := dkwX0_isTrack_0 ++ []
theorem dksX0_isTrack_0 : cX0_isTrack.data.toList.drop 0 = dktX0_isTrack_0 := by decide +kernel
theorem dX0_isTrack_0 : decode cX0_isTrack 0 = .ok (.iload_n 0, 1) := dk_26 (dk_at dksX0_isTrack_0 0 rfl rfl)
theorem dX0_isTrack_1 : decode cX0_isTrack 1 = .ok (.iconst 0, 1) := dk_3 (dk_at dksX0_isTrack_0 1 rfl rfl)
theorem dX0_isTrack_2 : decode cX0_isTrack 2 = .ok (.bipush 7, 2) := dk_16 7 (dk_at dksX0_isTrack_0 2 rfl rfl)
theorem dX0_isTrack_4 : decode cX0_isTrack 4 = .ok (.invokestatic 81, 3) := dk_184 0 81 (dk_at dksX0_isTrack_0 4 rfl rfl)
theorem dX0_isTrack_7 : decode cX0_isTrack 7 = .ok (.ireturn, 1) := dk_172 (dk_at dksX0_isTrack_0 7 rfl rfl)
abbrev cX0_edit : ByteArray := prog_1_method_19_code
def yX0_edit : MethodName := ⟨RX0, "edit", "(IIIIZ)I"⟩
def dkwX0_edit_5 : List UInt8 := [153, 0, 7, 4, 167, 0, 4, 3, 79, 42, 89, 180, 0, 180, 4, 96, 181, 0, 180, 3, 172]
abbrev dktX0_edit_5 : List UInt8 := dkwX0_edit_5 ++ []
def dkwX0_edit_4 : List UInt8 := [180, 0, 180, 104, 6, 96, 21, 4, 79, 42, 180, 0, 77, 8, 42, 180, 0, 180, 104, 7, 96, 21, 5]
abbrev dktX0_edit_4 : List UInt8 := dkwX0_edit_4 ++ dktX0_edit_5
def dkwX0_edit_3 : List UInt8 := [96, 28, 79, 42, 180, 0, 77, 8, 42, 180, 0, 180, 104, 5, 96, 29, 79, 42, 180, 0, 77, 8, 42]
abbrev dktX0_edit_3 : List UInt8 := dkwX0_edit_3 ++ dktX0_edit_4
def dkwX0_edit_2 : List UInt8 := [172, 42, 180, 0, 77, 8, 42, 180, 0, 180, 104, 27, 79, 42, 180, 0, 77, 8, 42, 180, 0, 180, 104, 4]
abbrev dktX0_edit_2 : List UInt8 := dkwX0_edit_2 ++ dktX0_edit_3
def dkwX0_edit_1 : List UInt8 := [154, 0, 7, 4, 167, 0, 8, 16, 246, 21, 6, 100, 172, 42, 180, 0, 180, 16, 30, 160, 0, 6, 16, 152]
abbrev dktX0_edit_1 : List UInt8 := dkwX0_edit_1 ++ dktX0_edit_2
def dkwX0_edit_0 : List UInt8 := [42, 180, 0, 111, 154, 0, 31, 42, 27, 28, 29, 21, 4, 21, 5, 182, 0, 176, 54, 6, 21, 6]
abbrev dktX0_edit_0 : List UInt8 := dkwX0_edit_0 ++ dktX0_edit_1
theorem dksX0_edit_0 : cX0_edit.data.toList.drop 0 = dktX0_edit_0 := by decide +kernel
theorem dksX0_edit_1 : cX0_edit.data.toList.drop 22 = dktX0_edit_1 := dk_seg dksX0_edit_0 22 rfl rfl
theorem dksX0_edit_2 : cX0_edit.data.toList.drop 46 = dktX0_edit_2 := dk_seg dksX0_edit_1 24 rfl rfl
theorem dksX0_edit_3 : cX0_edit.data.toList.drop 70 = dktX0_edit_3 := dk_seg dksX0_edit_2 24 rfl rfl
theorem dksX0_edit_4 : cX0_edit.data.toList.drop 93 = dktX0_edit_4 := dk_seg dksX0_edit_3 23 rfl rfl
theorem dksX0_edit_5 : cX0_edit.data.toList.drop 116 = dktX0_edit_5 := dk_seg dksX0_edit_4 23 rfl rfl
theorem dX0_edit_0 : decode cX0_edit 0 = .ok (.aload_n 0, 1) := dk_42 (dk_at dksX0_edit_0 0 rfl rfl)
theorem dX0_edit_1 : decode cX0_edit 1 = .ok (.getfield 111, 3) := dk_180 0 111 (dk_at dksX0_edit_0 1 rfl rfl)
theorem dX0_edit_4 : decode cX0_edit 4 = .ok (.ifCond .ne 31, 3) := dk_154 0 31 (dk_at dksX0_edit_0 4 rfl rfl)
theorem dX0_edit_7 : decode cX0_edit 7 = .ok (.aload_n 0, 1) := dk_42 (dk_at dksX0_edit_0 7 rfl rfl)
theorem dX0_edit_8 : decode cX0_edit 8 = .ok (.iload_n 1, 1) := dk_27 (dk_at dksX0_edit_0 8 rfl rfl)
theorem dX0_edit_9 : decode cX0_edit 9 = .ok (.iload_n 2, 1) := dk_28 (dk_at dksX0_edit_0 9 rfl rfl)
theorem dX0_edit_10 : decode cX0_edit 10 = .ok (.iload_n 3, 1) := dk_29 (dk_at dksX0_edit_0 10 rfl rfl)
theorem dX0_edit_11 : decode cX0_edit 11 = .ok (.iload 4, 2) := dk_21 4 (dk_at dksX0_edit_0 11 rfl rfl)
theorem dX0_edit_13 : decode cX0_edit 13 = .ok (.iload 5, 2) := dk_21 5 (dk_at dksX0_edit_0 13 rfl rfl)
theorem dX0_edit_15 : decode cX0_edit 15 = .ok (.invokevirtual 176, 3) := dk_182 0 176 (dk_at dksX0_edit_0 15 rfl rfl)
theorem dX0_edit_18 : decode cX0_edit 18 = .ok (.istore 6, 2) := dk_54 6 (dk_at dksX0_edit_0 18 rfl rfl)
theorem dX0_edit_20 : decode cX0_edit 20 = .ok (.iload 6, 2) := dk_21 6 (dk_at dksX0_edit_0 20 rfl rfl)
theorem dX0_edit_22 : decode cX0_edit 22 = .ok (.ifCond .ne 7, 3) := dk_154 0 7 (dk_at dksX0_edit_1 0 rfl rfl)
theorem dX0_edit_25 : decode cX0_edit 25 = .ok (.iconst 1, 1) := dk_4 (dk_at dksX0_edit_1 3 rfl rfl)
theorem dX0_edit_26 : decode cX0_edit 26 = .ok (.goto 8, 3) := dk_167 0 8 (dk_at dksX0_edit_1 4 rfl rfl)
theorem dX0_edit_29 : decode cX0_edit 29 = .ok (.bipush (-10), 2) := dk_16 246 (dk_at dksX0_edit_1 7 rfl rfl)
theorem dX0_edit_31 : decode cX0_edit 31 = .ok (.iload 6, 2) := dk_21 6 (dk_at dksX0_edit_1 9 rfl rfl)
theorem dX0_edit_33 : decode cX0_edit 33 = .ok (.isub, 1) := dk_100 (dk_at dksX0_edit_1 11 rfl rfl)
theorem dX0_edit_34 : decode cX0_edit 34 = .ok (.ireturn, 1) := dk_172 (dk_at dksX0_edit_1 12 rfl rfl)
theorem dX0_edit_35 : decode cX0_edit 35 = .ok (.aload_n 0, 1) := dk_42 (dk_at dksX0_edit_1 13 rfl rfl)
theorem dX0_edit_36 : decode cX0_edit 36 = .ok (.getfield 180, 3) := dk_180 0 180 (dk_at dksX0_edit_1 14 rfl rfl)
theorem dX0_edit_39 : decode cX0_edit 39 = .ok (.bipush 30, 2) := dk_16 30 (dk_at dksX0_edit_1 17 rfl rfl)
theorem dX0_edit_41 : decode cX0_edit 41 = .ok (.if_icmp .ne 6, 3) := dk_160 0 6 (dk_at dksX0_edit_1 19 rfl rfl)
theorem dX0_edit_44 : decode cX0_edit 44 = .ok (.bipush (-104), 2) := dk_16 152 (dk_at dksX0_edit_1 22 rfl rfl)
theorem dX0_edit_46 : decode cX0_edit 46 = .ok (.ireturn, 1) := dk_172 (dk_at dksX0_edit_2 0 rfl rfl)
theorem dX0_edit_47 : decode cX0_edit 47 = .ok (.aload_n 0, 1) := dk_42 (dk_at dksX0_edit_2 1 rfl rfl)
theorem dX0_edit_48 : decode cX0_edit 48 = .ok (.getfield 77, 3) := dk_180 0 77 (dk_at dksX0_edit_2 2 rfl rfl)
theorem dX0_edit_51 : decode cX0_edit 51 = .ok (.iconst 5, 1) := dk_8 (dk_at dksX0_edit_2 5 rfl rfl)
theorem dX0_edit_52 : decode cX0_edit 52 = .ok (.aload_n 0, 1) := dk_42 (dk_at dksX0_edit_2 6 rfl rfl)
theorem dX0_edit_53 : decode cX0_edit 53 = .ok (.getfield 180, 3) := dk_180 0 180 (dk_at dksX0_edit_2 7 rfl rfl)
theorem dX0_edit_56 : decode cX0_edit 56 = .ok (.imul, 1) := dk_104 (dk_at dksX0_edit_2 10 rfl rfl)
theorem dX0_edit_57 : decode cX0_edit 57 = .ok (.iload_n 1, 1) := dk_27 (dk_at dksX0_edit_2 11 rfl rfl)
theorem dX0_edit_58 : decode cX0_edit 58 = .ok (.iastore, 1) := dk_79 (dk_at dksX0_edit_2 12 rfl rfl)
theorem dX0_edit_59 : decode cX0_edit 59 = .ok (.aload_n 0, 1) := dk_42 (dk_at dksX0_edit_2 13 rfl rfl)
theorem dX0_edit_60 : decode cX0_edit 60 = .ok (.getfield 77, 3) := dk_180 0 77 (dk_at dksX0_edit_2 14 rfl rfl)
theorem dX0_edit_63 : decode cX0_edit 63 = .ok (.iconst 5, 1) := dk_8 (dk_at dksX0_edit_2 17 rfl rfl)
theorem dX0_edit_64 : decode cX0_edit 64 = .ok (.aload_n 0, 1) := dk_42 (dk_at dksX0_edit_2 18 rfl rfl)
theorem dX0_edit_65 : decode cX0_edit 65 = .ok (.getfield 180, 3) := dk_180 0 180 (dk_at dksX0_edit_2 19 rfl rfl)
theorem dX0_edit_68 : decode cX0_edit 68 = .ok (.imul, 1) := dk_104 (dk_at dksX0_edit_2 22 rfl rfl)
theorem dX0_edit_69 : decode cX0_edit 69 = .ok (.iconst 1, 1) := dk_4 (dk_at dksX0_edit_2 23 rfl rfl)
theorem dX0_edit_70 : decode cX0_edit 70 = .ok (.iadd, 1) := dk_96 (dk_at dksX0_edit_3 0 rfl rfl)
theorem dX0_edit_71 : decode cX0_edit 71 = .ok (.iload_n 2, 1) := dk_28 (dk_at dksX0_edit_3 1 rfl rfl)
theorem dX0_edit_72 : decode cX0_edit 72 = .ok (.iastore, 1) := dk_79 (dk_at dksX0_edit_3 2 rfl rfl)
theorem dX0_edit_73 : decode cX0_edit 73 = .ok (.aload_n 0, 1) := dk_42 (dk_at dksX0_edit_3 3 rfl rfl)
theorem dX0_edit_74 : decode cX0_edit 74 = .ok (.getfield 77, 3) := dk_180 0 77 (dk_at dksX0_edit_3 4 rfl rfl)
theorem dX0_edit_77 : decode cX0_edit 77 = .ok (.iconst 5, 1) := dk_8 (dk_at dksX0_edit_3 7 rfl rfl)
theorem dX0_edit_78 : decode cX0_edit 78 = .ok (.aload_n 0, 1) := dk_42 (dk_at dksX0_edit_3 8 rfl rfl)
theorem dX0_edit_79 : decode cX0_edit 79 = .ok (.getfield 180, 3) := dk_180 0 180 (dk_at dksX0_edit_3 9 rfl rfl)
theorem dX0_edit_82 : decode cX0_edit 82 = .ok (.imul, 1) := dk_104 (dk_at dksX0_edit_3 12 rfl rfl)
theorem dX0_edit_83 : decode cX0_edit 83 = .ok (.iconst 2, 1) := dk_5 (dk_at dksX0_edit_3 13 rfl rfl)
theorem dX0_edit_84 : decode cX0_edit 84 = .ok (.iadd, 1) := dk_96 (dk_at dksX0_edit_3 14 rfl rfl)
theorem dX0_edit_85 : decode cX0_edit 85 = .ok (.iload_n 3, 1) := dk_29 (dk_at dksX0_edit_3 15 rfl rfl)
theorem dX0_edit_86 : decode cX0_edit 86 = .ok (.iastore, 1) := dk_79 (dk_at dksX0_edit_3 16 rfl rfl)
theorem dX0_edit_87 : decode cX0_edit 87 = .ok (.aload_n 0, 1) := dk_42 (dk_at dksX0_edit_3 17 rfl rfl)
theorem dX0_edit_88 : decode cX0_edit 88 = .ok (.getfield 77, 3) := dk_180 0 77 (dk_at dksX0_edit_3 18 rfl rfl)
theorem dX0_edit_91 : decode cX0_edit 91 = .ok (.iconst 5, 1) := dk_8 (dk_at dksX0_edit_3 21 rfl rfl)
theorem dX0_edit_92 : decode cX0_edit 92 = .ok (.aload_n 0, 1) := dk_42 (dk_at dksX0_edit_3 22 rfl rfl)
theorem dX0_edit_93 : decode cX0_edit 93 = .ok (.getfield 180, 3) := dk_180 0 180 (dk_at dksX0_edit_4 0 rfl rfl)
theorem dX0_edit_96 : decode cX0_edit 96 = .ok (.imul, 1) := dk_104 (dk_at dksX0_edit_4 3 rfl rfl)
theorem dX0_edit_97 : decode cX0_edit 97 = .ok (.iconst 3, 1) := dk_6 (dk_at dksX0_edit_4 4 rfl rfl)
theorem dX0_edit_98 : decode cX0_edit 98 = .ok (.iadd, 1) := dk_96 (dk_at dksX0_edit_4 5 rfl rfl)
theorem dX0_edit_99 : decode cX0_edit 99 = .ok (.iload 4, 2) := dk_21 4 (dk_at dksX0_edit_4 6 rfl rfl)
theorem dX0_edit_101 : decode cX0_edit 101 = .ok (.iastore, 1) := dk_79 (dk_at dksX0_edit_4 8 rfl rfl)
theorem dX0_edit_102 : decode cX0_edit 102 = .ok (.aload_n 0, 1) := dk_42 (dk_at dksX0_edit_4 9 rfl rfl)
theorem dX0_edit_103 : decode cX0_edit 103 = .ok (.getfield 77, 3) := dk_180 0 77 (dk_at dksX0_edit_4 10 rfl rfl)
theorem dX0_edit_106 : decode cX0_edit 106 = .ok (.iconst 5, 1) := dk_8 (dk_at dksX0_edit_4 13 rfl rfl)
theorem dX0_edit_107 : decode cX0_edit 107 = .ok (.aload_n 0, 1) := dk_42 (dk_at dksX0_edit_4 14 rfl rfl)
theorem dX0_edit_108 : decode cX0_edit 108 = .ok (.getfield 180, 3) := dk_180 0 180 (dk_at dksX0_edit_4 15 rfl rfl)
theorem dX0_edit_111 : decode cX0_edit 111 = .ok (.imul, 1) := dk_104 (dk_at dksX0_edit_4 18 rfl rfl)
theorem dX0_edit_112 : decode cX0_edit 112 = .ok (.iconst 4, 1) := dk_7 (dk_at dksX0_edit_4 19 rfl rfl)
theorem dX0_edit_113 : decode cX0_edit 113 = .ok (.iadd, 1) := dk_96 (dk_at dksX0_edit_4 20 rfl rfl)
theorem dX0_edit_114 : decode cX0_edit 114 = .ok (.iload 5, 2) := dk_21 5 (dk_at dksX0_edit_4 21 rfl rfl)
theorem dX0_edit_116 : decode cX0_edit 116 = .ok (.ifCond .eq 7, 3) := dk_153 0 7 (dk_at dksX0_edit_5 0 rfl rfl)
theorem dX0_edit_119 : decode cX0_edit 119 = .ok (.iconst 1, 1) := dk_4 (dk_at dksX0_edit_5 3 rfl rfl)
theorem dX0_edit_120 : decode cX0_edit 120 = .ok (.goto 4, 3) := dk_167 0 4 (dk_at dksX0_edit_5 4 rfl rfl)
theorem dX0_edit_123 : decode cX0_edit 123 = .ok (.iconst 0, 1) := dk_3 (dk_at dksX0_edit_5 7 rfl rfl)
theorem dX0_edit_124 : decode cX0_edit 124 = .ok (.iastore, 1) := dk_79 (dk_at dksX0_edit_5 8 rfl rfl)
theorem dX0_edit_125 : decode cX0_edit 125 = .ok (.aload_n 0, 1) := dk_42 (dk_at dksX0_edit_5 9 rfl rfl)
theorem dX0_edit_126 : decode cX0_edit 126 = .ok (.dup, 1) := dk_89 (dk_at dksX0_edit_5 10 rfl rfl)
theorem dX0_edit_127 : decode cX0_edit 127 = .ok (.getfield 180, 3) := dk_180 0 180 (dk_at dksX0_edit_5 11 rfl rfl)
theorem dX0_edit_130 : decode cX0_edit 130 = .ok (.iconst 1, 1) := dk_4 (dk_at dksX0_edit_5 14 rfl rfl)
theorem dX0_edit_131 : decode cX0_edit 131 = .ok (.iadd, 1) := dk_96 (dk_at dksX0_edit_5 15 rfl rfl)
theorem dX0_edit_132 : decode cX0_edit 132 = .ok (.putfield 180, 3) := dk_181 0 180 (dk_at dksX0_edit_5 16 rfl rfl)
theorem dX0_edit_135 : decode cX0_edit 135 = .ok (.iconst 0, 1) := dk_3 (dk_at dksX0_edit_5 19 rfl rfl)
theorem dX0_edit_136 : decode cX0_edit 136 = .ok (.ireturn, 1) := dk_172 (dk_at dksX0_edit_5 20 rfl rfl)
abbrev cX0_does : ByteArray := prog_1_method_20_code
def yX0_does : MethodName := ⟨RX0, "does", "(IIIIZ)I"⟩
def dkwX0_does_3 : List UInt8 := [92, 46, 4, 96, 79, 21, 6, 172]
abbrev dktX0_does_3 : List UInt8 := dkwX0_does_3 ++ []
def dkwX0_does_2 : List UInt8 := [21, 6, 154, 0, 16, 42, 89, 180, 0, 189, 4, 96, 181, 0, 189, 167, 0, 14, 42, 180, 0, 71, 21, 6]
abbrev dktX0_does_2 : List UInt8 := dkwX0_does_2 ++ dktX0_does_3
def dkwX0_does_1 : List UInt8 := [167, 0, 24, 58, 7, 7, 54, 6, 167, 0, 16, 58, 7, 6, 54, 6, 167, 0, 8, 58, 7, 8, 54, 6]
abbrev dktX0_does_1 : List UInt8 := dkwX0_does_1 ++ dktX0_does_2
def dkwX0_does_0 : List UInt8 := [3, 54, 6, 42, 27, 28, 29, 21, 4, 21, 5, 182, 0, 183, 167, 0, 32, 58, 7, 5, 54, 6]
abbrev dktX0_does_0 : List UInt8 := dkwX0_does_0 ++ dktX0_does_1
theorem dksX0_does_0 : cX0_does.data.toList.drop 0 = dktX0_does_0 := by decide +kernel
theorem dksX0_does_1 : cX0_does.data.toList.drop 22 = dktX0_does_1 := dk_seg dksX0_does_0 22 rfl rfl
theorem dksX0_does_2 : cX0_does.data.toList.drop 46 = dktX0_does_2 := dk_seg dksX0_does_1 24 rfl rfl
theorem dksX0_does_3 : cX0_does.data.toList.drop 70 = dktX0_does_3 := dk_seg dksX0_does_2 24 rfl rfl
theorem dX0_does_0 : decode cX0_does 0 = .ok (.iconst 0, 1) := dk_3 (dk_at dksX0_does_0 0 rfl rfl)
theorem dX0_does_1 : decode cX0_does 1 = .ok (.istore 6, 2) := dk_54 6 (dk_at dksX0_does_0 1 rfl rfl)
theorem dX0_does_3 : decode cX0_does 3 = .ok (.aload_n 0, 1) := dk_42 (dk_at dksX0_does_0 3 rfl rfl)
theorem dX0_does_4 : decode cX0_does 4 = .ok (.iload_n 1, 1) := dk_27 (dk_at dksX0_does_0 4 rfl rfl)
theorem dX0_does_5 : decode cX0_does 5 = .ok (.iload_n 2, 1) := dk_28 (dk_at dksX0_does_0 5 rfl rfl)
theorem dX0_does_6 : decode cX0_does 6 = .ok (.iload_n 3, 1) := dk_29 (dk_at dksX0_does_0 6 rfl rfl)
theorem dX0_does_7 : decode cX0_does 7 = .ok (.iload 4, 2) := dk_21 4 (dk_at dksX0_does_0 7 rfl rfl)
theorem dX0_does_9 : decode cX0_does 9 = .ok (.iload 5, 2) := dk_21 5 (dk_at dksX0_does_0 9 rfl rfl)
theorem dX0_does_11 : decode cX0_does 11 = .ok (.invokevirtual 183, 3) := dk_182 0 183 (dk_at dksX0_does_0 11 rfl rfl)
theorem dX0_does_14 : decode cX0_does 14 = .ok (.goto 32, 3) := dk_167 0 32 (dk_at dksX0_does_0 14 rfl rfl)
theorem dX0_does_17 : decode cX0_does 17 = .ok (.astore 7, 2) := dk_58 7 (dk_at dksX0_does_0 17 rfl rfl)
theorem dX0_does_19 : decode cX0_does 19 = .ok (.iconst 2, 1) := dk_5 (dk_at dksX0_does_0 19 rfl rfl)
theorem dX0_does_20 : decode cX0_does 20 = .ok (.istore 6, 2) := dk_54 6 (dk_at dksX0_does_0 20 rfl rfl)
theorem dX0_does_22 : decode cX0_does 22 = .ok (.goto 24, 3) := dk_167 0 24 (dk_at dksX0_does_1 0 rfl rfl)
theorem dX0_does_25 : decode cX0_does 25 = .ok (.astore 7, 2) := dk_58 7 (dk_at dksX0_does_1 3 rfl rfl)
theorem dX0_does_27 : decode cX0_does 27 = .ok (.iconst 4, 1) := dk_7 (dk_at dksX0_does_1 5 rfl rfl)
theorem dX0_does_28 : decode cX0_does 28 = .ok (.istore 6, 2) := dk_54 6 (dk_at dksX0_does_1 6 rfl rfl)
theorem dX0_does_30 : decode cX0_does 30 = .ok (.goto 16, 3) := dk_167 0 16 (dk_at dksX0_does_1 8 rfl rfl)
theorem dX0_does_33 : decode cX0_does 33 = .ok (.astore 7, 2) := dk_58 7 (dk_at dksX0_does_1 11 rfl rfl)
theorem dX0_does_35 : decode cX0_does 35 = .ok (.iconst 3, 1) := dk_6 (dk_at dksX0_does_1 13 rfl rfl)
theorem dX0_does_36 : decode cX0_does 36 = .ok (.istore 6, 2) := dk_54 6 (dk_at dksX0_does_1 14 rfl rfl)
theorem dX0_does_38 : decode cX0_does 38 = .ok (.goto 8, 3) := dk_167 0 8 (dk_at dksX0_does_1 16 rfl rfl)
theorem dX0_does_41 : decode cX0_does 41 = .ok (.astore 7, 2) := dk_58 7 (dk_at dksX0_does_1 19 rfl rfl)
theorem dX0_does_43 : decode cX0_does 43 = .ok (.iconst 5, 1) := dk_8 (dk_at dksX0_does_1 21 rfl rfl)
theorem dX0_does_44 : decode cX0_does 44 = .ok (.istore 6, 2) := dk_54 6 (dk_at dksX0_does_1 22 rfl rfl)
theorem dX0_does_46 : decode cX0_does 46 = .ok (.iload 6, 2) := dk_21 6 (dk_at dksX0_does_2 0 rfl rfl)
theorem dX0_does_48 : decode cX0_does 48 = .ok (.ifCond .ne 16, 3) := dk_154 0 16 (dk_at dksX0_does_2 2 rfl rfl)
theorem dX0_does_51 : decode cX0_does 51 = .ok (.aload_n 0, 1) := dk_42 (dk_at dksX0_does_2 5 rfl rfl)
theorem dX0_does_52 : decode cX0_does 52 = .ok (.dup, 1) := dk_89 (dk_at dksX0_does_2 6 rfl rfl)
theorem dX0_does_53 : decode cX0_does 53 = .ok (.getfield 189, 3) := dk_180 0 189 (dk_at dksX0_does_2 7 rfl rfl)
theorem dX0_does_56 : decode cX0_does 56 = .ok (.iconst 1, 1) := dk_4 (dk_at dksX0_does_2 10 rfl rfl)
theorem dX0_does_57 : decode cX0_does 57 = .ok (.iadd, 1) := dk_96 (dk_at dksX0_does_2 11 rfl rfl)
theorem dX0_does_58 : decode cX0_does 58 = .ok (.putfield 189, 3) := dk_181 0 189 (dk_at dksX0_does_2 12 rfl rfl)
theorem dX0_does_61 : decode cX0_does 61 = .ok (.goto 14, 3) := dk_167 0 14 (dk_at dksX0_does_2 15 rfl rfl)
theorem dX0_does_64 : decode cX0_does 64 = .ok (.aload_n 0, 1) := dk_42 (dk_at dksX0_does_2 18 rfl rfl)
theorem dX0_does_65 : decode cX0_does 65 = .ok (.getfield 71, 3) := dk_180 0 71 (dk_at dksX0_does_2 19 rfl rfl)
theorem dX0_does_68 : decode cX0_does 68 = .ok (.iload 6, 2) := dk_21 6 (dk_at dksX0_does_2 22 rfl rfl)
theorem dX0_does_70 : decode cX0_does 70 = .ok (.dup2, 1) := dk_92 (dk_at dksX0_does_3 0 rfl rfl)
theorem dX0_does_71 : decode cX0_does 71 = .ok (.iaload, 1) := dk_46 (dk_at dksX0_does_3 1 rfl rfl)
theorem dX0_does_72 : decode cX0_does 72 = .ok (.iconst 1, 1) := dk_4 (dk_at dksX0_does_3 2 rfl rfl)
theorem dX0_does_73 : decode cX0_does 73 = .ok (.iadd, 1) := dk_96 (dk_at dksX0_does_3 3 rfl rfl)
theorem dX0_does_74 : decode cX0_does 74 = .ok (.iastore, 1) := dk_79 (dk_at dksX0_does_3 4 rfl rfl)
theorem dX0_does_75 : decode cX0_does 75 = .ok (.iload 6, 2) := dk_21 6 (dk_at dksX0_does_3 5 rfl rfl)
theorem dX0_does_77 : decode cX0_does 77 = .ok (.ireturn, 1) := dk_172 (dk_at dksX0_does_3 7 rfl rfl)
abbrev cX0_change : ByteArray := prog_1_method_21_code
def yX0_change : MethodName := ⟨RX0, "change", "(IIIIZ)V"⟩
def dkwX0_change_9 : List UInt8 := [25, 6, 3, 181, 0, 151, 177]
abbrev dktX0_change_9 : List UInt8 := dkwX0_change_9 ++ []
def dkwX0_change_8 : List UInt8 := [28, 50, 192, 0, 20, 58, 6, 25, 6, 29, 2, 160, 0, 7, 1, 167, 0, 6, 29, 188, 6, 181, 0, 154]
abbrev dktX0_change_8 : List UInt8 := dkwX0_change_8 ++ dktX0_change_9
def dkwX0_change_7 : List UInt8 := [181, 0, 207, 167, 0, 51, 42, 180, 0, 55, 28, 50, 21, 5, 181, 0, 211, 167, 0, 37, 42, 180, 0, 49]
abbrev dktX0_change_7 : List UInt8 := dkwX0_change_7 ++ dktX0_change_8
def dkwX0_change_6 : List UInt8 := [167, 0, 10, 42, 180, 0, 49, 21, 4, 50, 83, 167, 0, 67, 42, 180, 0, 55, 28, 50, 29, 184, 0, 136]
abbrev dktX0_change_6 : List UInt8 := dkwX0_change_6 ++ dktX0_change_7
def dkwX0_change_5 : List UInt8 := [181, 0, 204, 167, 0, 98, 42, 180, 0, 55, 28, 50, 180, 0, 204, 29, 21, 4, 2, 160, 0, 7, 1]
abbrev dktX0_change_5 : List UInt8 := dkwX0_change_5 ++ dktX0_change_6
def dkwX0_change_4 : List UInt8 := [42, 180, 0, 55, 28, 50, 21, 5, 153, 0, 10, 7, 189, 0, 5, 167, 0, 7, 7, 189, 0, 47]
abbrev dktX0_change_4 : List UInt8 := dkwX0_change_4 ++ dktX0_change_5
def dkwX0_change_3 : List UInt8 := [180, 0, 55, 28, 50, 21, 5, 181, 0, 198, 167, 0, 137, 42, 180, 0, 55, 28, 50, 21, 5, 181, 0, 201]
abbrev dktX0_change_3 : List UInt8 := dkwX0_change_3 ++ dktX0_change_4
def dkwX0_change_2 : List UInt8 := [42, 180, 0, 55, 28, 50, 29, 181, 0, 192, 42, 180, 0, 55, 28, 50, 21, 4, 181, 0, 195, 42]
abbrev dktX0_change_2 : List UInt8 := dkwX0_change_2 ++ dktX0_change_3
def dkwX0_change_1 : List UInt8 := [170, 0, 0, 0, 0, 0, 170, 0, 0, 0, 0, 0, 0, 0, 4, 0, 0, 0, 35, 0, 0, 0, 70, 0, 0, 0, 109, 0, 0, 0, 140, 0, 0, 0, 156]
abbrev dktX0_change_1 : List UInt8 := dkwX0_change_1 ++ dktX0_change_2
def dkwX0_change_0 : List UInt8 := [27]
abbrev dktX0_change_0 : List UInt8 := dkwX0_change_0 ++ dktX0_change_1
theorem dksX0_change_0 : cX0_change.data.toList.drop 0 = dktX0_change_0 := by decide +kernel
theorem dksX0_change_1 : cX0_change.data.toList.drop 1 = dktX0_change_1 := dk_seg dksX0_change_0 1 rfl rfl
theorem dksX0_change_2 : cX0_change.data.toList.drop 36 = dktX0_change_2 := dk_seg dksX0_change_1 35 rfl rfl
theorem dksX0_change_3 : cX0_change.data.toList.drop 58 = dktX0_change_3 := dk_seg dksX0_change_2 22 rfl rfl
theorem dksX0_change_4 : cX0_change.data.toList.drop 82 = dktX0_change_4 := dk_seg dksX0_change_3 24 rfl rfl
theorem dksX0_change_5 : cX0_change.data.toList.drop 104 = dktX0_change_5 := dk_seg dksX0_change_4 22 rfl rfl
theorem dksX0_change_6 : cX0_change.data.toList.drop 127 = dktX0_change_6 := dk_seg dksX0_change_5 23 rfl rfl
theorem dksX0_change_7 : cX0_change.data.toList.drop 151 = dktX0_change_7 := dk_seg dksX0_change_6 24 rfl rfl
theorem dksX0_change_8 : cX0_change.data.toList.drop 175 = dktX0_change_8 := dk_seg dksX0_change_7 24 rfl rfl
theorem dksX0_change_9 : cX0_change.data.toList.drop 199 = dktX0_change_9 := dk_seg dksX0_change_8 24 rfl rfl
theorem dX0_change_0 : decode cX0_change 0 = .ok (.iload_n 1, 1) := dk_27 (dk_at dksX0_change_0 0 rfl rfl)
theorem dX0_change_1 : decode cX0_change 1 = .ok (.tableswitch 170 0 4 #[35, 70, 109, 140, 156], 35) := by decide +kernel
theorem dX0_change_36 : decode cX0_change 36 = .ok (.aload_n 0, 1) := dk_42 (dk_at dksX0_change_2 0 rfl rfl)
theorem dX0_change_37 : decode cX0_change 37 = .ok (.getfield 55, 3) := dk_180 0 55 (dk_at dksX0_change_2 1 rfl rfl)
theorem dX0_change_40 : decode cX0_change 40 = .ok (.iload_n 2, 1) := dk_28 (dk_at dksX0_change_2 4 rfl rfl)
theorem dX0_change_41 : decode cX0_change 41 = .ok (.aaload, 1) := dk_50 (dk_at dksX0_change_2 5 rfl rfl)
theorem dX0_change_42 : decode cX0_change 42 = .ok (.iload_n 3, 1) := dk_29 (dk_at dksX0_change_2 6 rfl rfl)
theorem dX0_change_43 : decode cX0_change 43 = .ok (.putfield 192, 3) := dk_181 0 192 (dk_at dksX0_change_2 7 rfl rfl)
theorem dX0_change_46 : decode cX0_change 46 = .ok (.aload_n 0, 1) := dk_42 (dk_at dksX0_change_2 10 rfl rfl)
theorem dX0_change_47 : decode cX0_change 47 = .ok (.getfield 55, 3) := dk_180 0 55 (dk_at dksX0_change_2 11 rfl rfl)
theorem dX0_change_50 : decode cX0_change 50 = .ok (.iload_n 2, 1) := dk_28 (dk_at dksX0_change_2 14 rfl rfl)
theorem dX0_change_51 : decode cX0_change 51 = .ok (.aaload, 1) := dk_50 (dk_at dksX0_change_2 15 rfl rfl)
theorem dX0_change_52 : decode cX0_change 52 = .ok (.iload 4, 2) := dk_21 4 (dk_at dksX0_change_2 16 rfl rfl)
theorem dX0_change_54 : decode cX0_change 54 = .ok (.putfield 195, 3) := dk_181 0 195 (dk_at dksX0_change_2 18 rfl rfl)
theorem dX0_change_57 : decode cX0_change 57 = .ok (.aload_n 0, 1) := dk_42 (dk_at dksX0_change_2 21 rfl rfl)
theorem dX0_change_58 : decode cX0_change 58 = .ok (.getfield 55, 3) := dk_180 0 55 (dk_at dksX0_change_3 0 rfl rfl)
theorem dX0_change_61 : decode cX0_change 61 = .ok (.iload_n 2, 1) := dk_28 (dk_at dksX0_change_3 3 rfl rfl)
theorem dX0_change_62 : decode cX0_change 62 = .ok (.aaload, 1) := dk_50 (dk_at dksX0_change_3 4 rfl rfl)
theorem dX0_change_63 : decode cX0_change 63 = .ok (.iload 5, 2) := dk_21 5 (dk_at dksX0_change_3 5 rfl rfl)
theorem dX0_change_65 : decode cX0_change 65 = .ok (.putfield 198, 3) := dk_181 0 198 (dk_at dksX0_change_3 7 rfl rfl)
theorem dX0_change_68 : decode cX0_change 68 = .ok (.goto 137, 3) := dk_167 0 137 (dk_at dksX0_change_3 10 rfl rfl)
theorem dX0_change_71 : decode cX0_change 71 = .ok (.aload_n 0, 1) := dk_42 (dk_at dksX0_change_3 13 rfl rfl)
theorem dX0_change_72 : decode cX0_change 72 = .ok (.getfield 55, 3) := dk_180 0 55 (dk_at dksX0_change_3 14 rfl rfl)
theorem dX0_change_75 : decode cX0_change 75 = .ok (.iload_n 2, 1) := dk_28 (dk_at dksX0_change_3 17 rfl rfl)
theorem dX0_change_76 : decode cX0_change 76 = .ok (.aaload, 1) := dk_50 (dk_at dksX0_change_3 18 rfl rfl)
theorem dX0_change_77 : decode cX0_change 77 = .ok (.iload 5, 2) := dk_21 5 (dk_at dksX0_change_3 19 rfl rfl)
theorem dX0_change_79 : decode cX0_change 79 = .ok (.putfield 201, 3) := dk_181 0 201 (dk_at dksX0_change_3 21 rfl rfl)
theorem dX0_change_82 : decode cX0_change 82 = .ok (.aload_n 0, 1) := dk_42 (dk_at dksX0_change_4 0 rfl rfl)
theorem dX0_change_83 : decode cX0_change 83 = .ok (.getfield 55, 3) := dk_180 0 55 (dk_at dksX0_change_4 1 rfl rfl)
theorem dX0_change_86 : decode cX0_change 86 = .ok (.iload_n 2, 1) := dk_28 (dk_at dksX0_change_4 4 rfl rfl)
theorem dX0_change_87 : decode cX0_change 87 = .ok (.aaload, 1) := dk_50 (dk_at dksX0_change_4 5 rfl rfl)
theorem dX0_change_88 : decode cX0_change 88 = .ok (.iload 5, 2) := dk_21 5 (dk_at dksX0_change_4 6 rfl rfl)
theorem dX0_change_90 : decode cX0_change 90 = .ok (.ifCond .eq 10, 3) := dk_153 0 10 (dk_at dksX0_change_4 8 rfl rfl)
theorem dX0_change_93 : decode cX0_change 93 = .ok (.iconst 4, 1) := dk_7 (dk_at dksX0_change_4 11 rfl rfl)
theorem dX0_change_94 : decode cX0_change 94 = .ok (.anewarray 5, 3) := dk_189 0 5 (dk_at dksX0_change_4 12 rfl rfl)
theorem dX0_change_97 : decode cX0_change 97 = .ok (.goto 7, 3) := dk_167 0 7 (dk_at dksX0_change_4 15 rfl rfl)
theorem dX0_change_100 : decode cX0_change 100 = .ok (.iconst 4, 1) := dk_7 (dk_at dksX0_change_4 18 rfl rfl)
theorem dX0_change_101 : decode cX0_change 101 = .ok (.anewarray 47, 3) := dk_189 0 47 (dk_at dksX0_change_4 19 rfl rfl)
theorem dX0_change_104 : decode cX0_change 104 = .ok (.putfield 204, 3) := dk_181 0 204 (dk_at dksX0_change_5 0 rfl rfl)
theorem dX0_change_107 : decode cX0_change 107 = .ok (.goto 98, 3) := dk_167 0 98 (dk_at dksX0_change_5 3 rfl rfl)
theorem dX0_change_110 : decode cX0_change 110 = .ok (.aload_n 0, 1) := dk_42 (dk_at dksX0_change_5 6 rfl rfl)
theorem dX0_change_111 : decode cX0_change 111 = .ok (.getfield 55, 3) := dk_180 0 55 (dk_at dksX0_change_5 7 rfl rfl)
theorem dX0_change_114 : decode cX0_change 114 = .ok (.iload_n 2, 1) := dk_28 (dk_at dksX0_change_5 10 rfl rfl)
theorem dX0_change_115 : decode cX0_change 115 = .ok (.aaload, 1) := dk_50 (dk_at dksX0_change_5 11 rfl rfl)
theorem dX0_change_116 : decode cX0_change 116 = .ok (.getfield 204, 3) := dk_180 0 204 (dk_at dksX0_change_5 12 rfl rfl)
theorem dX0_change_119 : decode cX0_change 119 = .ok (.iload_n 3, 1) := dk_29 (dk_at dksX0_change_5 15 rfl rfl)
theorem dX0_change_120 : decode cX0_change 120 = .ok (.iload 4, 2) := dk_21 4 (dk_at dksX0_change_5 16 rfl rfl)
theorem dX0_change_122 : decode cX0_change 122 = .ok (.iconst (-1), 1) := dk_2 (dk_at dksX0_change_5 18 rfl rfl)
theorem dX0_change_123 : decode cX0_change 123 = .ok (.if_icmp .ne 7, 3) := dk_160 0 7 (dk_at dksX0_change_5 19 rfl rfl)
theorem dX0_change_126 : decode cX0_change 126 = .ok (.aconst_null, 1) := dk_1 (dk_at dksX0_change_5 22 rfl rfl)
theorem dX0_change_127 : decode cX0_change 127 = .ok (.goto 10, 3) := dk_167 0 10 (dk_at dksX0_change_6 0 rfl rfl)
theorem dX0_change_130 : decode cX0_change 130 = .ok (.aload_n 0, 1) := dk_42 (dk_at dksX0_change_6 3 rfl rfl)
theorem dX0_change_131 : decode cX0_change 131 = .ok (.getfield 49, 3) := dk_180 0 49 (dk_at dksX0_change_6 4 rfl rfl)
theorem dX0_change_134 : decode cX0_change 134 = .ok (.iload 4, 2) := dk_21 4 (dk_at dksX0_change_6 7 rfl rfl)
theorem dX0_change_136 : decode cX0_change 136 = .ok (.aaload, 1) := dk_50 (dk_at dksX0_change_6 9 rfl rfl)
theorem dX0_change_137 : decode cX0_change 137 = .ok (.aastore, 1) := dk_83 (dk_at dksX0_change_6 10 rfl rfl)
theorem dX0_change_138 : decode cX0_change 138 = .ok (.goto 67, 3) := dk_167 0 67 (dk_at dksX0_change_6 11 rfl rfl)
theorem dX0_change_141 : decode cX0_change 141 = .ok (.aload_n 0, 1) := dk_42 (dk_at dksX0_change_6 14 rfl rfl)
theorem dX0_change_142 : decode cX0_change 142 = .ok (.getfield 55, 3) := dk_180 0 55 (dk_at dksX0_change_6 15 rfl rfl)
theorem dX0_change_145 : decode cX0_change 145 = .ok (.iload_n 2, 1) := dk_28 (dk_at dksX0_change_6 18 rfl rfl)
theorem dX0_change_146 : decode cX0_change 146 = .ok (.aaload, 1) := dk_50 (dk_at dksX0_change_6 19 rfl rfl)
theorem dX0_change_147 : decode cX0_change 147 = .ok (.iload_n 3, 1) := dk_29 (dk_at dksX0_change_6 20 rfl rfl)
theorem dX0_change_148 : decode cX0_change 148 = .ok (.invokestatic 136, 3) := dk_184 0 136 (dk_at dksX0_change_6 21 rfl rfl)
theorem dX0_change_151 : decode cX0_change 151 = .ok (.putfield 207, 3) := dk_181 0 207 (dk_at dksX0_change_7 0 rfl rfl)
theorem dX0_change_154 : decode cX0_change 154 = .ok (.goto 51, 3) := dk_167 0 51 (dk_at dksX0_change_7 3 rfl rfl)
theorem dX0_change_157 : decode cX0_change 157 = .ok (.aload_n 0, 1) := dk_42 (dk_at dksX0_change_7 6 rfl rfl)
theorem dX0_change_158 : decode cX0_change 158 = .ok (.getfield 55, 3) := dk_180 0 55 (dk_at dksX0_change_7 7 rfl rfl)
theorem dX0_change_161 : decode cX0_change 161 = .ok (.iload_n 2, 1) := dk_28 (dk_at dksX0_change_7 10 rfl rfl)
theorem dX0_change_162 : decode cX0_change 162 = .ok (.aaload, 1) := dk_50 (dk_at dksX0_change_7 11 rfl rfl)
theorem dX0_change_163 : decode cX0_change 163 = .ok (.iload 5, 2) := dk_21 5 (dk_at dksX0_change_7 12 rfl rfl)
theorem dX0_change_165 : decode cX0_change 165 = .ok (.putfield 211, 3) := dk_181 0 211 (dk_at dksX0_change_7 14 rfl rfl)
theorem dX0_change_168 : decode cX0_change 168 = .ok (.goto 37, 3) := dk_167 0 37 (dk_at dksX0_change_7 17 rfl rfl)
theorem dX0_change_171 : decode cX0_change 171 = .ok (.aload_n 0, 1) := dk_42 (dk_at dksX0_change_7 20 rfl rfl)
theorem dX0_change_172 : decode cX0_change 172 = .ok (.getfield 49, 3) := dk_180 0 49 (dk_at dksX0_change_7 21 rfl rfl)
theorem dX0_change_175 : decode cX0_change 175 = .ok (.iload_n 2, 1) := dk_28 (dk_at dksX0_change_8 0 rfl rfl)
theorem dX0_change_176 : decode cX0_change 176 = .ok (.aaload, 1) := dk_50 (dk_at dksX0_change_8 1 rfl rfl)
theorem dX0_change_177 : decode cX0_change 177 = .ok (.checkcast 20, 3) := dk_192 0 20 (dk_at dksX0_change_8 2 rfl rfl)
theorem dX0_change_180 : decode cX0_change 180 = .ok (.astore 6, 2) := dk_58 6 (dk_at dksX0_change_8 5 rfl rfl)
theorem dX0_change_182 : decode cX0_change 182 = .ok (.aload 6, 2) := dk_25 6 (dk_at dksX0_change_8 7 rfl rfl)
theorem dX0_change_184 : decode cX0_change 184 = .ok (.iload_n 3, 1) := dk_29 (dk_at dksX0_change_8 9 rfl rfl)
theorem dX0_change_185 : decode cX0_change 185 = .ok (.iconst (-1), 1) := dk_2 (dk_at dksX0_change_8 10 rfl rfl)
theorem dX0_change_186 : decode cX0_change 186 = .ok (.if_icmp .ne 7, 3) := dk_160 0 7 (dk_at dksX0_change_8 11 rfl rfl)
theorem dX0_change_189 : decode cX0_change 189 = .ok (.aconst_null, 1) := dk_1 (dk_at dksX0_change_8 14 rfl rfl)
theorem dX0_change_190 : decode cX0_change 190 = .ok (.goto 6, 3) := dk_167 0 6 (dk_at dksX0_change_8 15 rfl rfl)
theorem dX0_change_193 : decode cX0_change 193 = .ok (.iload_n 3, 1) := dk_29 (dk_at dksX0_change_8 18 rfl rfl)
theorem dX0_change_194 : decode cX0_change 194 = .ok (.newarray .float, 2) := dk_188_6 (dk_at dksX0_change_8 19 rfl rfl)
theorem dX0_change_196 : decode cX0_change 196 = .ok (.putfield 154, 3) := dk_181 0 154 (dk_at dksX0_change_8 21 rfl rfl)
theorem dX0_change_199 : decode cX0_change 199 = .ok (.aload 6, 2) := dk_25 6 (dk_at dksX0_change_9 0 rfl rfl)
theorem dX0_change_201 : decode cX0_change 201 = .ok (.iconst 0, 1) := dk_3 (dk_at dksX0_change_9 2 rfl rfl)
theorem dX0_change_202 : decode cX0_change 202 = .ok (.putfield 151, 3) := dk_181 0 151 (dk_at dksX0_change_9 3 rfl rfl)
theorem dX0_change_205 : decode cX0_change 205 = .ok (.return_, 1) := dk_177 (dk_at dksX0_change_9 6 rfl rfl)
abbrev cX0_pure : ByteArray := prog_1_method_23_code
def yX0_pure : MethodName := ⟨RX0, "pure", "(IZ)I"⟩
def dkwX0_pure_0 : List UInt8 := [27, 184, 0, 214, 153, 0, 15, 42, 4, 27, 3, 3, 28, 182, 0, 217, 167, 0, 5, 16, 155, 172]
abbrev dktX0_pure_0 : List UInt8 := dkwX0_pure_0 ++ []
theorem dksX0_pure_0 : cX0_pure.data.toList.drop 0 = dktX0_pure_0 := by decide +kernel
theorem dX0_pure_0 : decode cX0_pure 0 = .ok (.iload_n 1, 1) := dk_27 (dk_at dksX0_pure_0 0 rfl rfl)
theorem dX0_pure_1 : decode cX0_pure 1 = .ok (.invokestatic 214, 3) := dk_184 0 214 (dk_at dksX0_pure_0 1 rfl rfl)
theorem dX0_pure_4 : decode cX0_pure 4 = .ok (.ifCond .eq 15, 3) := dk_153 0 15 (dk_at dksX0_pure_0 4 rfl rfl)
theorem dX0_pure_7 : decode cX0_pure 7 = .ok (.aload_n 0, 1) := dk_42 (dk_at dksX0_pure_0 7 rfl rfl)
theorem dX0_pure_8 : decode cX0_pure 8 = .ok (.iconst 1, 1) := dk_4 (dk_at dksX0_pure_0 8 rfl rfl)
theorem dX0_pure_9 : decode cX0_pure 9 = .ok (.iload_n 1, 1) := dk_27 (dk_at dksX0_pure_0 9 rfl rfl)
theorem dX0_pure_10 : decode cX0_pure 10 = .ok (.iconst 0, 1) := dk_3 (dk_at dksX0_pure_0 10 rfl rfl)
theorem dX0_pure_11 : decode cX0_pure 11 = .ok (.iconst 0, 1) := dk_3 (dk_at dksX0_pure_0 11 rfl rfl)
theorem dX0_pure_12 : decode cX0_pure 12 = .ok (.iload_n 2, 1) := dk_28 (dk_at dksX0_pure_0 12 rfl rfl)
theorem dX0_pure_13 : decode cX0_pure 13 = .ok (.invokevirtual 217, 3) := dk_182 0 217 (dk_at dksX0_pure_0 13 rfl rfl)
theorem dX0_pure_16 : decode cX0_pure 16 = .ok (.goto 5, 3) := dk_167 0 5 (dk_at dksX0_pure_0 16 rfl rfl)
theorem dX0_pure_19 : decode cX0_pure 19 = .ok (.bipush (-101), 2) := dk_16 155 (dk_at dksX0_pure_0 19 rfl rfl)
theorem dX0_pure_21 : decode cX0_pure 21 = .ok (.ireturn, 1) := dk_172 (dk_at dksX0_pure_0 21 rfl rfl)
abbrev cX0_chain : ByteArray := prog_1_method_24_code
def yX0_chain : MethodName := ⟨RX0, "chain", "(III)I"⟩
def dkwX0_chain_1 : List UInt8 := [29, 3, 182, 0, 217, 167, 0, 5, 16, 155, 172]
abbrev dktX0_chain_1 : List UInt8 := dkwX0_chain_1 ++ []
def dkwX0_chain_0 : List UInt8 := [27, 184, 0, 214, 153, 0, 28, 29, 2, 159, 0, 11, 42, 29, 182, 0, 157, 153, 0, 15, 42, 5, 27, 28]
abbrev dktX0_chain_0 : List UInt8 := dkwX0_chain_0 ++ dktX0_chain_1
theorem dksX0_chain_0 : cX0_chain.data.toList.drop 0 = dktX0_chain_0 := by decide +kernel
theorem dksX0_chain_1 : cX0_chain.data.toList.drop 24 = dktX0_chain_1 := dk_seg dksX0_chain_0 24 rfl rfl
theorem dX0_chain_0 : decode cX0_chain 0 = .ok (.iload_n 1, 1) := dk_27 (dk_at dksX0_chain_0 0 rfl rfl)
theorem dX0_chain_1 : decode cX0_chain 1 = .ok (.invokestatic 214, 3) := dk_184 0 214 (dk_at dksX0_chain_0 1 rfl rfl)
theorem dX0_chain_4 : decode cX0_chain 4 = .ok (.ifCond .eq 28, 3) := dk_153 0 28 (dk_at dksX0_chain_0 4 rfl rfl)
theorem dX0_chain_7 : decode cX0_chain 7 = .ok (.iload_n 3, 1) := dk_29 (dk_at dksX0_chain_0 7 rfl rfl)
theorem dX0_chain_8 : decode cX0_chain 8 = .ok (.iconst (-1), 1) := dk_2 (dk_at dksX0_chain_0 8 rfl rfl)
theorem dX0_chain_9 : decode cX0_chain 9 = .ok (.if_icmp .eq 11, 3) := dk_159 0 11 (dk_at dksX0_chain_0 9 rfl rfl)
theorem dX0_chain_12 : decode cX0_chain 12 = .ok (.aload_n 0, 1) := dk_42 (dk_at dksX0_chain_0 12 rfl rfl)
theorem dX0_chain_13 : decode cX0_chain 13 = .ok (.iload_n 3, 1) := dk_29 (dk_at dksX0_chain_0 13 rfl rfl)
theorem dX0_chain_14 : decode cX0_chain 14 = .ok (.invokevirtual 157, 3) := dk_182 0 157 (dk_at dksX0_chain_0 14 rfl rfl)
theorem dX0_chain_17 : decode cX0_chain 17 = .ok (.ifCond .eq 15, 3) := dk_153 0 15 (dk_at dksX0_chain_0 17 rfl rfl)
theorem dX0_chain_20 : decode cX0_chain 20 = .ok (.aload_n 0, 1) := dk_42 (dk_at dksX0_chain_0 20 rfl rfl)
theorem dX0_chain_21 : decode cX0_chain 21 = .ok (.iconst 2, 1) := dk_5 (dk_at dksX0_chain_0 21 rfl rfl)
theorem dX0_chain_22 : decode cX0_chain 22 = .ok (.iload_n 1, 1) := dk_27 (dk_at dksX0_chain_0 22 rfl rfl)
theorem dX0_chain_23 : decode cX0_chain 23 = .ok (.iload_n 2, 1) := dk_28 (dk_at dksX0_chain_0 23 rfl rfl)
theorem dX0_chain_24 : decode cX0_chain 24 = .ok (.iload_n 3, 1) := dk_29 (dk_at dksX0_chain_1 0 rfl rfl)
theorem dX0_chain_25 : decode cX0_chain 25 = .ok (.iconst 0, 1) := dk_3 (dk_at dksX0_chain_1 1 rfl rfl)
theorem dX0_chain_26 : decode cX0_chain 26 = .ok (.invokevirtual 217, 3) := dk_182 0 217 (dk_at dksX0_chain_1 2 rfl rfl)
theorem dX0_chain_29 : decode cX0_chain 29 = .ok (.goto 5, 3) := dk_167 0 5 (dk_at dksX0_chain_1 5 rfl rfl)
theorem dX0_chain_32 : decode cX0_chain 32 = .ok (.bipush (-101), 2) := dk_16 155 (dk_at dksX0_chain_1 8 rfl rfl)
theorem dX0_chain_34 : decode cX0_chain 34 = .ok (.ireturn, 1) := dk_172 (dk_at dksX0_chain_1 10 rfl rfl)
abbrev cX0_level : ByteArray := prog_1_method_25_code
def yX0_level : MethodName := ⟨RX0, "level", "(II)I"⟩
def dkwX0_level_1 : List UInt8 := [182, 0, 217, 167, 0, 5, 16, 154, 172]
abbrev dktX0_level_1 : List UInt8 := dkwX0_level_1 ++ []
def dkwX0_level_0 : List UInt8 := [27, 184, 0, 214, 154, 0, 6, 16, 155, 172, 28, 11, 184, 0, 139, 153, 0, 15, 42, 6, 27, 28, 3, 3]
abbrev dktX0_level_0 : List UInt8 := dkwX0_level_0 ++ dktX0_level_1
theorem dksX0_level_0 : cX0_level.data.toList.drop 0 = dktX0_level_0 := by decide +kernel
theorem dksX0_level_1 : cX0_level.data.toList.drop 24 = dktX0_level_1 := dk_seg dksX0_level_0 24 rfl rfl
theorem dX0_level_0 : decode cX0_level 0 = .ok (.iload_n 1, 1) := dk_27 (dk_at dksX0_level_0 0 rfl rfl)
theorem dX0_level_1 : decode cX0_level 1 = .ok (.invokestatic 214, 3) := dk_184 0 214 (dk_at dksX0_level_0 1 rfl rfl)
theorem dX0_level_4 : decode cX0_level 4 = .ok (.ifCond .ne 6, 3) := dk_154 0 6 (dk_at dksX0_level_0 4 rfl rfl)
theorem dX0_level_7 : decode cX0_level 7 = .ok (.bipush (-101), 2) := dk_16 155 (dk_at dksX0_level_0 7 rfl rfl)
theorem dX0_level_9 : decode cX0_level 9 = .ok (.ireturn, 1) := dk_172 (dk_at dksX0_level_0 9 rfl rfl)
theorem dX0_level_10 : decode cX0_level 10 = .ok (.iload_n 2, 1) := dk_28 (dk_at dksX0_level_0 10 rfl rfl)
theorem dX0_level_11 : decode cX0_level 11 = .ok (.fconst 0, 1) := dk_11 (dk_at dksX0_level_0 11 rfl rfl)
theorem dX0_level_12 : decode cX0_level 12 = .ok (.invokestatic 139, 3) := dk_184 0 139 (dk_at dksX0_level_0 12 rfl rfl)
theorem dX0_level_15 : decode cX0_level 15 = .ok (.ifCond .eq 15, 3) := dk_153 0 15 (dk_at dksX0_level_0 15 rfl rfl)
theorem dX0_level_18 : decode cX0_level 18 = .ok (.aload_n 0, 1) := dk_42 (dk_at dksX0_level_0 18 rfl rfl)
theorem dX0_level_19 : decode cX0_level 19 = .ok (.iconst 3, 1) := dk_6 (dk_at dksX0_level_0 19 rfl rfl)
theorem dX0_level_20 : decode cX0_level 20 = .ok (.iload_n 1, 1) := dk_27 (dk_at dksX0_level_0 20 rfl rfl)
theorem dX0_level_21 : decode cX0_level 21 = .ok (.iload_n 2, 1) := dk_28 (dk_at dksX0_level_0 21 rfl rfl)
theorem dX0_level_22 : decode cX0_level 22 = .ok (.iconst 0, 1) := dk_3 (dk_at dksX0_level_0 22 rfl rfl)
theorem dX0_level_23 : decode cX0_level 23 = .ok (.iconst 0, 1) := dk_3 (dk_at dksX0_level_0 23 rfl rfl)
theorem dX0_level_24 : decode cX0_level 24 = .ok (.invokevirtual 217, 3) := dk_182 0 217 (dk_at dksX0_level_1 0 rfl rfl)
theorem dX0_level_27 : decode cX0_level 27 = .ok (.goto 5, 3) := dk_167 0 5 (dk_at dksX0_level_1 3 rfl rfl)
theorem dX0_level_30 : decode cX0_level 30 = .ok (.bipush (-102), 2) := dk_16 154 (dk_at dksX0_level_1 6 rfl rfl)
theorem dX0_level_32 : decode cX0_level 32 = .ok (.ireturn, 1) := dk_172 (dk_at dksX0_level_1 8 rfl rfl)
abbrev cX0_on : ByteArray := prog_1_method_26_code
def yX0_on : MethodName := ⟨RX0, "on", "(IZ)I"⟩
def dkwX0_on_0 : List UInt8 := [27, 184, 0, 214, 153, 0, 15, 42, 7, 27, 3, 3, 28, 182, 0, 217, 167, 0, 5, 16, 155, 172]
abbrev dktX0_on_0 : List UInt8 := dkwX0_on_0 ++ []
theorem dksX0_on_0 : cX0_on.data.toList.drop 0 = dktX0_on_0 := by decide +kernel
theorem dX0_on_0 : decode cX0_on 0 = .ok (.iload_n 1, 1) := dk_27 (dk_at dksX0_on_0 0 rfl rfl)
theorem dX0_on_1 : decode cX0_on 1 = .ok (.invokestatic 214, 3) := dk_184 0 214 (dk_at dksX0_on_0 1 rfl rfl)
theorem dX0_on_4 : decode cX0_on 4 = .ok (.ifCond .eq 15, 3) := dk_153 0 15 (dk_at dksX0_on_0 4 rfl rfl)
theorem dX0_on_7 : decode cX0_on 7 = .ok (.aload_n 0, 1) := dk_42 (dk_at dksX0_on_0 7 rfl rfl)
theorem dX0_on_8 : decode cX0_on 8 = .ok (.iconst 4, 1) := dk_7 (dk_at dksX0_on_0 8 rfl rfl)
theorem dX0_on_9 : decode cX0_on 9 = .ok (.iload_n 1, 1) := dk_27 (dk_at dksX0_on_0 9 rfl rfl)
theorem dX0_on_10 : decode cX0_on 10 = .ok (.iconst 0, 1) := dk_3 (dk_at dksX0_on_0 10 rfl rfl)
theorem dX0_on_11 : decode cX0_on 11 = .ok (.iconst 0, 1) := dk_3 (dk_at dksX0_on_0 11 rfl rfl)
theorem dX0_on_12 : decode cX0_on 12 = .ok (.iload_n 2, 1) := dk_28 (dk_at dksX0_on_0 12 rfl rfl)
theorem dX0_on_13 : decode cX0_on 13 = .ok (.invokevirtual 217, 3) := dk_182 0 217 (dk_at dksX0_on_0 13 rfl rfl)
theorem dX0_on_16 : decode cX0_on 16 = .ok (.goto 5, 3) := dk_167 0 5 (dk_at dksX0_on_0 16 rfl rfl)
theorem dX0_on_19 : decode cX0_on 19 = .ok (.bipush (-101), 2) := dk_16 155 (dk_at dksX0_on_0 19 rfl rfl)
theorem dX0_on_21 : decode cX0_on 21 = .ok (.ireturn, 1) := dk_172 (dk_at dksX0_on_0 21 rfl rfl)
abbrev cX0_line : ByteArray := prog_1_method_27_code
def yX0_line : MethodName := ⟨RX0, "line", "(II)I"⟩
def dkwX0_line_1 : List UInt8 := [27, 28, 3, 3, 182, 0, 217, 172]
abbrev dktX0_line_1 : List UInt8 := dkwX0_line_1 ++ []
def dkwX0_line_0 : List UInt8 := [42, 27, 182, 0, 157, 154, 0, 6, 16, 155, 172, 28, 16, 16, 164, 0, 8, 16, 154, 167, 0, 12, 42, 8]
abbrev dktX0_line_0 : List UInt8 := dkwX0_line_0 ++ dktX0_line_1
theorem dksX0_line_0 : cX0_line.data.toList.drop 0 = dktX0_line_0 := by decide +kernel
theorem dksX0_line_1 : cX0_line.data.toList.drop 24 = dktX0_line_1 := dk_seg dksX0_line_0 24 rfl rfl
theorem dX0_line_0 : decode cX0_line 0 = .ok (.aload_n 0, 1) := dk_42 (dk_at dksX0_line_0 0 rfl rfl)
theorem dX0_line_1 : decode cX0_line 1 = .ok (.iload_n 1, 1) := dk_27 (dk_at dksX0_line_0 1 rfl rfl)
theorem dX0_line_2 : decode cX0_line 2 = .ok (.invokevirtual 157, 3) := dk_182 0 157 (dk_at dksX0_line_0 2 rfl rfl)
theorem dX0_line_5 : decode cX0_line 5 = .ok (.ifCond .ne 6, 3) := dk_154 0 6 (dk_at dksX0_line_0 5 rfl rfl)
theorem dX0_line_8 : decode cX0_line 8 = .ok (.bipush (-101), 2) := dk_16 155 (dk_at dksX0_line_0 8 rfl rfl)
theorem dX0_line_10 : decode cX0_line 10 = .ok (.ireturn, 1) := dk_172 (dk_at dksX0_line_0 10 rfl rfl)
theorem dX0_line_11 : decode cX0_line 11 = .ok (.iload_n 2, 1) := dk_28 (dk_at dksX0_line_0 11 rfl rfl)
theorem dX0_line_12 : decode cX0_line 12 = .ok (.bipush 16, 2) := dk_16 16 (dk_at dksX0_line_0 12 rfl rfl)
theorem dX0_line_14 : decode cX0_line 14 = .ok (.if_icmp .le 8, 3) := dk_164 0 8 (dk_at dksX0_line_0 14 rfl rfl)
theorem dX0_line_17 : decode cX0_line 17 = .ok (.bipush (-102), 2) := dk_16 154 (dk_at dksX0_line_0 17 rfl rfl)
theorem dX0_line_19 : decode cX0_line 19 = .ok (.goto 12, 3) := dk_167 0 12 (dk_at dksX0_line_0 19 rfl rfl)
theorem dX0_line_22 : decode cX0_line 22 = .ok (.aload_n 0, 1) := dk_42 (dk_at dksX0_line_0 22 rfl rfl)
theorem dX0_line_23 : decode cX0_line 23 = .ok (.iconst 5, 1) := dk_8 (dk_at dksX0_line_0 23 rfl rfl)
theorem dX0_line_24 : decode cX0_line 24 = .ok (.iload_n 1, 1) := dk_27 (dk_at dksX0_line_1 0 rfl rfl)
theorem dX0_line_25 : decode cX0_line 25 = .ok (.iload_n 2, 1) := dk_28 (dk_at dksX0_line_1 1 rfl rfl)
theorem dX0_line_26 : decode cX0_line 26 = .ok (.iconst 0, 1) := dk_3 (dk_at dksX0_line_1 2 rfl rfl)
theorem dX0_line_27 : decode cX0_line 27 = .ok (.iconst 0, 1) := dk_3 (dk_at dksX0_line_1 3 rfl rfl)
theorem dX0_line_28 : decode cX0_line 28 = .ok (.invokevirtual 217, 3) := dk_182 0 217 (dk_at dksX0_line_1 4 rfl rfl)
theorem dX0_line_31 : decode cX0_line 31 = .ok (.ireturn, 1) := dk_172 (dk_at dksX0_line_1 7 rfl rfl)
abbrev cX0_hire : ByteArray := prog_1_method_28_code
def yX0_hire : MethodName := ⟨RX0, "hire", "(I)I"⟩
def dkwX0_hire_1 : List UInt8 := [180, 0, 63, 61, 42, 27, 181, 0, 63, 28, 172]
abbrev dktX0_hire_1 : List UInt8 := dkwX0_hire_1 ++ []
def dkwX0_hire_0 : List UInt8 := [27, 4, 7, 184, 0, 81, 154, 0, 6, 16, 154, 172, 42, 180, 0, 111, 153, 0, 6, 16, 153, 172, 42]
abbrev dktX0_hire_0 : List UInt8 := dkwX0_hire_0 ++ dktX0_hire_1
theorem dksX0_hire_0 : cX0_hire.data.toList.drop 0 = dktX0_hire_0 := by decide +kernel
theorem dksX0_hire_1 : cX0_hire.data.toList.drop 23 = dktX0_hire_1 := dk_seg dksX0_hire_0 23 rfl rfl
theorem dX0_hire_0 : decode cX0_hire 0 = .ok (.iload_n 1, 1) := dk_27 (dk_at dksX0_hire_0 0 rfl rfl)
theorem dX0_hire_1 : decode cX0_hire 1 = .ok (.iconst 1, 1) := dk_4 (dk_at dksX0_hire_0 1 rfl rfl)
theorem dX0_hire_2 : decode cX0_hire 2 = .ok (.iconst 4, 1) := dk_7 (dk_at dksX0_hire_0 2 rfl rfl)
theorem dX0_hire_3 : decode cX0_hire 3 = .ok (.invokestatic 81, 3) := dk_184 0 81 (dk_at dksX0_hire_0 3 rfl rfl)
theorem dX0_hire_6 : decode cX0_hire 6 = .ok (.ifCond .ne 6, 3) := dk_154 0 6 (dk_at dksX0_hire_0 6 rfl rfl)
theorem dX0_hire_9 : decode cX0_hire 9 = .ok (.bipush (-102), 2) := dk_16 154 (dk_at dksX0_hire_0 9 rfl rfl)
theorem dX0_hire_11 : decode cX0_hire 11 = .ok (.ireturn, 1) := dk_172 (dk_at dksX0_hire_0 11 rfl rfl)
theorem dX0_hire_12 : decode cX0_hire 12 = .ok (.aload_n 0, 1) := dk_42 (dk_at dksX0_hire_0 12 rfl rfl)
theorem dX0_hire_13 : decode cX0_hire 13 = .ok (.getfield 111, 3) := dk_180 0 111 (dk_at dksX0_hire_0 13 rfl rfl)
theorem dX0_hire_16 : decode cX0_hire 16 = .ok (.ifCond .eq 6, 3) := dk_153 0 6 (dk_at dksX0_hire_0 16 rfl rfl)
theorem dX0_hire_19 : decode cX0_hire 19 = .ok (.bipush (-103), 2) := dk_16 153 (dk_at dksX0_hire_0 19 rfl rfl)
theorem dX0_hire_21 : decode cX0_hire 21 = .ok (.ireturn, 1) := dk_172 (dk_at dksX0_hire_0 21 rfl rfl)
theorem dX0_hire_22 : decode cX0_hire 22 = .ok (.aload_n 0, 1) := dk_42 (dk_at dksX0_hire_0 22 rfl rfl)
theorem dX0_hire_23 : decode cX0_hire 23 = .ok (.getfield 63, 3) := dk_180 0 63 (dk_at dksX0_hire_1 0 rfl rfl)
theorem dX0_hire_26 : decode cX0_hire 26 = .ok (.istore_n 2, 1) := dk_61 (dk_at dksX0_hire_1 3 rfl rfl)
theorem dX0_hire_27 : decode cX0_hire 27 = .ok (.aload_n 0, 1) := dk_42 (dk_at dksX0_hire_1 4 rfl rfl)
theorem dX0_hire_28 : decode cX0_hire 28 = .ok (.iload_n 1, 1) := dk_27 (dk_at dksX0_hire_1 5 rfl rfl)
theorem dX0_hire_29 : decode cX0_hire 29 = .ok (.putfield 63, 3) := dk_181 0 63 (dk_at dksX0_hire_1 6 rfl rfl)
theorem dX0_hire_32 : decode cX0_hire 32 = .ok (.iload_n 2, 1) := dk_28 (dk_at dksX0_hire_1 9 rfl rfl)
theorem dX0_hire_33 : decode cX0_hire 33 = .ok (.ireturn, 1) := dk_172 (dk_at dksX0_hire_1 10 rfl rfl)
abbrev cX0_render : ByteArray := prog_1_method_29_code
def yX0_render : MethodName := ⟨RX0, "render", "(I)I"⟩
def dkwX0_render_2 : List UInt8 := [27, 181, 0, 226, 42, 182, 0, 229, 42, 180, 0, 220, 172]
abbrev dktX0_render_2 : List UInt8 := dkwX0_render_2 ++ []
def dkwX0_render_1 : List UInt8 := [180, 0, 220, 27, 96, 16, 64, 164, 0, 6, 16, 152, 172, 42, 4, 181, 0, 111, 42, 3, 181, 0, 223, 42]
abbrev dktX0_render_1 : List UInt8 := dkwX0_render_1 ++ dktX0_render_2
def dkwX0_render_0 : List UInt8 := [27, 4, 16, 8, 184, 0, 81, 154, 0, 6, 16, 154, 172, 42, 180, 0, 111, 153, 0, 6, 16, 153, 172, 42]
abbrev dktX0_render_0 : List UInt8 := dkwX0_render_0 ++ dktX0_render_1
theorem dksX0_render_0 : cX0_render.data.toList.drop 0 = dktX0_render_0 := by decide +kernel
theorem dksX0_render_1 : cX0_render.data.toList.drop 24 = dktX0_render_1 := dk_seg dksX0_render_0 24 rfl rfl
theorem dksX0_render_2 : cX0_render.data.toList.drop 48 = dktX0_render_2 := dk_seg dksX0_render_1 24 rfl rfl
theorem dX0_render_0 : decode cX0_render 0 = .ok (.iload_n 1, 1) := dk_27 (dk_at dksX0_render_0 0 rfl rfl)
theorem dX0_render_1 : decode cX0_render 1 = .ok (.iconst 1, 1) := dk_4 (dk_at dksX0_render_0 1 rfl rfl)
theorem dX0_render_2 : decode cX0_render 2 = .ok (.bipush 8, 2) := dk_16 8 (dk_at dksX0_render_0 2 rfl rfl)
theorem dX0_render_4 : decode cX0_render 4 = .ok (.invokestatic 81, 3) := dk_184 0 81 (dk_at dksX0_render_0 4 rfl rfl)
theorem dX0_render_7 : decode cX0_render 7 = .ok (.ifCond .ne 6, 3) := dk_154 0 6 (dk_at dksX0_render_0 7 rfl rfl)
theorem dX0_render_10 : decode cX0_render 10 = .ok (.bipush (-102), 2) := dk_16 154 (dk_at dksX0_render_0 10 rfl rfl)
theorem dX0_render_12 : decode cX0_render 12 = .ok (.ireturn, 1) := dk_172 (dk_at dksX0_render_0 12 rfl rfl)
theorem dX0_render_13 : decode cX0_render 13 = .ok (.aload_n 0, 1) := dk_42 (dk_at dksX0_render_0 13 rfl rfl)
theorem dX0_render_14 : decode cX0_render 14 = .ok (.getfield 111, 3) := dk_180 0 111 (dk_at dksX0_render_0 14 rfl rfl)
theorem dX0_render_17 : decode cX0_render 17 = .ok (.ifCond .eq 6, 3) := dk_153 0 6 (dk_at dksX0_render_0 17 rfl rfl)
theorem dX0_render_20 : decode cX0_render 20 = .ok (.bipush (-103), 2) := dk_16 153 (dk_at dksX0_render_0 20 rfl rfl)
theorem dX0_render_22 : decode cX0_render 22 = .ok (.ireturn, 1) := dk_172 (dk_at dksX0_render_0 22 rfl rfl)
theorem dX0_render_23 : decode cX0_render 23 = .ok (.aload_n 0, 1) := dk_42 (dk_at dksX0_render_0 23 rfl rfl)
theorem dX0_render_24 : decode cX0_render 24 = .ok (.getfield 220, 3) := dk_180 0 220 (dk_at dksX0_render_1 0 rfl rfl)
theorem dX0_render_27 : decode cX0_render 27 = .ok (.iload_n 1, 1) := dk_27 (dk_at dksX0_render_1 3 rfl rfl)
theorem dX0_render_28 : decode cX0_render 28 = .ok (.iadd, 1) := dk_96 (dk_at dksX0_render_1 4 rfl rfl)
theorem dX0_render_29 : decode cX0_render 29 = .ok (.bipush 64, 2) := dk_16 64 (dk_at dksX0_render_1 5 rfl rfl)
theorem dX0_render_31 : decode cX0_render 31 = .ok (.if_icmp .le 6, 3) := dk_164 0 6 (dk_at dksX0_render_1 7 rfl rfl)
theorem dX0_render_34 : decode cX0_render 34 = .ok (.bipush (-104), 2) := dk_16 152 (dk_at dksX0_render_1 10 rfl rfl)
theorem dX0_render_36 : decode cX0_render 36 = .ok (.ireturn, 1) := dk_172 (dk_at dksX0_render_1 12 rfl rfl)
theorem dX0_render_37 : decode cX0_render 37 = .ok (.aload_n 0, 1) := dk_42 (dk_at dksX0_render_1 13 rfl rfl)
theorem dX0_render_38 : decode cX0_render 38 = .ok (.iconst 1, 1) := dk_4 (dk_at dksX0_render_1 14 rfl rfl)
theorem dX0_render_39 : decode cX0_render 39 = .ok (.putfield 111, 3) := dk_181 0 111 (dk_at dksX0_render_1 15 rfl rfl)
theorem dX0_render_42 : decode cX0_render 42 = .ok (.aload_n 0, 1) := dk_42 (dk_at dksX0_render_1 18 rfl rfl)
theorem dX0_render_43 : decode cX0_render 43 = .ok (.iconst 0, 1) := dk_3 (dk_at dksX0_render_1 19 rfl rfl)
theorem dX0_render_44 : decode cX0_render 44 = .ok (.putfield 223, 3) := dk_181 0 223 (dk_at dksX0_render_1 20 rfl rfl)
theorem dX0_render_47 : decode cX0_render 47 = .ok (.aload_n 0, 1) := dk_42 (dk_at dksX0_render_1 23 rfl rfl)
theorem dX0_render_48 : decode cX0_render 48 = .ok (.iload_n 1, 1) := dk_27 (dk_at dksX0_render_2 0 rfl rfl)
theorem dX0_render_49 : decode cX0_render 49 = .ok (.putfield 226, 3) := dk_181 0 226 (dk_at dksX0_render_2 1 rfl rfl)
theorem dX0_render_52 : decode cX0_render 52 = .ok (.aload_n 0, 1) := dk_42 (dk_at dksX0_render_2 4 rfl rfl)
theorem dX0_render_53 : decode cX0_render 53 = .ok (.invokevirtual 229, 3) := dk_182 0 229 (dk_at dksX0_render_2 5 rfl rfl)
theorem dX0_render_56 : decode cX0_render 56 = .ok (.aload_n 0, 1) := dk_42 (dk_at dksX0_render_2 8 rfl rfl)
theorem dX0_render_57 : decode cX0_render 57 = .ok (.getfield 220, 3) := dk_180 0 220 (dk_at dksX0_render_2 9 rfl rfl)
theorem dX0_render_60 : decode cX0_render 60 = .ok (.ireturn, 1) := dk_172 (dk_at dksX0_render_2 12 rfl rfl)
abbrev cX0_open : ByteArray := prog_1_method_30_code
def yX0_open : MethodName := ⟨RX0, "open", "()V"⟩
def dkwX0_open_1 : List UInt8 := [167, 0, 4, 3, 181, 0, 232, 44, 2, 181, 0, 235, 44, 3, 181, 0, 238, 132, 1, 1, 167, 255, 214, 177]
abbrev dktX0_open_1 : List UInt8 := dkwX0_open_1 ++ []
def dkwX0_open_0 : List UInt8 := [3, 60, 27, 16, 8, 162, 0, 42, 42, 180, 0, 55, 27, 50, 77, 44, 44, 180, 0, 211, 153, 0, 7, 4]
abbrev dktX0_open_0 : List UInt8 := dkwX0_open_0 ++ dktX0_open_1
theorem dksX0_open_0 : cX0_open.data.toList.drop 0 = dktX0_open_0 := by decide +kernel
theorem dksX0_open_1 : cX0_open.data.toList.drop 24 = dktX0_open_1 := dk_seg dksX0_open_0 24 rfl rfl
theorem dX0_open_0 : decode cX0_open 0 = .ok (.iconst 0, 1) := dk_3 (dk_at dksX0_open_0 0 rfl rfl)
theorem dX0_open_1 : decode cX0_open 1 = .ok (.istore_n 1, 1) := dk_60 (dk_at dksX0_open_0 1 rfl rfl)
theorem dX0_open_2 : decode cX0_open 2 = .ok (.iload_n 1, 1) := dk_27 (dk_at dksX0_open_0 2 rfl rfl)
theorem dX0_open_3 : decode cX0_open 3 = .ok (.bipush 8, 2) := dk_16 8 (dk_at dksX0_open_0 3 rfl rfl)
theorem dX0_open_5 : decode cX0_open 5 = .ok (.if_icmp .ge 42, 3) := dk_162 0 42 (dk_at dksX0_open_0 5 rfl rfl)
theorem dX0_open_8 : decode cX0_open 8 = .ok (.aload_n 0, 1) := dk_42 (dk_at dksX0_open_0 8 rfl rfl)
theorem dX0_open_9 : decode cX0_open 9 = .ok (.getfield 55, 3) := dk_180 0 55 (dk_at dksX0_open_0 9 rfl rfl)
theorem dX0_open_12 : decode cX0_open 12 = .ok (.iload_n 1, 1) := dk_27 (dk_at dksX0_open_0 12 rfl rfl)
theorem dX0_open_13 : decode cX0_open 13 = .ok (.aaload, 1) := dk_50 (dk_at dksX0_open_0 13 rfl rfl)
theorem dX0_open_14 : decode cX0_open 14 = .ok (.astore_n 2, 1) := dk_77 (dk_at dksX0_open_0 14 rfl rfl)
theorem dX0_open_15 : decode cX0_open 15 = .ok (.aload_n 2, 1) := dk_44 (dk_at dksX0_open_0 15 rfl rfl)
theorem dX0_open_16 : decode cX0_open 16 = .ok (.aload_n 2, 1) := dk_44 (dk_at dksX0_open_0 16 rfl rfl)
theorem dX0_open_17 : decode cX0_open 17 = .ok (.getfield 211, 3) := dk_180 0 211 (dk_at dksX0_open_0 17 rfl rfl)
theorem dX0_open_20 : decode cX0_open 20 = .ok (.ifCond .eq 7, 3) := dk_153 0 7 (dk_at dksX0_open_0 20 rfl rfl)
theorem dX0_open_23 : decode cX0_open 23 = .ok (.iconst 1, 1) := dk_4 (dk_at dksX0_open_0 23 rfl rfl)
theorem dX0_open_24 : decode cX0_open 24 = .ok (.goto 4, 3) := dk_167 0 4 (dk_at dksX0_open_1 0 rfl rfl)
theorem dX0_open_27 : decode cX0_open 27 = .ok (.iconst 0, 1) := dk_3 (dk_at dksX0_open_1 3 rfl rfl)
theorem dX0_open_28 : decode cX0_open 28 = .ok (.putfield 232, 3) := dk_181 0 232 (dk_at dksX0_open_1 4 rfl rfl)
theorem dX0_open_31 : decode cX0_open 31 = .ok (.aload_n 2, 1) := dk_44 (dk_at dksX0_open_1 7 rfl rfl)
theorem dX0_open_32 : decode cX0_open 32 = .ok (.iconst (-1), 1) := dk_2 (dk_at dksX0_open_1 8 rfl rfl)
theorem dX0_open_33 : decode cX0_open 33 = .ok (.putfield 235, 3) := dk_181 0 235 (dk_at dksX0_open_1 9 rfl rfl)
theorem dX0_open_36 : decode cX0_open 36 = .ok (.aload_n 2, 1) := dk_44 (dk_at dksX0_open_1 12 rfl rfl)
theorem dX0_open_37 : decode cX0_open 37 = .ok (.iconst 0, 1) := dk_3 (dk_at dksX0_open_1 13 rfl rfl)
theorem dX0_open_38 : decode cX0_open 38 = .ok (.putfield 238, 3) := dk_181 0 238 (dk_at dksX0_open_1 14 rfl rfl)
theorem dX0_open_41 : decode cX0_open 41 = .ok (.iinc 1 1, 3) := dk_132 1 1 (dk_at dksX0_open_1 17 rfl rfl)
theorem dX0_open_44 : decode cX0_open 44 = .ok (.goto (-42), 3) := dk_167 255 214 (dk_at dksX0_open_1 20 rfl rfl)
theorem dX0_open_47 : decode cX0_open 47 = .ok (.return_, 1) := dk_177 (dk_at dksX0_open_1 23 rfl rfl)
abbrev cX0_turn : ByteArray := prog_1_method_42_code
def yX0_turn : MethodName := ⟨RX0, "turn", "(I)I"⟩
def dkwX0_turn_1 : List UInt8 := [167, 0, 5, 16, 153, 172]
abbrev dktX0_turn_1 : List UInt8 := dkwX0_turn_1 ++ []
def dkwX0_turn_0 : List UInt8 := [42, 27, 182, 1, 61, 154, 0, 6, 16, 155, 172, 42, 180, 0, 111, 153, 0, 11, 42, 27, 182, 1, 64]
abbrev dktX0_turn_0 : List UInt8 := dkwX0_turn_0 ++ dktX0_turn_1
theorem dksX0_turn_0 : cX0_turn.data.toList.drop 0 = dktX0_turn_0 := by decide +kernel
theorem dksX0_turn_1 : cX0_turn.data.toList.drop 23 = dktX0_turn_1 := dk_seg dksX0_turn_0 23 rfl rfl
theorem dX0_turn_0 : decode cX0_turn 0 = .ok (.aload_n 0, 1) := dk_42 (dk_at dksX0_turn_0 0 rfl rfl)
theorem dX0_turn_1 : decode cX0_turn 1 = .ok (.iload_n 1, 1) := dk_27 (dk_at dksX0_turn_0 1 rfl rfl)
theorem dX0_turn_2 : decode cX0_turn 2 = .ok (.invokevirtual 317, 3) := dk_182 1 61 (dk_at dksX0_turn_0 2 rfl rfl)
theorem dX0_turn_5 : decode cX0_turn 5 = .ok (.ifCond .ne 6, 3) := dk_154 0 6 (dk_at dksX0_turn_0 5 rfl rfl)
theorem dX0_turn_8 : decode cX0_turn 8 = .ok (.bipush (-101), 2) := dk_16 155 (dk_at dksX0_turn_0 8 rfl rfl)
theorem dX0_turn_10 : decode cX0_turn 10 = .ok (.ireturn, 1) := dk_172 (dk_at dksX0_turn_0 10 rfl rfl)
theorem dX0_turn_11 : decode cX0_turn 11 = .ok (.aload_n 0, 1) := dk_42 (dk_at dksX0_turn_0 11 rfl rfl)
theorem dX0_turn_12 : decode cX0_turn 12 = .ok (.getfield 111, 3) := dk_180 0 111 (dk_at dksX0_turn_0 12 rfl rfl)
theorem dX0_turn_15 : decode cX0_turn 15 = .ok (.ifCond .eq 11, 3) := dk_153 0 11 (dk_at dksX0_turn_0 15 rfl rfl)
theorem dX0_turn_18 : decode cX0_turn 18 = .ok (.aload_n 0, 1) := dk_42 (dk_at dksX0_turn_0 18 rfl rfl)
theorem dX0_turn_19 : decode cX0_turn 19 = .ok (.iload_n 1, 1) := dk_27 (dk_at dksX0_turn_0 19 rfl rfl)
theorem dX0_turn_20 : decode cX0_turn 20 = .ok (.invokevirtual 320, 3) := dk_182 1 64 (dk_at dksX0_turn_0 20 rfl rfl)
theorem dX0_turn_23 : decode cX0_turn 23 = .ok (.goto 5, 3) := dk_167 0 5 (dk_at dksX0_turn_1 0 rfl rfl)
theorem dX0_turn_26 : decode cX0_turn 26 = .ok (.bipush (-103), 2) := dk_16 153 (dk_at dksX0_turn_1 3 rfl rfl)
theorem dX0_turn_28 : decode cX0_turn 28 = .ok (.ireturn, 1) := dk_172 (dk_at dksX0_turn_1 5 rfl rfl)
abbrev cX0_isWorker : ByteArray := prog_1_method_10_code
def yX0_isWorker : MethodName := ⟨RX0, "isWorker", "(I)Z"⟩
def dkwX0_isWorker_0 : List UInt8 := [27, 3, 42, 180, 0, 63, 4, 100, 184, 0, 81, 172]
abbrev dktX0_isWorker_0 : List UInt8 := dkwX0_isWorker_0 ++ []
theorem dksX0_isWorker_0 : cX0_isWorker.data.toList.drop 0 = dktX0_isWorker_0 := by decide +kernel
theorem dX0_isWorker_0 : decode cX0_isWorker 0 = .ok (.iload_n 1, 1) := dk_27 (dk_at dksX0_isWorker_0 0 rfl rfl)
theorem dX0_isWorker_1 : decode cX0_isWorker 1 = .ok (.iconst 0, 1) := dk_3 (dk_at dksX0_isWorker_0 1 rfl rfl)
theorem dX0_isWorker_2 : decode cX0_isWorker 2 = .ok (.aload_n 0, 1) := dk_42 (dk_at dksX0_isWorker_0 2 rfl rfl)
theorem dX0_isWorker_3 : decode cX0_isWorker 3 = .ok (.getfield 63, 3) := dk_180 0 63 (dk_at dksX0_isWorker_0 3 rfl rfl)
theorem dX0_isWorker_6 : decode cX0_isWorker 6 = .ok (.iconst 1, 1) := dk_4 (dk_at dksX0_isWorker_0 6 rfl rfl)
theorem dX0_isWorker_7 : decode cX0_isWorker 7 = .ok (.isub, 1) := dk_100 (dk_at dksX0_isWorker_0 7 rfl rfl)
theorem dX0_isWorker_8 : decode cX0_isWorker 8 = .ok (.invokestatic 81, 3) := dk_184 0 81 (dk_at dksX0_isWorker_0 8 rfl rfl)
theorem dX0_isWorker_11 : decode cX0_isWorker 11 = .ok (.ireturn, 1) := dk_172 (dk_at dksX0_isWorker_0 11 rfl rfl)
abbrev cX0_step : ByteArray := prog_1_method_33_code
def yX0_step : MethodName := ⟨RX0, "step", "(I)I"⟩
def dkwX0_step_4 : List UInt8 := [167, 0, 7, 42, 182, 1, 2, 172]
abbrev dktX0_step_4 : List UInt8 := dkwX0_step_4 ++ []
def dkwX0_step_3 : List UInt8 := [182, 0, 252, 172, 42, 7, 182, 0, 255, 61, 28, 16, 8, 162, 0, 12, 42, 27, 28, 182, 0, 248]
abbrev dktX0_step_3 : List UInt8 := dkwX0_step_3 ++ dktX0_step_4
def dkwX0_step_2 : List UInt8 := [28, 16, 8, 162, 0, 10, 42, 27, 28, 182, 0, 248, 172, 42, 5, 182, 0, 255, 16, 8, 162, 0, 8, 42]
abbrev dktX0_step_2 : List UInt8 := dkwX0_step_2 ++ dktX0_step_3
def dkwX0_step_1 : List UInt8 := [27, 42, 180, 0, 59, 27, 46, 182, 0, 248, 167, 0, 7, 42, 182, 0, 252, 172, 42, 4, 182, 0, 255, 61]
abbrev dktX0_step_1 : List UInt8 := dkwX0_step_1 ++ dktX0_step_2
def dkwX0_step_0 : List UInt8 := [42, 180, 0, 59, 27, 46, 2, 159, 0, 35, 42, 42, 180, 0, 59, 27, 46, 182, 0, 245, 153, 0, 17, 42]
abbrev dktX0_step_0 : List UInt8 := dkwX0_step_0 ++ dktX0_step_1
theorem dksX0_step_0 : cX0_step.data.toList.drop 0 = dktX0_step_0 := by decide +kernel
theorem dksX0_step_1 : cX0_step.data.toList.drop 24 = dktX0_step_1 := dk_seg dksX0_step_0 24 rfl rfl
theorem dksX0_step_2 : cX0_step.data.toList.drop 48 = dktX0_step_2 := dk_seg dksX0_step_1 24 rfl rfl
theorem dksX0_step_3 : cX0_step.data.toList.drop 72 = dktX0_step_3 := dk_seg dksX0_step_2 24 rfl rfl
theorem dksX0_step_4 : cX0_step.data.toList.drop 94 = dktX0_step_4 := dk_seg dksX0_step_3 22 rfl rfl
theorem dX0_step_0 : decode cX0_step 0 = .ok (.aload_n 0, 1) := dk_42 (dk_at dksX0_step_0 0 rfl rfl)
theorem dX0_step_1 : decode cX0_step 1 = .ok (.getfield 59, 3) := dk_180 0 59 (dk_at dksX0_step_0 1 rfl rfl)
theorem dX0_step_4 : decode cX0_step 4 = .ok (.iload_n 1, 1) := dk_27 (dk_at dksX0_step_0 4 rfl rfl)
theorem dX0_step_5 : decode cX0_step 5 = .ok (.iaload, 1) := dk_46 (dk_at dksX0_step_0 5 rfl rfl)
theorem dX0_step_6 : decode cX0_step 6 = .ok (.iconst (-1), 1) := dk_2 (dk_at dksX0_step_0 6 rfl rfl)
theorem dX0_step_7 : decode cX0_step 7 = .ok (.if_icmp .eq 35, 3) := dk_159 0 35 (dk_at dksX0_step_0 7 rfl rfl)
theorem dX0_step_10 : decode cX0_step 10 = .ok (.aload_n 0, 1) := dk_42 (dk_at dksX0_step_0 10 rfl rfl)
theorem dX0_step_11 : decode cX0_step 11 = .ok (.aload_n 0, 1) := dk_42 (dk_at dksX0_step_0 11 rfl rfl)
theorem dX0_step_12 : decode cX0_step 12 = .ok (.getfield 59, 3) := dk_180 0 59 (dk_at dksX0_step_0 12 rfl rfl)
theorem dX0_step_15 : decode cX0_step 15 = .ok (.iload_n 1, 1) := dk_27 (dk_at dksX0_step_0 15 rfl rfl)
theorem dX0_step_16 : decode cX0_step 16 = .ok (.iaload, 1) := dk_46 (dk_at dksX0_step_0 16 rfl rfl)
theorem dX0_step_17 : decode cX0_step 17 = .ok (.invokevirtual 245, 3) := dk_182 0 245 (dk_at dksX0_step_0 17 rfl rfl)
theorem dX0_step_20 : decode cX0_step 20 = .ok (.ifCond .eq 17, 3) := dk_153 0 17 (dk_at dksX0_step_0 20 rfl rfl)
theorem dX0_step_23 : decode cX0_step 23 = .ok (.aload_n 0, 1) := dk_42 (dk_at dksX0_step_0 23 rfl rfl)
theorem dX0_step_24 : decode cX0_step 24 = .ok (.iload_n 1, 1) := dk_27 (dk_at dksX0_step_1 0 rfl rfl)
theorem dX0_step_25 : decode cX0_step 25 = .ok (.aload_n 0, 1) := dk_42 (dk_at dksX0_step_1 1 rfl rfl)
theorem dX0_step_26 : decode cX0_step 26 = .ok (.getfield 59, 3) := dk_180 0 59 (dk_at dksX0_step_1 2 rfl rfl)
theorem dX0_step_29 : decode cX0_step 29 = .ok (.iload_n 1, 1) := dk_27 (dk_at dksX0_step_1 5 rfl rfl)
theorem dX0_step_30 : decode cX0_step 30 = .ok (.iaload, 1) := dk_46 (dk_at dksX0_step_1 6 rfl rfl)
theorem dX0_step_31 : decode cX0_step 31 = .ok (.invokevirtual 248, 3) := dk_182 0 248 (dk_at dksX0_step_1 7 rfl rfl)
theorem dX0_step_34 : decode cX0_step 34 = .ok (.goto 7, 3) := dk_167 0 7 (dk_at dksX0_step_1 10 rfl rfl)
theorem dX0_step_37 : decode cX0_step 37 = .ok (.aload_n 0, 1) := dk_42 (dk_at dksX0_step_1 13 rfl rfl)
theorem dX0_step_38 : decode cX0_step 38 = .ok (.invokevirtual 252, 3) := dk_182 0 252 (dk_at dksX0_step_1 14 rfl rfl)
theorem dX0_step_41 : decode cX0_step 41 = .ok (.ireturn, 1) := dk_172 (dk_at dksX0_step_1 17 rfl rfl)
theorem dX0_step_42 : decode cX0_step 42 = .ok (.aload_n 0, 1) := dk_42 (dk_at dksX0_step_1 18 rfl rfl)
theorem dX0_step_43 : decode cX0_step 43 = .ok (.iconst 1, 1) := dk_4 (dk_at dksX0_step_1 19 rfl rfl)
theorem dX0_step_44 : decode cX0_step 44 = .ok (.invokevirtual 255, 3) := dk_182 0 255 (dk_at dksX0_step_1 20 rfl rfl)
theorem dX0_step_47 : decode cX0_step 47 = .ok (.istore_n 2, 1) := dk_61 (dk_at dksX0_step_1 23 rfl rfl)
theorem dX0_step_48 : decode cX0_step 48 = .ok (.iload_n 2, 1) := dk_28 (dk_at dksX0_step_2 0 rfl rfl)
theorem dX0_step_49 : decode cX0_step 49 = .ok (.bipush 8, 2) := dk_16 8 (dk_at dksX0_step_2 1 rfl rfl)
theorem dX0_step_51 : decode cX0_step 51 = .ok (.if_icmp .ge 10, 3) := dk_162 0 10 (dk_at dksX0_step_2 3 rfl rfl)
theorem dX0_step_54 : decode cX0_step 54 = .ok (.aload_n 0, 1) := dk_42 (dk_at dksX0_step_2 6 rfl rfl)
theorem dX0_step_55 : decode cX0_step 55 = .ok (.iload_n 1, 1) := dk_27 (dk_at dksX0_step_2 7 rfl rfl)
theorem dX0_step_56 : decode cX0_step 56 = .ok (.iload_n 2, 1) := dk_28 (dk_at dksX0_step_2 8 rfl rfl)
theorem dX0_step_57 : decode cX0_step 57 = .ok (.invokevirtual 248, 3) := dk_182 0 248 (dk_at dksX0_step_2 9 rfl rfl)
theorem dX0_step_60 : decode cX0_step 60 = .ok (.ireturn, 1) := dk_172 (dk_at dksX0_step_2 12 rfl rfl)
theorem dX0_step_61 : decode cX0_step 61 = .ok (.aload_n 0, 1) := dk_42 (dk_at dksX0_step_2 13 rfl rfl)
theorem dX0_step_62 : decode cX0_step 62 = .ok (.iconst 2, 1) := dk_5 (dk_at dksX0_step_2 14 rfl rfl)
theorem dX0_step_63 : decode cX0_step 63 = .ok (.invokevirtual 255, 3) := dk_182 0 255 (dk_at dksX0_step_2 15 rfl rfl)
theorem dX0_step_66 : decode cX0_step 66 = .ok (.bipush 8, 2) := dk_16 8 (dk_at dksX0_step_2 18 rfl rfl)
theorem dX0_step_68 : decode cX0_step 68 = .ok (.if_icmp .ge 8, 3) := dk_162 0 8 (dk_at dksX0_step_2 20 rfl rfl)
theorem dX0_step_71 : decode cX0_step 71 = .ok (.aload_n 0, 1) := dk_42 (dk_at dksX0_step_2 23 rfl rfl)
theorem dX0_step_72 : decode cX0_step 72 = .ok (.invokevirtual 252, 3) := dk_182 0 252 (dk_at dksX0_step_3 0 rfl rfl)
theorem dX0_step_75 : decode cX0_step 75 = .ok (.ireturn, 1) := dk_172 (dk_at dksX0_step_3 3 rfl rfl)
theorem dX0_step_76 : decode cX0_step 76 = .ok (.aload_n 0, 1) := dk_42 (dk_at dksX0_step_3 4 rfl rfl)
theorem dX0_step_77 : decode cX0_step 77 = .ok (.iconst 4, 1) := dk_7 (dk_at dksX0_step_3 5 rfl rfl)
theorem dX0_step_78 : decode cX0_step 78 = .ok (.invokevirtual 255, 3) := dk_182 0 255 (dk_at dksX0_step_3 6 rfl rfl)
theorem dX0_step_81 : decode cX0_step 81 = .ok (.istore_n 2, 1) := dk_61 (dk_at dksX0_step_3 9 rfl rfl)
theorem dX0_step_82 : decode cX0_step 82 = .ok (.iload_n 2, 1) := dk_28 (dk_at dksX0_step_3 10 rfl rfl)
theorem dX0_step_83 : decode cX0_step 83 = .ok (.bipush 8, 2) := dk_16 8 (dk_at dksX0_step_3 11 rfl rfl)
theorem dX0_step_85 : decode cX0_step 85 = .ok (.if_icmp .ge 12, 3) := dk_162 0 12 (dk_at dksX0_step_3 13 rfl rfl)
theorem dX0_step_88 : decode cX0_step 88 = .ok (.aload_n 0, 1) := dk_42 (dk_at dksX0_step_3 16 rfl rfl)
theorem dX0_step_89 : decode cX0_step 89 = .ok (.iload_n 1, 1) := dk_27 (dk_at dksX0_step_3 17 rfl rfl)
theorem dX0_step_90 : decode cX0_step 90 = .ok (.iload_n 2, 1) := dk_28 (dk_at dksX0_step_3 18 rfl rfl)
theorem dX0_step_91 : decode cX0_step 91 = .ok (.invokevirtual 248, 3) := dk_182 0 248 (dk_at dksX0_step_3 19 rfl rfl)
theorem dX0_step_94 : decode cX0_step 94 = .ok (.goto 7, 3) := dk_167 0 7 (dk_at dksX0_step_4 0 rfl rfl)
theorem dX0_step_97 : decode cX0_step 97 = .ok (.aload_n 0, 1) := dk_42 (dk_at dksX0_step_4 3 rfl rfl)
theorem dX0_step_98 : decode cX0_step 98 = .ok (.invokevirtual 258, 3) := dk_182 1 2 (dk_at dksX0_step_4 4 rfl rfl)
theorem dX0_step_101 : decode cX0_step 101 = .ok (.ireturn, 1) := dk_172 (dk_at dksX0_step_4 7 rfl rfl)
abbrev cX0_mayGo : ByteArray := prog_1_method_32_code
def yX0_mayGo : MethodName := ⟨RX0, "mayGo", "(I)Z"⟩
def dkwX0_mayGo_3 : List UInt8 := [167, 0, 4, 3, 126, 62, 132, 4, 1, 167, 255, 203, 29, 172]
abbrev dktX0_mayGo_3 : List UInt8 := dkwX0_mayGo_3 ++ []
def dkwX0_mayGo_2 : List UInt8 := [159, 0, 12, 25, 5, 180, 0, 232, 5, 160, 0, 12, 25, 5, 44, 182, 0, 241, 154, 0, 7, 4]
abbrev dktX0_mayGo_2 : List UInt8 := dkwX0_mayGo_2 ++ dktX0_mayGo_3
def dkwX0_mayGo_1 : List UInt8 := [54, 4, 21, 4, 27, 162, 0, 53, 42, 180, 0, 55, 21, 4, 50, 58, 5, 29, 25, 5, 180, 0, 232, 4]
abbrev dktX0_mayGo_1 : List UInt8 := dkwX0_mayGo_1 ++ dktX0_mayGo_2
def dkwX0_mayGo_0 : List UInt8 := [42, 180, 0, 55, 27, 50, 180, 0, 204, 42, 180, 0, 55, 27, 50, 180, 0, 235, 50, 77, 4, 62, 3]
abbrev dktX0_mayGo_0 : List UInt8 := dkwX0_mayGo_0 ++ dktX0_mayGo_1
theorem dksX0_mayGo_0 : cX0_mayGo.data.toList.drop 0 = dktX0_mayGo_0 := by decide +kernel
theorem dksX0_mayGo_1 : cX0_mayGo.data.toList.drop 23 = dktX0_mayGo_1 := dk_seg dksX0_mayGo_0 23 rfl rfl
theorem dksX0_mayGo_2 : cX0_mayGo.data.toList.drop 47 = dktX0_mayGo_2 := dk_seg dksX0_mayGo_1 24 rfl rfl
theorem dksX0_mayGo_3 : cX0_mayGo.data.toList.drop 69 = dktX0_mayGo_3 := dk_seg dksX0_mayGo_2 22 rfl rfl
theorem dX0_mayGo_0 : decode cX0_mayGo 0 = .ok (.aload_n 0, 1) := dk_42 (dk_at dksX0_mayGo_0 0 rfl rfl)
theorem dX0_mayGo_1 : decode cX0_mayGo 1 = .ok (.getfield 55, 3) := dk_180 0 55 (dk_at dksX0_mayGo_0 1 rfl rfl)
theorem dX0_mayGo_4 : decode cX0_mayGo 4 = .ok (.iload_n 1, 1) := dk_27 (dk_at dksX0_mayGo_0 4 rfl rfl)
theorem dX0_mayGo_5 : decode cX0_mayGo 5 = .ok (.aaload, 1) := dk_50 (dk_at dksX0_mayGo_0 5 rfl rfl)
theorem dX0_mayGo_6 : decode cX0_mayGo 6 = .ok (.getfield 204, 3) := dk_180 0 204 (dk_at dksX0_mayGo_0 6 rfl rfl)
theorem dX0_mayGo_9 : decode cX0_mayGo 9 = .ok (.aload_n 0, 1) := dk_42 (dk_at dksX0_mayGo_0 9 rfl rfl)
theorem dX0_mayGo_10 : decode cX0_mayGo 10 = .ok (.getfield 55, 3) := dk_180 0 55 (dk_at dksX0_mayGo_0 10 rfl rfl)
theorem dX0_mayGo_13 : decode cX0_mayGo 13 = .ok (.iload_n 1, 1) := dk_27 (dk_at dksX0_mayGo_0 13 rfl rfl)
theorem dX0_mayGo_14 : decode cX0_mayGo 14 = .ok (.aaload, 1) := dk_50 (dk_at dksX0_mayGo_0 14 rfl rfl)
theorem dX0_mayGo_15 : decode cX0_mayGo 15 = .ok (.getfield 235, 3) := dk_180 0 235 (dk_at dksX0_mayGo_0 15 rfl rfl)
theorem dX0_mayGo_18 : decode cX0_mayGo 18 = .ok (.aaload, 1) := dk_50 (dk_at dksX0_mayGo_0 18 rfl rfl)
theorem dX0_mayGo_19 : decode cX0_mayGo 19 = .ok (.astore_n 2, 1) := dk_77 (dk_at dksX0_mayGo_0 19 rfl rfl)
theorem dX0_mayGo_20 : decode cX0_mayGo 20 = .ok (.iconst 1, 1) := dk_4 (dk_at dksX0_mayGo_0 20 rfl rfl)
theorem dX0_mayGo_21 : decode cX0_mayGo 21 = .ok (.istore_n 3, 1) := dk_62 (dk_at dksX0_mayGo_0 21 rfl rfl)
theorem dX0_mayGo_22 : decode cX0_mayGo 22 = .ok (.iconst 0, 1) := dk_3 (dk_at dksX0_mayGo_0 22 rfl rfl)
theorem dX0_mayGo_23 : decode cX0_mayGo 23 = .ok (.istore 4, 2) := dk_54 4 (dk_at dksX0_mayGo_1 0 rfl rfl)
theorem dX0_mayGo_25 : decode cX0_mayGo 25 = .ok (.iload 4, 2) := dk_21 4 (dk_at dksX0_mayGo_1 2 rfl rfl)
theorem dX0_mayGo_27 : decode cX0_mayGo 27 = .ok (.iload_n 1, 1) := dk_27 (dk_at dksX0_mayGo_1 4 rfl rfl)
theorem dX0_mayGo_28 : decode cX0_mayGo 28 = .ok (.if_icmp .ge 53, 3) := dk_162 0 53 (dk_at dksX0_mayGo_1 5 rfl rfl)
theorem dX0_mayGo_31 : decode cX0_mayGo 31 = .ok (.aload_n 0, 1) := dk_42 (dk_at dksX0_mayGo_1 8 rfl rfl)
theorem dX0_mayGo_32 : decode cX0_mayGo 32 = .ok (.getfield 55, 3) := dk_180 0 55 (dk_at dksX0_mayGo_1 9 rfl rfl)
theorem dX0_mayGo_35 : decode cX0_mayGo 35 = .ok (.iload 4, 2) := dk_21 4 (dk_at dksX0_mayGo_1 12 rfl rfl)
theorem dX0_mayGo_37 : decode cX0_mayGo 37 = .ok (.aaload, 1) := dk_50 (dk_at dksX0_mayGo_1 14 rfl rfl)
theorem dX0_mayGo_38 : decode cX0_mayGo 38 = .ok (.astore 5, 2) := dk_58 5 (dk_at dksX0_mayGo_1 15 rfl rfl)
theorem dX0_mayGo_40 : decode cX0_mayGo 40 = .ok (.iload_n 3, 1) := dk_29 (dk_at dksX0_mayGo_1 17 rfl rfl)
theorem dX0_mayGo_41 : decode cX0_mayGo 41 = .ok (.aload 5, 2) := dk_25 5 (dk_at dksX0_mayGo_1 18 rfl rfl)
theorem dX0_mayGo_43 : decode cX0_mayGo 43 = .ok (.getfield 232, 3) := dk_180 0 232 (dk_at dksX0_mayGo_1 20 rfl rfl)
theorem dX0_mayGo_46 : decode cX0_mayGo 46 = .ok (.iconst 1, 1) := dk_4 (dk_at dksX0_mayGo_1 23 rfl rfl)
theorem dX0_mayGo_47 : decode cX0_mayGo 47 = .ok (.if_icmp .eq 12, 3) := dk_159 0 12 (dk_at dksX0_mayGo_2 0 rfl rfl)
theorem dX0_mayGo_50 : decode cX0_mayGo 50 = .ok (.aload 5, 2) := dk_25 5 (dk_at dksX0_mayGo_2 3 rfl rfl)
theorem dX0_mayGo_52 : decode cX0_mayGo 52 = .ok (.getfield 232, 3) := dk_180 0 232 (dk_at dksX0_mayGo_2 5 rfl rfl)
theorem dX0_mayGo_55 : decode cX0_mayGo 55 = .ok (.iconst 2, 1) := dk_5 (dk_at dksX0_mayGo_2 8 rfl rfl)
theorem dX0_mayGo_56 : decode cX0_mayGo 56 = .ok (.if_icmp .ne 12, 3) := dk_160 0 12 (dk_at dksX0_mayGo_2 9 rfl rfl)
theorem dX0_mayGo_59 : decode cX0_mayGo 59 = .ok (.aload 5, 2) := dk_25 5 (dk_at dksX0_mayGo_2 12 rfl rfl)
theorem dX0_mayGo_61 : decode cX0_mayGo 61 = .ok (.aload_n 2, 1) := dk_44 (dk_at dksX0_mayGo_2 14 rfl rfl)
theorem dX0_mayGo_62 : decode cX0_mayGo 62 = .ok (.invokevirtual 241, 3) := dk_182 0 241 (dk_at dksX0_mayGo_2 15 rfl rfl)
theorem dX0_mayGo_65 : decode cX0_mayGo 65 = .ok (.ifCond .ne 7, 3) := dk_154 0 7 (dk_at dksX0_mayGo_2 18 rfl rfl)
theorem dX0_mayGo_68 : decode cX0_mayGo 68 = .ok (.iconst 1, 1) := dk_4 (dk_at dksX0_mayGo_2 21 rfl rfl)
theorem dX0_mayGo_69 : decode cX0_mayGo 69 = .ok (.goto 4, 3) := dk_167 0 4 (dk_at dksX0_mayGo_3 0 rfl rfl)
theorem dX0_mayGo_72 : decode cX0_mayGo 72 = .ok (.iconst 0, 1) := dk_3 (dk_at dksX0_mayGo_3 3 rfl rfl)
theorem dX0_mayGo_73 : decode cX0_mayGo 73 = .ok (.iand, 1) := dk_126 (dk_at dksX0_mayGo_3 4 rfl rfl)
theorem dX0_mayGo_74 : decode cX0_mayGo 74 = .ok (.istore_n 3, 1) := dk_62 (dk_at dksX0_mayGo_3 5 rfl rfl)
theorem dX0_mayGo_75 : decode cX0_mayGo 75 = .ok (.iinc 4 1, 3) := dk_132 4 1 (dk_at dksX0_mayGo_3 6 rfl rfl)
theorem dX0_mayGo_78 : decode cX0_mayGo 78 = .ok (.goto (-53), 3) := dk_167 255 203 (dk_at dksX0_mayGo_3 9 rfl rfl)
theorem dX0_mayGo_81 : decode cX0_mayGo 81 = .ok (.iload_n 3, 1) := dk_29 (dk_at dksX0_mayGo_3 12 rfl rfl)
theorem dX0_mayGo_82 : decode cX0_mayGo 82 = .ok (.ireturn, 1) := dk_172 (dk_at dksX0_mayGo_3 13 rfl rfl)
abbrev cX0_work : ByteArray := prog_1_method_35_code
def yX0_work : MethodName := ⟨RX0, "work", "(II)I"⟩
def dkwX0_work_6 : List UInt8 := [180, 0, 238, 5, 160, 0, 7, 45, 182, 1, 24, 5, 172]
abbrev dktX0_work_6 : List UInt8 := dkwX0_work_6 ++ []
def dkwX0_work_5 : List UInt8 := [4, 96, 181, 0, 238, 45, 45, 180, 0, 238, 4, 160, 0, 7, 7, 167, 0, 4, 8, 181, 0, 232, 45]
abbrev dktX0_work_5 : List UInt8 := dkwX0_work_5 ++ dktX0_work_6
def dkwX0_work_4 : List UInt8 := [180, 0, 238, 45, 180, 0, 235, 79, 45, 180, 1, 21, 45, 180, 0, 238, 21, 4, 79, 45, 89, 180, 0, 238]
abbrev dktX0_work_4 : List UInt8 := dkwX0_work_4 ++ dktX0_work_5
def dkwX0_work_3 : List UInt8 := [27, 45, 180, 0, 232, 5, 160, 0, 7, 28, 167, 0, 4, 2, 79, 4, 172, 45, 180, 1, 18, 45]
abbrev dktX0_work_3 : List UInt8 := dkwX0_work_3 ++ dktX0_work_4
def dkwX0_work_2 : List UInt8 := [181, 0, 235, 45, 45, 180, 0, 235, 7, 160, 0, 7, 6, 167, 0, 4, 5, 181, 0, 232, 42, 180, 0, 59]
abbrev dktX0_work_2 : List UInt8 := dkwX0_work_2 ++ dktX0_work_3
def dkwX0_work_1 : List UInt8 := [42, 180, 0, 59, 27, 2, 79, 21, 4, 154, 0, 55, 45, 45, 45, 180, 0, 235, 4, 96, 182, 1, 15]
abbrev dktX0_work_1 : List UInt8 := dkwX0_work_1 ++ dktX0_work_2
def dkwX0_work_0 : List UInt8 := [42, 89, 180, 1, 8, 4, 96, 181, 1, 8, 42, 180, 0, 55, 28, 50, 78, 42, 45, 182, 1, 11, 54, 4]
abbrev dktX0_work_0 : List UInt8 := dkwX0_work_0 ++ dktX0_work_1
theorem dksX0_work_0 : cX0_work.data.toList.drop 0 = dktX0_work_0 := by decide +kernel
theorem dksX0_work_1 : cX0_work.data.toList.drop 24 = dktX0_work_1 := dk_seg dksX0_work_0 24 rfl rfl
theorem dksX0_work_2 : cX0_work.data.toList.drop 47 = dktX0_work_2 := dk_seg dksX0_work_1 23 rfl rfl
theorem dksX0_work_3 : cX0_work.data.toList.drop 71 = dktX0_work_3 := dk_seg dksX0_work_2 24 rfl rfl
theorem dksX0_work_4 : cX0_work.data.toList.drop 93 = dktX0_work_4 := dk_seg dksX0_work_3 22 rfl rfl
theorem dksX0_work_5 : cX0_work.data.toList.drop 117 = dktX0_work_5 := dk_seg dksX0_work_4 24 rfl rfl
theorem dksX0_work_6 : cX0_work.data.toList.drop 140 = dktX0_work_6 := dk_seg dksX0_work_5 23 rfl rfl
theorem dX0_work_0 : decode cX0_work 0 = .ok (.aload_n 0, 1) := dk_42 (dk_at dksX0_work_0 0 rfl rfl)
theorem dX0_work_1 : decode cX0_work 1 = .ok (.dup, 1) := dk_89 (dk_at dksX0_work_0 1 rfl rfl)
theorem dX0_work_2 : decode cX0_work 2 = .ok (.getfield 264, 3) := dk_180 1 8 (dk_at dksX0_work_0 2 rfl rfl)
theorem dX0_work_5 : decode cX0_work 5 = .ok (.iconst 1, 1) := dk_4 (dk_at dksX0_work_0 5 rfl rfl)
theorem dX0_work_6 : decode cX0_work 6 = .ok (.iadd, 1) := dk_96 (dk_at dksX0_work_0 6 rfl rfl)
theorem dX0_work_7 : decode cX0_work 7 = .ok (.putfield 264, 3) := dk_181 1 8 (dk_at dksX0_work_0 7 rfl rfl)
theorem dX0_work_10 : decode cX0_work 10 = .ok (.aload_n 0, 1) := dk_42 (dk_at dksX0_work_0 10 rfl rfl)
theorem dX0_work_11 : decode cX0_work 11 = .ok (.getfield 55, 3) := dk_180 0 55 (dk_at dksX0_work_0 11 rfl rfl)
theorem dX0_work_14 : decode cX0_work 14 = .ok (.iload_n 2, 1) := dk_28 (dk_at dksX0_work_0 14 rfl rfl)
theorem dX0_work_15 : decode cX0_work 15 = .ok (.aaload, 1) := dk_50 (dk_at dksX0_work_0 15 rfl rfl)
theorem dX0_work_16 : decode cX0_work 16 = .ok (.astore_n 3, 1) := dk_78 (dk_at dksX0_work_0 16 rfl rfl)
theorem dX0_work_17 : decode cX0_work 17 = .ok (.aload_n 0, 1) := dk_42 (dk_at dksX0_work_0 17 rfl rfl)
theorem dX0_work_18 : decode cX0_work 18 = .ok (.aload_n 3, 1) := dk_45 (dk_at dksX0_work_0 18 rfl rfl)
theorem dX0_work_19 : decode cX0_work 19 = .ok (.invokevirtual 267, 3) := dk_182 1 11 (dk_at dksX0_work_0 19 rfl rfl)
theorem dX0_work_22 : decode cX0_work 22 = .ok (.istore 4, 2) := dk_54 4 (dk_at dksX0_work_0 22 rfl rfl)
theorem dX0_work_24 : decode cX0_work 24 = .ok (.aload_n 0, 1) := dk_42 (dk_at dksX0_work_1 0 rfl rfl)
theorem dX0_work_25 : decode cX0_work 25 = .ok (.getfield 59, 3) := dk_180 0 59 (dk_at dksX0_work_1 1 rfl rfl)
theorem dX0_work_28 : decode cX0_work 28 = .ok (.iload_n 1, 1) := dk_27 (dk_at dksX0_work_1 4 rfl rfl)
theorem dX0_work_29 : decode cX0_work 29 = .ok (.iconst (-1), 1) := dk_2 (dk_at dksX0_work_1 5 rfl rfl)
theorem dX0_work_30 : decode cX0_work 30 = .ok (.iastore, 1) := dk_79 (dk_at dksX0_work_1 6 rfl rfl)
theorem dX0_work_31 : decode cX0_work 31 = .ok (.iload 4, 2) := dk_21 4 (dk_at dksX0_work_1 7 rfl rfl)
theorem dX0_work_33 : decode cX0_work 33 = .ok (.ifCond .ne 55, 3) := dk_154 0 55 (dk_at dksX0_work_1 9 rfl rfl)
theorem dX0_work_36 : decode cX0_work 36 = .ok (.aload_n 3, 1) := dk_45 (dk_at dksX0_work_1 12 rfl rfl)
theorem dX0_work_37 : decode cX0_work 37 = .ok (.aload_n 3, 1) := dk_45 (dk_at dksX0_work_1 13 rfl rfl)
theorem dX0_work_38 : decode cX0_work 38 = .ok (.aload_n 3, 1) := dk_45 (dk_at dksX0_work_1 14 rfl rfl)
theorem dX0_work_39 : decode cX0_work 39 = .ok (.getfield 235, 3) := dk_180 0 235 (dk_at dksX0_work_1 15 rfl rfl)
theorem dX0_work_42 : decode cX0_work 42 = .ok (.iconst 1, 1) := dk_4 (dk_at dksX0_work_1 18 rfl rfl)
theorem dX0_work_43 : decode cX0_work 43 = .ok (.iadd, 1) := dk_96 (dk_at dksX0_work_1 19 rfl rfl)
theorem dX0_work_44 : decode cX0_work 44 = .ok (.invokevirtual 271, 3) := dk_182 1 15 (dk_at dksX0_work_1 20 rfl rfl)
theorem dX0_work_47 : decode cX0_work 47 = .ok (.putfield 235, 3) := dk_181 0 235 (dk_at dksX0_work_2 0 rfl rfl)
theorem dX0_work_50 : decode cX0_work 50 = .ok (.aload_n 3, 1) := dk_45 (dk_at dksX0_work_2 3 rfl rfl)
theorem dX0_work_51 : decode cX0_work 51 = .ok (.aload_n 3, 1) := dk_45 (dk_at dksX0_work_2 4 rfl rfl)
theorem dX0_work_52 : decode cX0_work 52 = .ok (.getfield 235, 3) := dk_180 0 235 (dk_at dksX0_work_2 5 rfl rfl)
theorem dX0_work_55 : decode cX0_work 55 = .ok (.iconst 4, 1) := dk_7 (dk_at dksX0_work_2 8 rfl rfl)
theorem dX0_work_56 : decode cX0_work 56 = .ok (.if_icmp .ne 7, 3) := dk_160 0 7 (dk_at dksX0_work_2 9 rfl rfl)
theorem dX0_work_59 : decode cX0_work 59 = .ok (.iconst 3, 1) := dk_6 (dk_at dksX0_work_2 12 rfl rfl)
theorem dX0_work_60 : decode cX0_work 60 = .ok (.goto 4, 3) := dk_167 0 4 (dk_at dksX0_work_2 13 rfl rfl)
theorem dX0_work_63 : decode cX0_work 63 = .ok (.iconst 2, 1) := dk_5 (dk_at dksX0_work_2 16 rfl rfl)
theorem dX0_work_64 : decode cX0_work 64 = .ok (.putfield 232, 3) := dk_181 0 232 (dk_at dksX0_work_2 17 rfl rfl)
theorem dX0_work_67 : decode cX0_work 67 = .ok (.aload_n 0, 1) := dk_42 (dk_at dksX0_work_2 20 rfl rfl)
theorem dX0_work_68 : decode cX0_work 68 = .ok (.getfield 59, 3) := dk_180 0 59 (dk_at dksX0_work_2 21 rfl rfl)
theorem dX0_work_71 : decode cX0_work 71 = .ok (.iload_n 1, 1) := dk_27 (dk_at dksX0_work_3 0 rfl rfl)
theorem dX0_work_72 : decode cX0_work 72 = .ok (.aload_n 3, 1) := dk_45 (dk_at dksX0_work_3 1 rfl rfl)
theorem dX0_work_73 : decode cX0_work 73 = .ok (.getfield 232, 3) := dk_180 0 232 (dk_at dksX0_work_3 2 rfl rfl)
theorem dX0_work_76 : decode cX0_work 76 = .ok (.iconst 2, 1) := dk_5 (dk_at dksX0_work_3 5 rfl rfl)
theorem dX0_work_77 : decode cX0_work 77 = .ok (.if_icmp .ne 7, 3) := dk_160 0 7 (dk_at dksX0_work_3 6 rfl rfl)
theorem dX0_work_80 : decode cX0_work 80 = .ok (.iload_n 2, 1) := dk_28 (dk_at dksX0_work_3 9 rfl rfl)
theorem dX0_work_81 : decode cX0_work 81 = .ok (.goto 4, 3) := dk_167 0 4 (dk_at dksX0_work_3 10 rfl rfl)
theorem dX0_work_84 : decode cX0_work 84 = .ok (.iconst (-1), 1) := dk_2 (dk_at dksX0_work_3 13 rfl rfl)
theorem dX0_work_85 : decode cX0_work 85 = .ok (.iastore, 1) := dk_79 (dk_at dksX0_work_3 14 rfl rfl)
theorem dX0_work_86 : decode cX0_work 86 = .ok (.iconst 1, 1) := dk_4 (dk_at dksX0_work_3 15 rfl rfl)
theorem dX0_work_87 : decode cX0_work 87 = .ok (.ireturn, 1) := dk_172 (dk_at dksX0_work_3 16 rfl rfl)
theorem dX0_work_88 : decode cX0_work 88 = .ok (.aload_n 3, 1) := dk_45 (dk_at dksX0_work_3 17 rfl rfl)
theorem dX0_work_89 : decode cX0_work 89 = .ok (.getfield 274, 3) := dk_180 1 18 (dk_at dksX0_work_3 18 rfl rfl)
theorem dX0_work_92 : decode cX0_work 92 = .ok (.aload_n 3, 1) := dk_45 (dk_at dksX0_work_3 21 rfl rfl)
theorem dX0_work_93 : decode cX0_work 93 = .ok (.getfield 238, 3) := dk_180 0 238 (dk_at dksX0_work_4 0 rfl rfl)
theorem dX0_work_96 : decode cX0_work 96 = .ok (.aload_n 3, 1) := dk_45 (dk_at dksX0_work_4 3 rfl rfl)
theorem dX0_work_97 : decode cX0_work 97 = .ok (.getfield 235, 3) := dk_180 0 235 (dk_at dksX0_work_4 4 rfl rfl)
theorem dX0_work_100 : decode cX0_work 100 = .ok (.iastore, 1) := dk_79 (dk_at dksX0_work_4 7 rfl rfl)
theorem dX0_work_101 : decode cX0_work 101 = .ok (.aload_n 3, 1) := dk_45 (dk_at dksX0_work_4 8 rfl rfl)
theorem dX0_work_102 : decode cX0_work 102 = .ok (.getfield 277, 3) := dk_180 1 21 (dk_at dksX0_work_4 9 rfl rfl)
theorem dX0_work_105 : decode cX0_work 105 = .ok (.aload_n 3, 1) := dk_45 (dk_at dksX0_work_4 12 rfl rfl)
theorem dX0_work_106 : decode cX0_work 106 = .ok (.getfield 238, 3) := dk_180 0 238 (dk_at dksX0_work_4 13 rfl rfl)
theorem dX0_work_109 : decode cX0_work 109 = .ok (.iload 4, 2) := dk_21 4 (dk_at dksX0_work_4 16 rfl rfl)
theorem dX0_work_111 : decode cX0_work 111 = .ok (.iastore, 1) := dk_79 (dk_at dksX0_work_4 18 rfl rfl)
theorem dX0_work_112 : decode cX0_work 112 = .ok (.aload_n 3, 1) := dk_45 (dk_at dksX0_work_4 19 rfl rfl)
theorem dX0_work_113 : decode cX0_work 113 = .ok (.dup, 1) := dk_89 (dk_at dksX0_work_4 20 rfl rfl)
theorem dX0_work_114 : decode cX0_work 114 = .ok (.getfield 238, 3) := dk_180 0 238 (dk_at dksX0_work_4 21 rfl rfl)
theorem dX0_work_117 : decode cX0_work 117 = .ok (.iconst 1, 1) := dk_4 (dk_at dksX0_work_5 0 rfl rfl)
theorem dX0_work_118 : decode cX0_work 118 = .ok (.iadd, 1) := dk_96 (dk_at dksX0_work_5 1 rfl rfl)
theorem dX0_work_119 : decode cX0_work 119 = .ok (.putfield 238, 3) := dk_181 0 238 (dk_at dksX0_work_5 2 rfl rfl)
theorem dX0_work_122 : decode cX0_work 122 = .ok (.aload_n 3, 1) := dk_45 (dk_at dksX0_work_5 5 rfl rfl)
theorem dX0_work_123 : decode cX0_work 123 = .ok (.aload_n 3, 1) := dk_45 (dk_at dksX0_work_5 6 rfl rfl)
theorem dX0_work_124 : decode cX0_work 124 = .ok (.getfield 238, 3) := dk_180 0 238 (dk_at dksX0_work_5 7 rfl rfl)
theorem dX0_work_127 : decode cX0_work 127 = .ok (.iconst 1, 1) := dk_4 (dk_at dksX0_work_5 10 rfl rfl)
theorem dX0_work_128 : decode cX0_work 128 = .ok (.if_icmp .ne 7, 3) := dk_160 0 7 (dk_at dksX0_work_5 11 rfl rfl)
theorem dX0_work_131 : decode cX0_work 131 = .ok (.iconst 4, 1) := dk_7 (dk_at dksX0_work_5 14 rfl rfl)
theorem dX0_work_132 : decode cX0_work 132 = .ok (.goto 4, 3) := dk_167 0 4 (dk_at dksX0_work_5 15 rfl rfl)
theorem dX0_work_135 : decode cX0_work 135 = .ok (.iconst 5, 1) := dk_8 (dk_at dksX0_work_5 18 rfl rfl)
theorem dX0_work_136 : decode cX0_work 136 = .ok (.putfield 232, 3) := dk_181 0 232 (dk_at dksX0_work_5 19 rfl rfl)
theorem dX0_work_139 : decode cX0_work 139 = .ok (.aload_n 3, 1) := dk_45 (dk_at dksX0_work_5 22 rfl rfl)
theorem dX0_work_140 : decode cX0_work 140 = .ok (.getfield 238, 3) := dk_180 0 238 (dk_at dksX0_work_6 0 rfl rfl)
theorem dX0_work_143 : decode cX0_work 143 = .ok (.iconst 2, 1) := dk_5 (dk_at dksX0_work_6 3 rfl rfl)
theorem dX0_work_144 : decode cX0_work 144 = .ok (.if_icmp .ne 7, 3) := dk_160 0 7 (dk_at dksX0_work_6 4 rfl rfl)
theorem dX0_work_147 : decode cX0_work 147 = .ok (.aload_n 3, 1) := dk_45 (dk_at dksX0_work_6 7 rfl rfl)
theorem dX0_work_148 : decode cX0_work 148 = .ok (.invokevirtual 280, 3) := dk_182 1 24 (dk_at dksX0_work_6 8 rfl rfl)
theorem dX0_work_151 : decode cX0_work 151 = .ok (.iconst 2, 1) := dk_5 (dk_at dksX0_work_6 11 rfl rfl)
theorem dX0_work_152 : decode cX0_work 152 = .ok (.ireturn, 1) := dk_172 (dk_at dksX0_work_6 12 rfl rfl)
abbrev cX0_tried : ByteArray := prog_1_method_36_code
def yX0_tried : MethodName := ⟨RX0, "tried", "(LScoreThreads$Track;)I"⟩
def dkwX0_tried_2 : List UInt8 := [181, 1, 31, 43, 44, 181, 1, 34, 3, 172, 77, 4, 172, 77, 5, 172, 77, 16, 6, 172]
abbrev dktX0_tried_2 : List UInt8 := dkwX0_tried_2 ++ []
def dkwX0_tried_1 : List UInt8 := [50, 43, 180, 1, 31, 43, 180, 1, 34, 182, 1, 37, 43, 180, 1, 31, 77, 43, 43, 180, 1, 34]
abbrev dktX0_tried_1 : List UInt8 := dkwX0_tried_1 ++ dktX0_tried_2
def dkwX0_tried_0 : List UInt8 := [43, 180, 0, 235, 2, 160, 0, 11, 42, 43, 182, 1, 27, 167, 0, 41, 43, 180, 0, 204, 43, 180, 0, 235]
abbrev dktX0_tried_0 : List UInt8 := dkwX0_tried_0 ++ dktX0_tried_1
theorem dksX0_tried_0 : cX0_tried.data.toList.drop 0 = dktX0_tried_0 := by decide +kernel
theorem dksX0_tried_1 : cX0_tried.data.toList.drop 24 = dktX0_tried_1 := dk_seg dksX0_tried_0 24 rfl rfl
theorem dksX0_tried_2 : cX0_tried.data.toList.drop 46 = dktX0_tried_2 := dk_seg dksX0_tried_1 22 rfl rfl
theorem dX0_tried_0 : decode cX0_tried 0 = .ok (.aload_n 1, 1) := dk_43 (dk_at dksX0_tried_0 0 rfl rfl)
theorem dX0_tried_1 : decode cX0_tried 1 = .ok (.getfield 235, 3) := dk_180 0 235 (dk_at dksX0_tried_0 1 rfl rfl)
theorem dX0_tried_4 : decode cX0_tried 4 = .ok (.iconst (-1), 1) := dk_2 (dk_at dksX0_tried_0 4 rfl rfl)
theorem dX0_tried_5 : decode cX0_tried 5 = .ok (.if_icmp .ne 11, 3) := dk_160 0 11 (dk_at dksX0_tried_0 5 rfl rfl)
theorem dX0_tried_8 : decode cX0_tried 8 = .ok (.aload_n 0, 1) := dk_42 (dk_at dksX0_tried_0 8 rfl rfl)
theorem dX0_tried_9 : decode cX0_tried 9 = .ok (.aload_n 1, 1) := dk_43 (dk_at dksX0_tried_0 9 rfl rfl)
theorem dX0_tried_10 : decode cX0_tried 10 = .ok (.invokevirtual 283, 3) := dk_182 1 27 (dk_at dksX0_tried_0 10 rfl rfl)
theorem dX0_tried_13 : decode cX0_tried 13 = .ok (.goto 41, 3) := dk_167 0 41 (dk_at dksX0_tried_0 13 rfl rfl)
theorem dX0_tried_16 : decode cX0_tried 16 = .ok (.aload_n 1, 1) := dk_43 (dk_at dksX0_tried_0 16 rfl rfl)
theorem dX0_tried_17 : decode cX0_tried 17 = .ok (.getfield 204, 3) := dk_180 0 204 (dk_at dksX0_tried_0 17 rfl rfl)
theorem dX0_tried_20 : decode cX0_tried 20 = .ok (.aload_n 1, 1) := dk_43 (dk_at dksX0_tried_0 20 rfl rfl)
theorem dX0_tried_21 : decode cX0_tried 21 = .ok (.getfield 235, 3) := dk_180 0 235 (dk_at dksX0_tried_0 21 rfl rfl)
theorem dX0_tried_24 : decode cX0_tried 24 = .ok (.aaload, 1) := dk_50 (dk_at dksX0_tried_1 0 rfl rfl)
theorem dX0_tried_25 : decode cX0_tried 25 = .ok (.aload_n 1, 1) := dk_43 (dk_at dksX0_tried_1 1 rfl rfl)
theorem dX0_tried_26 : decode cX0_tried 26 = .ok (.getfield 287, 3) := dk_180 1 31 (dk_at dksX0_tried_1 2 rfl rfl)
theorem dX0_tried_29 : decode cX0_tried 29 = .ok (.aload_n 1, 1) := dk_43 (dk_at dksX0_tried_1 5 rfl rfl)
theorem dX0_tried_30 : decode cX0_tried 30 = .ok (.getfield 290, 3) := dk_180 1 34 (dk_at dksX0_tried_1 6 rfl rfl)
theorem dX0_tried_33 : decode cX0_tried 33 = .ok (.invokevirtual 293, 3) := dk_182 1 37 (dk_at dksX0_tried_1 9 rfl rfl)
theorem dX0_tried_36 : decode cX0_tried 36 = .ok (.aload_n 1, 1) := dk_43 (dk_at dksX0_tried_1 12 rfl rfl)
theorem dX0_tried_37 : decode cX0_tried 37 = .ok (.getfield 287, 3) := dk_180 1 31 (dk_at dksX0_tried_1 13 rfl rfl)
theorem dX0_tried_40 : decode cX0_tried 40 = .ok (.astore_n 2, 1) := dk_77 (dk_at dksX0_tried_1 16 rfl rfl)
theorem dX0_tried_41 : decode cX0_tried 41 = .ok (.aload_n 1, 1) := dk_43 (dk_at dksX0_tried_1 17 rfl rfl)
theorem dX0_tried_42 : decode cX0_tried 42 = .ok (.aload_n 1, 1) := dk_43 (dk_at dksX0_tried_1 18 rfl rfl)
theorem dX0_tried_43 : decode cX0_tried 43 = .ok (.getfield 290, 3) := dk_180 1 34 (dk_at dksX0_tried_1 19 rfl rfl)
theorem dX0_tried_46 : decode cX0_tried 46 = .ok (.putfield 287, 3) := dk_181 1 31 (dk_at dksX0_tried_2 0 rfl rfl)
theorem dX0_tried_49 : decode cX0_tried 49 = .ok (.aload_n 1, 1) := dk_43 (dk_at dksX0_tried_2 3 rfl rfl)
theorem dX0_tried_50 : decode cX0_tried 50 = .ok (.aload_n 2, 1) := dk_44 (dk_at dksX0_tried_2 4 rfl rfl)
theorem dX0_tried_51 : decode cX0_tried 51 = .ok (.putfield 290, 3) := dk_181 1 34 (dk_at dksX0_tried_2 5 rfl rfl)
theorem dX0_tried_54 : decode cX0_tried 54 = .ok (.iconst 0, 1) := dk_3 (dk_at dksX0_tried_2 8 rfl rfl)
theorem dX0_tried_55 : decode cX0_tried 55 = .ok (.ireturn, 1) := dk_172 (dk_at dksX0_tried_2 9 rfl rfl)
theorem dX0_tried_56 : decode cX0_tried 56 = .ok (.astore_n 2, 1) := dk_77 (dk_at dksX0_tried_2 10 rfl rfl)
theorem dX0_tried_57 : decode cX0_tried 57 = .ok (.iconst 1, 1) := dk_4 (dk_at dksX0_tried_2 11 rfl rfl)
theorem dX0_tried_58 : decode cX0_tried 58 = .ok (.ireturn, 1) := dk_172 (dk_at dksX0_tried_2 12 rfl rfl)
theorem dX0_tried_59 : decode cX0_tried 59 = .ok (.astore_n 2, 1) := dk_77 (dk_at dksX0_tried_2 13 rfl rfl)
theorem dX0_tried_60 : decode cX0_tried 60 = .ok (.iconst 2, 1) := dk_5 (dk_at dksX0_tried_2 14 rfl rfl)
theorem dX0_tried_61 : decode cX0_tried 61 = .ok (.ireturn, 1) := dk_172 (dk_at dksX0_tried_2 15 rfl rfl)
theorem dX0_tried_62 : decode cX0_tried 62 = .ok (.astore_n 2, 1) := dk_77 (dk_at dksX0_tried_2 16 rfl rfl)
theorem dX0_tried_63 : decode cX0_tried 63 = .ok (.bipush 6, 2) := dk_16 6 (dk_at dksX0_tried_2 17 rfl rfl)
theorem dX0_tried_65 : decode cX0_tried 65 = .ok (.ireturn, 1) := dk_172 (dk_at dksX0_tried_2 19 rfl rfl)
abbrev cX0_load : ByteArray := prog_1_method_37_code
def yX0_load : MethodName := ⟨RX0, "load", "(LScoreThreads$Track;)V"⟩
def dkwX0_load_3 : List UInt8 := [29, 21, 4, 96, 182, 0, 125, 167, 0, 4, 11, 81, 132, 4, 1, 167, 255, 209, 177]
abbrev dktX0_load_3 : List UInt8 := dkwX0_load_3 ++ []
def dkwX0_load_2 : List UInt8 := [180, 1, 31, 21, 4, 43, 180, 0, 198, 154, 0, 14, 44, 29, 21, 4, 96, 182, 0, 123, 153, 0, 14, 44]
abbrev dktX0_load_2 : List UInt8 := dkwX0_load_2 ++ dktX0_load_3
def dkwX0_load_1 : List UInt8 := [180, 0, 195, 16, 8, 42, 180, 0, 220, 104, 96, 62, 3, 54, 4, 21, 4, 16, 8, 162, 0, 46, 43]
abbrev dktX0_load_1 : List UInt8 := dkwX0_load_1 ++ dktX0_load_2
def dkwX0_load_0 : List UInt8 := [43, 180, 0, 192, 2, 160, 0, 7, 1, 167, 0, 12, 42, 180, 0, 31, 43, 180, 0, 192, 50, 77, 43]
abbrev dktX0_load_0 : List UInt8 := dkwX0_load_0 ++ dktX0_load_1
theorem dksX0_load_0 : cX0_load.data.toList.drop 0 = dktX0_load_0 := by decide +kernel
theorem dksX0_load_1 : cX0_load.data.toList.drop 23 = dktX0_load_1 := dk_seg dksX0_load_0 23 rfl rfl
theorem dksX0_load_2 : cX0_load.data.toList.drop 46 = dktX0_load_2 := dk_seg dksX0_load_1 23 rfl rfl
theorem dksX0_load_3 : cX0_load.data.toList.drop 70 = dktX0_load_3 := dk_seg dksX0_load_2 24 rfl rfl
theorem dX0_load_0 : decode cX0_load 0 = .ok (.aload_n 1, 1) := dk_43 (dk_at dksX0_load_0 0 rfl rfl)
theorem dX0_load_1 : decode cX0_load 1 = .ok (.getfield 192, 3) := dk_180 0 192 (dk_at dksX0_load_0 1 rfl rfl)
theorem dX0_load_4 : decode cX0_load 4 = .ok (.iconst (-1), 1) := dk_2 (dk_at dksX0_load_0 4 rfl rfl)
theorem dX0_load_5 : decode cX0_load 5 = .ok (.if_icmp .ne 7, 3) := dk_160 0 7 (dk_at dksX0_load_0 5 rfl rfl)
theorem dX0_load_8 : decode cX0_load 8 = .ok (.aconst_null, 1) := dk_1 (dk_at dksX0_load_0 8 rfl rfl)
theorem dX0_load_9 : decode cX0_load 9 = .ok (.goto 12, 3) := dk_167 0 12 (dk_at dksX0_load_0 9 rfl rfl)
theorem dX0_load_12 : decode cX0_load 12 = .ok (.aload_n 0, 1) := dk_42 (dk_at dksX0_load_0 12 rfl rfl)
theorem dX0_load_13 : decode cX0_load 13 = .ok (.getfield 31, 3) := dk_180 0 31 (dk_at dksX0_load_0 13 rfl rfl)
theorem dX0_load_16 : decode cX0_load 16 = .ok (.aload_n 1, 1) := dk_43 (dk_at dksX0_load_0 16 rfl rfl)
theorem dX0_load_17 : decode cX0_load 17 = .ok (.getfield 192, 3) := dk_180 0 192 (dk_at dksX0_load_0 17 rfl rfl)
theorem dX0_load_20 : decode cX0_load 20 = .ok (.aaload, 1) := dk_50 (dk_at dksX0_load_0 20 rfl rfl)
theorem dX0_load_21 : decode cX0_load 21 = .ok (.astore_n 2, 1) := dk_77 (dk_at dksX0_load_0 21 rfl rfl)
theorem dX0_load_22 : decode cX0_load 22 = .ok (.aload_n 1, 1) := dk_43 (dk_at dksX0_load_0 22 rfl rfl)
theorem dX0_load_23 : decode cX0_load 23 = .ok (.getfield 195, 3) := dk_180 0 195 (dk_at dksX0_load_1 0 rfl rfl)
theorem dX0_load_26 : decode cX0_load 26 = .ok (.bipush 8, 2) := dk_16 8 (dk_at dksX0_load_1 3 rfl rfl)
theorem dX0_load_28 : decode cX0_load 28 = .ok (.aload_n 0, 1) := dk_42 (dk_at dksX0_load_1 5 rfl rfl)
theorem dX0_load_29 : decode cX0_load 29 = .ok (.getfield 220, 3) := dk_180 0 220 (dk_at dksX0_load_1 6 rfl rfl)
theorem dX0_load_32 : decode cX0_load 32 = .ok (.imul, 1) := dk_104 (dk_at dksX0_load_1 9 rfl rfl)
theorem dX0_load_33 : decode cX0_load 33 = .ok (.iadd, 1) := dk_96 (dk_at dksX0_load_1 10 rfl rfl)
theorem dX0_load_34 : decode cX0_load 34 = .ok (.istore_n 3, 1) := dk_62 (dk_at dksX0_load_1 11 rfl rfl)
theorem dX0_load_35 : decode cX0_load 35 = .ok (.iconst 0, 1) := dk_3 (dk_at dksX0_load_1 12 rfl rfl)
theorem dX0_load_36 : decode cX0_load 36 = .ok (.istore 4, 2) := dk_54 4 (dk_at dksX0_load_1 13 rfl rfl)
theorem dX0_load_38 : decode cX0_load 38 = .ok (.iload 4, 2) := dk_21 4 (dk_at dksX0_load_1 15 rfl rfl)
theorem dX0_load_40 : decode cX0_load 40 = .ok (.bipush 8, 2) := dk_16 8 (dk_at dksX0_load_1 17 rfl rfl)
theorem dX0_load_42 : decode cX0_load 42 = .ok (.if_icmp .ge 46, 3) := dk_162 0 46 (dk_at dksX0_load_1 19 rfl rfl)
theorem dX0_load_45 : decode cX0_load 45 = .ok (.aload_n 1, 1) := dk_43 (dk_at dksX0_load_1 22 rfl rfl)
theorem dX0_load_46 : decode cX0_load 46 = .ok (.getfield 287, 3) := dk_180 1 31 (dk_at dksX0_load_2 0 rfl rfl)
theorem dX0_load_49 : decode cX0_load 49 = .ok (.iload 4, 2) := dk_21 4 (dk_at dksX0_load_2 3 rfl rfl)
theorem dX0_load_51 : decode cX0_load 51 = .ok (.aload_n 1, 1) := dk_43 (dk_at dksX0_load_2 5 rfl rfl)
theorem dX0_load_52 : decode cX0_load 52 = .ok (.getfield 198, 3) := dk_180 0 198 (dk_at dksX0_load_2 6 rfl rfl)
theorem dX0_load_55 : decode cX0_load 55 = .ok (.ifCond .ne 14, 3) := dk_154 0 14 (dk_at dksX0_load_2 9 rfl rfl)
theorem dX0_load_58 : decode cX0_load 58 = .ok (.aload_n 2, 1) := dk_44 (dk_at dksX0_load_2 12 rfl rfl)
theorem dX0_load_59 : decode cX0_load 59 = .ok (.iload_n 3, 1) := dk_29 (dk_at dksX0_load_2 13 rfl rfl)
theorem dX0_load_60 : decode cX0_load 60 = .ok (.iload 4, 2) := dk_21 4 (dk_at dksX0_load_2 14 rfl rfl)
theorem dX0_load_62 : decode cX0_load 62 = .ok (.iadd, 1) := dk_96 (dk_at dksX0_load_2 16 rfl rfl)
theorem dX0_load_63 : decode cX0_load 63 = .ok (.invokevirtual 123, 3) := dk_182 0 123 (dk_at dksX0_load_2 17 rfl rfl)
theorem dX0_load_66 : decode cX0_load 66 = .ok (.ifCond .eq 14, 3) := dk_153 0 14 (dk_at dksX0_load_2 20 rfl rfl)
theorem dX0_load_69 : decode cX0_load 69 = .ok (.aload_n 2, 1) := dk_44 (dk_at dksX0_load_2 23 rfl rfl)
theorem dX0_load_70 : decode cX0_load 70 = .ok (.iload_n 3, 1) := dk_29 (dk_at dksX0_load_3 0 rfl rfl)
theorem dX0_load_71 : decode cX0_load 71 = .ok (.iload 4, 2) := dk_21 4 (dk_at dksX0_load_3 1 rfl rfl)
theorem dX0_load_73 : decode cX0_load 73 = .ok (.iadd, 1) := dk_96 (dk_at dksX0_load_3 3 rfl rfl)
theorem dX0_load_74 : decode cX0_load 74 = .ok (.invokevirtual 125, 3) := dk_182 0 125 (dk_at dksX0_load_3 4 rfl rfl)
theorem dX0_load_77 : decode cX0_load 77 = .ok (.goto 4, 3) := dk_167 0 4 (dk_at dksX0_load_3 7 rfl rfl)
theorem dX0_load_80 : decode cX0_load 80 = .ok (.fconst 0, 1) := dk_11 (dk_at dksX0_load_3 10 rfl rfl)
theorem dX0_load_81 : decode cX0_load 81 = .ok (.fastore, 1) := dk_81 (dk_at dksX0_load_3 11 rfl rfl)
theorem dX0_load_82 : decode cX0_load 82 = .ok (.iinc 4 1, 3) := dk_132 4 1 (dk_at dksX0_load_3 12 rfl rfl)
theorem dX0_load_85 : decode cX0_load 85 = .ok (.goto (-47), 3) := dk_167 255 209 (dk_at dksX0_load_3 15 rfl rfl)
theorem dX0_load_88 : decode cX0_load 88 = .ok (.return_, 1) := dk_177 (dk_at dksX0_load_3 18 rfl rfl)
abbrev cX0_waited : ByteArray := prog_1_method_34_code
def yX0_waited : MethodName := ⟨RX0, "waited", "()I"⟩
def dkwX0_waited_0 : List UInt8 := [42, 89, 180, 1, 5, 4, 96, 181, 1, 5, 3, 172]
abbrev dktX0_waited_0 : List UInt8 := dkwX0_waited_0 ++ []
theorem dksX0_waited_0 : cX0_waited.data.toList.drop 0 = dktX0_waited_0 := by decide +kernel
theorem dX0_waited_0 : decode cX0_waited 0 = .ok (.aload_n 0, 1) := dk_42 (dk_at dksX0_waited_0 0 rfl rfl)
theorem dX0_waited_1 : decode cX0_waited 1 = .ok (.dup, 1) := dk_89 (dk_at dksX0_waited_0 1 rfl rfl)
theorem dX0_waited_2 : decode cX0_waited 2 = .ok (.getfield 261, 3) := dk_180 1 5 (dk_at dksX0_waited_0 2 rfl rfl)
theorem dX0_waited_5 : decode cX0_waited 5 = .ok (.iconst 1, 1) := dk_4 (dk_at dksX0_waited_0 5 rfl rfl)
theorem dX0_waited_6 : decode cX0_waited 6 = .ok (.iadd, 1) := dk_96 (dk_at dksX0_waited_0 6 rfl rfl)
theorem dX0_waited_7 : decode cX0_waited 7 = .ok (.putfield 261, 3) := dk_181 1 5 (dk_at dksX0_waited_0 7 rfl rfl)
theorem dX0_waited_10 : decode cX0_waited 10 = .ok (.iconst 0, 1) := dk_3 (dk_at dksX0_waited_0 10 rfl rfl)
theorem dX0_waited_11 : decode cX0_waited 11 = .ok (.ireturn, 1) := dk_172 (dk_at dksX0_waited_0 11 rfl rfl)
abbrev cX0_least : ByteArray := prog_1_method_31_code
def yX0_least : MethodName := ⟨RX0, "least", "(I)I"⟩
def dkwX0_least_1 : List UInt8 := [167, 255, 234, 28, 172]
abbrev dktX0_least_1 : List UInt8 := dkwX0_least_1 ++ []
def dkwX0_least_0 : List UInt8 := [3, 61, 28, 16, 8, 162, 0, 22, 42, 180, 0, 55, 28, 50, 180, 0, 232, 27, 159, 0, 9, 132, 2, 1]
abbrev dktX0_least_0 : List UInt8 := dkwX0_least_0 ++ dktX0_least_1
theorem dksX0_least_0 : cX0_least.data.toList.drop 0 = dktX0_least_0 := by decide +kernel
theorem dksX0_least_1 : cX0_least.data.toList.drop 24 = dktX0_least_1 := dk_seg dksX0_least_0 24 rfl rfl
theorem dX0_least_0 : decode cX0_least 0 = .ok (.iconst 0, 1) := dk_3 (dk_at dksX0_least_0 0 rfl rfl)
theorem dX0_least_1 : decode cX0_least 1 = .ok (.istore_n 2, 1) := dk_61 (dk_at dksX0_least_0 1 rfl rfl)
theorem dX0_least_2 : decode cX0_least 2 = .ok (.iload_n 2, 1) := dk_28 (dk_at dksX0_least_0 2 rfl rfl)
theorem dX0_least_3 : decode cX0_least 3 = .ok (.bipush 8, 2) := dk_16 8 (dk_at dksX0_least_0 3 rfl rfl)
theorem dX0_least_5 : decode cX0_least 5 = .ok (.if_icmp .ge 22, 3) := dk_162 0 22 (dk_at dksX0_least_0 5 rfl rfl)
theorem dX0_least_8 : decode cX0_least 8 = .ok (.aload_n 0, 1) := dk_42 (dk_at dksX0_least_0 8 rfl rfl)
theorem dX0_least_9 : decode cX0_least 9 = .ok (.getfield 55, 3) := dk_180 0 55 (dk_at dksX0_least_0 9 rfl rfl)
theorem dX0_least_12 : decode cX0_least 12 = .ok (.iload_n 2, 1) := dk_28 (dk_at dksX0_least_0 12 rfl rfl)
theorem dX0_least_13 : decode cX0_least 13 = .ok (.aaload, 1) := dk_50 (dk_at dksX0_least_0 13 rfl rfl)
theorem dX0_least_14 : decode cX0_least 14 = .ok (.getfield 232, 3) := dk_180 0 232 (dk_at dksX0_least_0 14 rfl rfl)
theorem dX0_least_17 : decode cX0_least 17 = .ok (.iload_n 1, 1) := dk_27 (dk_at dksX0_least_0 17 rfl rfl)
theorem dX0_least_18 : decode cX0_least 18 = .ok (.if_icmp .eq 9, 3) := dk_159 0 9 (dk_at dksX0_least_0 18 rfl rfl)
theorem dX0_least_21 : decode cX0_least 21 = .ok (.iinc 2 1, 3) := dk_132 2 1 (dk_at dksX0_least_0 21 rfl rfl)
theorem dX0_least_24 : decode cX0_least 24 = .ok (.goto (-22), 3) := dk_167 255 234 (dk_at dksX0_least_1 0 rfl rfl)
theorem dX0_least_27 : decode cX0_least 27 = .ok (.iload_n 2, 1) := dk_28 (dk_at dksX0_least_1 3 rfl rfl)
theorem dX0_least_28 : decode cX0_least 28 = .ok (.ireturn, 1) := dk_172 (dk_at dksX0_least_1 4 rfl rfl)
abbrev cX0_mix : ByteArray := prog_1_method_40_code
def yX0_mix : MethodName := ⟨RX0, "mix", "()I"⟩
def dkwX0_mix_12 : List UInt8 := [167, 0, 8, 42, 3, 181, 0, 226, 42, 180, 0, 111, 153, 0, 7, 6, 167, 0, 4, 7, 172]
abbrev dktX0_mix_12 : List UInt8 := dkwX0_mix_12 ++ []
def dkwX0_mix_11 : List UInt8 := [132, 1, 1, 167, 255, 183, 42, 3, 181, 0, 180, 42, 180, 0, 111, 153, 0, 10, 42, 182, 0, 229]
abbrev dktX0_mix_11 : List UInt8 := dkwX0_mix_11 ++ dktX0_mix_12
def dkwX0_mix_10 : List UInt8 := [180, 0, 77, 8, 27, 104, 7, 96, 46, 4, 160, 0, 7, 4, 167, 0, 4, 3, 182, 0, 176, 61]
abbrev dktX0_mix_10 : List UInt8 := dkwX0_mix_10 ++ dktX0_mix_11
def dkwX0_mix_9 : List UInt8 := [96, 46, 42, 180, 0, 77, 8, 27, 104, 5, 96, 46, 42, 180, 0, 77, 8, 27, 104, 6, 96, 46, 42]
abbrev dktX0_mix_9 : List UInt8 := dkwX0_mix_9 ++ dktX0_mix_10
def dkwX0_mix_8 : List UInt8 := [42, 180, 0, 180, 162, 0, 71, 42, 42, 180, 0, 77, 8, 27, 104, 46, 42, 180, 0, 77, 8, 27, 104, 4]
abbrev dktX0_mix_8 : List UInt8 := dkwX0_mix_8 ++ dktX0_mix_9
def dkwX0_mix_7 : List UInt8 := [180, 0, 226, 158, 0, 14, 42, 180, 0, 223, 154, 0, 7, 4, 167, 0, 4, 3, 181, 0, 111, 3, 60, 27]
abbrev dktX0_mix_7 : List UInt8 := dkwX0_mix_7 ++ dktX0_mix_8
def dkwX0_mix_6 : List UInt8 := [42, 89, 180, 0, 220, 4, 96, 181, 0, 220, 42, 89, 180, 0, 226, 4, 100, 181, 0, 226, 42, 42]
abbrev dktX0_mix_6 : List UInt8 := dkwX0_mix_6 ++ dktX0_mix_7
def dkwX0_mix_5 : List UInt8 := [50, 180, 1, 21, 28, 46, 28, 4, 96, 182, 1, 54, 132, 2, 1, 167, 255, 210, 132, 1, 1, 167, 255, 196]
abbrev dktX0_mix_5 : List UInt8 := dkwX0_mix_5 ++ dktX0_mix_6
def dkwX0_mix_4 : List UInt8 := [180, 0, 238, 162, 0, 39, 42, 27, 42, 180, 0, 55, 27, 50, 180, 1, 18, 28, 46, 42, 180, 0, 55, 27]
abbrev dktX0_mix_4 : List UInt8 := dkwX0_mix_4 ++ dktX0_mix_5
def dkwX0_mix_3 : List UInt8 := [81, 132, 1, 1, 167, 255, 192, 3, 60, 27, 16, 8, 162, 0, 60, 3, 61, 28, 42, 180, 0, 55, 27, 50]
abbrev dktX0_mix_3 : List UInt8 := dkwX0_mix_3 ++ dktX0_mix_4
def dkwX0_mix_2 : List UInt8 := [98, 184, 1, 43, 70, 42, 180, 0, 67, 16, 8, 42, 180, 0, 220, 104, 27, 96, 36, 37, 98, 184, 1, 43]
abbrev dktX0_mix_2 : List UInt8 := dkwX0_mix_2 ++ dktX0_mix_3
def dkwX0_mix_1 : List UInt8 := [42, 5, 27, 182, 1, 51, 98, 184, 1, 43, 69, 42, 7, 27, 182, 1, 51, 42, 16, 6, 27, 182, 1, 51]
abbrev dktX0_mix_1 : List UInt8 := dkwX0_mix_1 ++ dktX0_mix_2
def dkwX0_mix_0 : List UInt8 := [42, 89, 180, 1, 8, 4, 96, 181, 1, 8, 3, 60, 27, 16, 8, 162, 0, 64, 42, 3, 27, 182, 1, 51]
abbrev dktX0_mix_0 : List UInt8 := dkwX0_mix_0 ++ dktX0_mix_1
theorem dksX0_mix_0 : cX0_mix.data.toList.drop 0 = dktX0_mix_0 := by decide +kernel
theorem dksX0_mix_1 : cX0_mix.data.toList.drop 24 = dktX0_mix_1 := dk_seg dksX0_mix_0 24 rfl rfl
theorem dksX0_mix_2 : cX0_mix.data.toList.drop 48 = dktX0_mix_2 := dk_seg dksX0_mix_1 24 rfl rfl
theorem dksX0_mix_3 : cX0_mix.data.toList.drop 72 = dktX0_mix_3 := dk_seg dksX0_mix_2 24 rfl rfl
theorem dksX0_mix_4 : cX0_mix.data.toList.drop 96 = dktX0_mix_4 := dk_seg dksX0_mix_3 24 rfl rfl
theorem dksX0_mix_5 : cX0_mix.data.toList.drop 120 = dktX0_mix_5 := dk_seg dksX0_mix_4 24 rfl rfl
theorem dksX0_mix_6 : cX0_mix.data.toList.drop 144 = dktX0_mix_6 := dk_seg dksX0_mix_5 24 rfl rfl
theorem dksX0_mix_7 : cX0_mix.data.toList.drop 166 = dktX0_mix_7 := dk_seg dksX0_mix_6 22 rfl rfl
theorem dksX0_mix_8 : cX0_mix.data.toList.drop 190 = dktX0_mix_8 := dk_seg dksX0_mix_7 24 rfl rfl
theorem dksX0_mix_9 : cX0_mix.data.toList.drop 214 = dktX0_mix_9 := dk_seg dksX0_mix_8 24 rfl rfl
theorem dksX0_mix_10 : cX0_mix.data.toList.drop 237 = dktX0_mix_10 := dk_seg dksX0_mix_9 23 rfl rfl
theorem dksX0_mix_11 : cX0_mix.data.toList.drop 259 = dktX0_mix_11 := dk_seg dksX0_mix_10 22 rfl rfl
theorem dksX0_mix_12 : cX0_mix.data.toList.drop 281 = dktX0_mix_12 := dk_seg dksX0_mix_11 22 rfl rfl
theorem dX0_mix_0 : decode cX0_mix 0 = .ok (.aload_n 0, 1) := dk_42 (dk_at dksX0_mix_0 0 rfl rfl)
theorem dX0_mix_1 : decode cX0_mix 1 = .ok (.dup, 1) := dk_89 (dk_at dksX0_mix_0 1 rfl rfl)
theorem dX0_mix_2 : decode cX0_mix 2 = .ok (.getfield 264, 3) := dk_180 1 8 (dk_at dksX0_mix_0 2 rfl rfl)
theorem dX0_mix_5 : decode cX0_mix 5 = .ok (.iconst 1, 1) := dk_4 (dk_at dksX0_mix_0 5 rfl rfl)
theorem dX0_mix_6 : decode cX0_mix 6 = .ok (.iadd, 1) := dk_96 (dk_at dksX0_mix_0 6 rfl rfl)
theorem dX0_mix_7 : decode cX0_mix 7 = .ok (.putfield 264, 3) := dk_181 1 8 (dk_at dksX0_mix_0 7 rfl rfl)
theorem dX0_mix_10 : decode cX0_mix 10 = .ok (.iconst 0, 1) := dk_3 (dk_at dksX0_mix_0 10 rfl rfl)
theorem dX0_mix_11 : decode cX0_mix 11 = .ok (.istore_n 1, 1) := dk_60 (dk_at dksX0_mix_0 11 rfl rfl)
theorem dX0_mix_12 : decode cX0_mix 12 = .ok (.iload_n 1, 1) := dk_27 (dk_at dksX0_mix_0 12 rfl rfl)
theorem dX0_mix_13 : decode cX0_mix 13 = .ok (.bipush 8, 2) := dk_16 8 (dk_at dksX0_mix_0 13 rfl rfl)
theorem dX0_mix_15 : decode cX0_mix 15 = .ok (.if_icmp .ge 64, 3) := dk_162 0 64 (dk_at dksX0_mix_0 15 rfl rfl)
theorem dX0_mix_18 : decode cX0_mix 18 = .ok (.aload_n 0, 1) := dk_42 (dk_at dksX0_mix_0 18 rfl rfl)
theorem dX0_mix_19 : decode cX0_mix 19 = .ok (.iconst 0, 1) := dk_3 (dk_at dksX0_mix_0 19 rfl rfl)
theorem dX0_mix_20 : decode cX0_mix 20 = .ok (.iload_n 1, 1) := dk_27 (dk_at dksX0_mix_0 20 rfl rfl)
theorem dX0_mix_21 : decode cX0_mix 21 = .ok (.invokevirtual 307, 3) := dk_182 1 51 (dk_at dksX0_mix_0 21 rfl rfl)
theorem dX0_mix_24 : decode cX0_mix 24 = .ok (.aload_n 0, 1) := dk_42 (dk_at dksX0_mix_1 0 rfl rfl)
theorem dX0_mix_25 : decode cX0_mix 25 = .ok (.iconst 2, 1) := dk_5 (dk_at dksX0_mix_1 1 rfl rfl)
theorem dX0_mix_26 : decode cX0_mix 26 = .ok (.iload_n 1, 1) := dk_27 (dk_at dksX0_mix_1 2 rfl rfl)
theorem dX0_mix_27 : decode cX0_mix 27 = .ok (.invokevirtual 307, 3) := dk_182 1 51 (dk_at dksX0_mix_1 3 rfl rfl)
theorem dX0_mix_30 : decode cX0_mix 30 = .ok (.fadd, 1) := dk_98 (dk_at dksX0_mix_1 6 rfl rfl)
theorem dX0_mix_31 : decode cX0_mix 31 = .ok (.invokestatic 299, 3) := dk_184 1 43 (dk_at dksX0_mix_1 7 rfl rfl)
theorem dX0_mix_34 : decode cX0_mix 34 = .ok (.fstore_n 2, 1) := dk_69 (dk_at dksX0_mix_1 10 rfl rfl)
theorem dX0_mix_35 : decode cX0_mix 35 = .ok (.aload_n 0, 1) := dk_42 (dk_at dksX0_mix_1 11 rfl rfl)
theorem dX0_mix_36 : decode cX0_mix 36 = .ok (.iconst 4, 1) := dk_7 (dk_at dksX0_mix_1 12 rfl rfl)
theorem dX0_mix_37 : decode cX0_mix 37 = .ok (.iload_n 1, 1) := dk_27 (dk_at dksX0_mix_1 13 rfl rfl)
theorem dX0_mix_38 : decode cX0_mix 38 = .ok (.invokevirtual 307, 3) := dk_182 1 51 (dk_at dksX0_mix_1 14 rfl rfl)
theorem dX0_mix_41 : decode cX0_mix 41 = .ok (.aload_n 0, 1) := dk_42 (dk_at dksX0_mix_1 17 rfl rfl)
theorem dX0_mix_42 : decode cX0_mix 42 = .ok (.bipush 6, 2) := dk_16 6 (dk_at dksX0_mix_1 18 rfl rfl)
theorem dX0_mix_44 : decode cX0_mix 44 = .ok (.iload_n 1, 1) := dk_27 (dk_at dksX0_mix_1 20 rfl rfl)
theorem dX0_mix_45 : decode cX0_mix 45 = .ok (.invokevirtual 307, 3) := dk_182 1 51 (dk_at dksX0_mix_1 21 rfl rfl)
theorem dX0_mix_48 : decode cX0_mix 48 = .ok (.fadd, 1) := dk_98 (dk_at dksX0_mix_2 0 rfl rfl)
theorem dX0_mix_49 : decode cX0_mix 49 = .ok (.invokestatic 299, 3) := dk_184 1 43 (dk_at dksX0_mix_2 1 rfl rfl)
theorem dX0_mix_52 : decode cX0_mix 52 = .ok (.fstore_n 3, 1) := dk_70 (dk_at dksX0_mix_2 4 rfl rfl)
theorem dX0_mix_53 : decode cX0_mix 53 = .ok (.aload_n 0, 1) := dk_42 (dk_at dksX0_mix_2 5 rfl rfl)
theorem dX0_mix_54 : decode cX0_mix 54 = .ok (.getfield 67, 3) := dk_180 0 67 (dk_at dksX0_mix_2 6 rfl rfl)
theorem dX0_mix_57 : decode cX0_mix 57 = .ok (.bipush 8, 2) := dk_16 8 (dk_at dksX0_mix_2 9 rfl rfl)
theorem dX0_mix_59 : decode cX0_mix 59 = .ok (.aload_n 0, 1) := dk_42 (dk_at dksX0_mix_2 11 rfl rfl)
theorem dX0_mix_60 : decode cX0_mix 60 = .ok (.getfield 220, 3) := dk_180 0 220 (dk_at dksX0_mix_2 12 rfl rfl)
theorem dX0_mix_63 : decode cX0_mix 63 = .ok (.imul, 1) := dk_104 (dk_at dksX0_mix_2 15 rfl rfl)
theorem dX0_mix_64 : decode cX0_mix 64 = .ok (.iload_n 1, 1) := dk_27 (dk_at dksX0_mix_2 16 rfl rfl)
theorem dX0_mix_65 : decode cX0_mix 65 = .ok (.iadd, 1) := dk_96 (dk_at dksX0_mix_2 17 rfl rfl)
theorem dX0_mix_66 : decode cX0_mix 66 = .ok (.fload_n 2, 1) := dk_36 (dk_at dksX0_mix_2 18 rfl rfl)
theorem dX0_mix_67 : decode cX0_mix 67 = .ok (.fload_n 3, 1) := dk_37 (dk_at dksX0_mix_2 19 rfl rfl)
theorem dX0_mix_68 : decode cX0_mix 68 = .ok (.fadd, 1) := dk_98 (dk_at dksX0_mix_2 20 rfl rfl)
theorem dX0_mix_69 : decode cX0_mix 69 = .ok (.invokestatic 299, 3) := dk_184 1 43 (dk_at dksX0_mix_2 21 rfl rfl)
theorem dX0_mix_72 : decode cX0_mix 72 = .ok (.fastore, 1) := dk_81 (dk_at dksX0_mix_3 0 rfl rfl)
theorem dX0_mix_73 : decode cX0_mix 73 = .ok (.iinc 1 1, 3) := dk_132 1 1 (dk_at dksX0_mix_3 1 rfl rfl)
theorem dX0_mix_76 : decode cX0_mix 76 = .ok (.goto (-64), 3) := dk_167 255 192 (dk_at dksX0_mix_3 4 rfl rfl)
theorem dX0_mix_79 : decode cX0_mix 79 = .ok (.iconst 0, 1) := dk_3 (dk_at dksX0_mix_3 7 rfl rfl)
theorem dX0_mix_80 : decode cX0_mix 80 = .ok (.istore_n 1, 1) := dk_60 (dk_at dksX0_mix_3 8 rfl rfl)
theorem dX0_mix_81 : decode cX0_mix 81 = .ok (.iload_n 1, 1) := dk_27 (dk_at dksX0_mix_3 9 rfl rfl)
theorem dX0_mix_82 : decode cX0_mix 82 = .ok (.bipush 8, 2) := dk_16 8 (dk_at dksX0_mix_3 10 rfl rfl)
theorem dX0_mix_84 : decode cX0_mix 84 = .ok (.if_icmp .ge 60, 3) := dk_162 0 60 (dk_at dksX0_mix_3 12 rfl rfl)
theorem dX0_mix_87 : decode cX0_mix 87 = .ok (.iconst 0, 1) := dk_3 (dk_at dksX0_mix_3 15 rfl rfl)
theorem dX0_mix_88 : decode cX0_mix 88 = .ok (.istore_n 2, 1) := dk_61 (dk_at dksX0_mix_3 16 rfl rfl)
theorem dX0_mix_89 : decode cX0_mix 89 = .ok (.iload_n 2, 1) := dk_28 (dk_at dksX0_mix_3 17 rfl rfl)
theorem dX0_mix_90 : decode cX0_mix 90 = .ok (.aload_n 0, 1) := dk_42 (dk_at dksX0_mix_3 18 rfl rfl)
theorem dX0_mix_91 : decode cX0_mix 91 = .ok (.getfield 55, 3) := dk_180 0 55 (dk_at dksX0_mix_3 19 rfl rfl)
theorem dX0_mix_94 : decode cX0_mix 94 = .ok (.iload_n 1, 1) := dk_27 (dk_at dksX0_mix_3 22 rfl rfl)
theorem dX0_mix_95 : decode cX0_mix 95 = .ok (.aaload, 1) := dk_50 (dk_at dksX0_mix_3 23 rfl rfl)
theorem dX0_mix_96 : decode cX0_mix 96 = .ok (.getfield 238, 3) := dk_180 0 238 (dk_at dksX0_mix_4 0 rfl rfl)
theorem dX0_mix_99 : decode cX0_mix 99 = .ok (.if_icmp .ge 39, 3) := dk_162 0 39 (dk_at dksX0_mix_4 3 rfl rfl)
theorem dX0_mix_102 : decode cX0_mix 102 = .ok (.aload_n 0, 1) := dk_42 (dk_at dksX0_mix_4 6 rfl rfl)
theorem dX0_mix_103 : decode cX0_mix 103 = .ok (.iload_n 1, 1) := dk_27 (dk_at dksX0_mix_4 7 rfl rfl)
theorem dX0_mix_104 : decode cX0_mix 104 = .ok (.aload_n 0, 1) := dk_42 (dk_at dksX0_mix_4 8 rfl rfl)
theorem dX0_mix_105 : decode cX0_mix 105 = .ok (.getfield 55, 3) := dk_180 0 55 (dk_at dksX0_mix_4 9 rfl rfl)
theorem dX0_mix_108 : decode cX0_mix 108 = .ok (.iload_n 1, 1) := dk_27 (dk_at dksX0_mix_4 12 rfl rfl)
theorem dX0_mix_109 : decode cX0_mix 109 = .ok (.aaload, 1) := dk_50 (dk_at dksX0_mix_4 13 rfl rfl)
theorem dX0_mix_110 : decode cX0_mix 110 = .ok (.getfield 274, 3) := dk_180 1 18 (dk_at dksX0_mix_4 14 rfl rfl)
theorem dX0_mix_113 : decode cX0_mix 113 = .ok (.iload_n 2, 1) := dk_28 (dk_at dksX0_mix_4 17 rfl rfl)
theorem dX0_mix_114 : decode cX0_mix 114 = .ok (.iaload, 1) := dk_46 (dk_at dksX0_mix_4 18 rfl rfl)
theorem dX0_mix_115 : decode cX0_mix 115 = .ok (.aload_n 0, 1) := dk_42 (dk_at dksX0_mix_4 19 rfl rfl)
theorem dX0_mix_116 : decode cX0_mix 116 = .ok (.getfield 55, 3) := dk_180 0 55 (dk_at dksX0_mix_4 20 rfl rfl)
theorem dX0_mix_119 : decode cX0_mix 119 = .ok (.iload_n 1, 1) := dk_27 (dk_at dksX0_mix_4 23 rfl rfl)
theorem dX0_mix_120 : decode cX0_mix 120 = .ok (.aaload, 1) := dk_50 (dk_at dksX0_mix_5 0 rfl rfl)
theorem dX0_mix_121 : decode cX0_mix 121 = .ok (.getfield 277, 3) := dk_180 1 21 (dk_at dksX0_mix_5 1 rfl rfl)
theorem dX0_mix_124 : decode cX0_mix 124 = .ok (.iload_n 2, 1) := dk_28 (dk_at dksX0_mix_5 4 rfl rfl)
theorem dX0_mix_125 : decode cX0_mix 125 = .ok (.iaload, 1) := dk_46 (dk_at dksX0_mix_5 5 rfl rfl)
theorem dX0_mix_126 : decode cX0_mix 126 = .ok (.iload_n 2, 1) := dk_28 (dk_at dksX0_mix_5 6 rfl rfl)
theorem dX0_mix_127 : decode cX0_mix 127 = .ok (.iconst 1, 1) := dk_4 (dk_at dksX0_mix_5 7 rfl rfl)
theorem dX0_mix_128 : decode cX0_mix 128 = .ok (.iadd, 1) := dk_96 (dk_at dksX0_mix_5 8 rfl rfl)
theorem dX0_mix_129 : decode cX0_mix 129 = .ok (.invokevirtual 310, 3) := dk_182 1 54 (dk_at dksX0_mix_5 9 rfl rfl)
theorem dX0_mix_132 : decode cX0_mix 132 = .ok (.iinc 2 1, 3) := dk_132 2 1 (dk_at dksX0_mix_5 12 rfl rfl)
theorem dX0_mix_135 : decode cX0_mix 135 = .ok (.goto (-46), 3) := dk_167 255 210 (dk_at dksX0_mix_5 15 rfl rfl)
theorem dX0_mix_138 : decode cX0_mix 138 = .ok (.iinc 1 1, 3) := dk_132 1 1 (dk_at dksX0_mix_5 18 rfl rfl)
theorem dX0_mix_141 : decode cX0_mix 141 = .ok (.goto (-60), 3) := dk_167 255 196 (dk_at dksX0_mix_5 21 rfl rfl)
theorem dX0_mix_144 : decode cX0_mix 144 = .ok (.aload_n 0, 1) := dk_42 (dk_at dksX0_mix_6 0 rfl rfl)
theorem dX0_mix_145 : decode cX0_mix 145 = .ok (.dup, 1) := dk_89 (dk_at dksX0_mix_6 1 rfl rfl)
theorem dX0_mix_146 : decode cX0_mix 146 = .ok (.getfield 220, 3) := dk_180 0 220 (dk_at dksX0_mix_6 2 rfl rfl)
theorem dX0_mix_149 : decode cX0_mix 149 = .ok (.iconst 1, 1) := dk_4 (dk_at dksX0_mix_6 5 rfl rfl)
theorem dX0_mix_150 : decode cX0_mix 150 = .ok (.iadd, 1) := dk_96 (dk_at dksX0_mix_6 6 rfl rfl)
theorem dX0_mix_151 : decode cX0_mix 151 = .ok (.putfield 220, 3) := dk_181 0 220 (dk_at dksX0_mix_6 7 rfl rfl)
theorem dX0_mix_154 : decode cX0_mix 154 = .ok (.aload_n 0, 1) := dk_42 (dk_at dksX0_mix_6 10 rfl rfl)
theorem dX0_mix_155 : decode cX0_mix 155 = .ok (.dup, 1) := dk_89 (dk_at dksX0_mix_6 11 rfl rfl)
theorem dX0_mix_156 : decode cX0_mix 156 = .ok (.getfield 226, 3) := dk_180 0 226 (dk_at dksX0_mix_6 12 rfl rfl)
theorem dX0_mix_159 : decode cX0_mix 159 = .ok (.iconst 1, 1) := dk_4 (dk_at dksX0_mix_6 15 rfl rfl)
theorem dX0_mix_160 : decode cX0_mix 160 = .ok (.isub, 1) := dk_100 (dk_at dksX0_mix_6 16 rfl rfl)
theorem dX0_mix_161 : decode cX0_mix 161 = .ok (.putfield 226, 3) := dk_181 0 226 (dk_at dksX0_mix_6 17 rfl rfl)
theorem dX0_mix_164 : decode cX0_mix 164 = .ok (.aload_n 0, 1) := dk_42 (dk_at dksX0_mix_6 20 rfl rfl)
theorem dX0_mix_165 : decode cX0_mix 165 = .ok (.aload_n 0, 1) := dk_42 (dk_at dksX0_mix_6 21 rfl rfl)
theorem dX0_mix_166 : decode cX0_mix 166 = .ok (.getfield 226, 3) := dk_180 0 226 (dk_at dksX0_mix_7 0 rfl rfl)
theorem dX0_mix_169 : decode cX0_mix 169 = .ok (.ifCond .le 14, 3) := dk_158 0 14 (dk_at dksX0_mix_7 3 rfl rfl)
theorem dX0_mix_172 : decode cX0_mix 172 = .ok (.aload_n 0, 1) := dk_42 (dk_at dksX0_mix_7 6 rfl rfl)
theorem dX0_mix_173 : decode cX0_mix 173 = .ok (.getfield 223, 3) := dk_180 0 223 (dk_at dksX0_mix_7 7 rfl rfl)
theorem dX0_mix_176 : decode cX0_mix 176 = .ok (.ifCond .ne 7, 3) := dk_154 0 7 (dk_at dksX0_mix_7 10 rfl rfl)
theorem dX0_mix_179 : decode cX0_mix 179 = .ok (.iconst 1, 1) := dk_4 (dk_at dksX0_mix_7 13 rfl rfl)
theorem dX0_mix_180 : decode cX0_mix 180 = .ok (.goto 4, 3) := dk_167 0 4 (dk_at dksX0_mix_7 14 rfl rfl)
theorem dX0_mix_183 : decode cX0_mix 183 = .ok (.iconst 0, 1) := dk_3 (dk_at dksX0_mix_7 17 rfl rfl)
theorem dX0_mix_184 : decode cX0_mix 184 = .ok (.putfield 111, 3) := dk_181 0 111 (dk_at dksX0_mix_7 18 rfl rfl)
theorem dX0_mix_187 : decode cX0_mix 187 = .ok (.iconst 0, 1) := dk_3 (dk_at dksX0_mix_7 21 rfl rfl)
theorem dX0_mix_188 : decode cX0_mix 188 = .ok (.istore_n 1, 1) := dk_60 (dk_at dksX0_mix_7 22 rfl rfl)
theorem dX0_mix_189 : decode cX0_mix 189 = .ok (.iload_n 1, 1) := dk_27 (dk_at dksX0_mix_7 23 rfl rfl)
theorem dX0_mix_190 : decode cX0_mix 190 = .ok (.aload_n 0, 1) := dk_42 (dk_at dksX0_mix_8 0 rfl rfl)
theorem dX0_mix_191 : decode cX0_mix 191 = .ok (.getfield 180, 3) := dk_180 0 180 (dk_at dksX0_mix_8 1 rfl rfl)
theorem dX0_mix_194 : decode cX0_mix 194 = .ok (.if_icmp .ge 71, 3) := dk_162 0 71 (dk_at dksX0_mix_8 4 rfl rfl)
theorem dX0_mix_197 : decode cX0_mix 197 = .ok (.aload_n 0, 1) := dk_42 (dk_at dksX0_mix_8 7 rfl rfl)
theorem dX0_mix_198 : decode cX0_mix 198 = .ok (.aload_n 0, 1) := dk_42 (dk_at dksX0_mix_8 8 rfl rfl)
theorem dX0_mix_199 : decode cX0_mix 199 = .ok (.getfield 77, 3) := dk_180 0 77 (dk_at dksX0_mix_8 9 rfl rfl)
theorem dX0_mix_202 : decode cX0_mix 202 = .ok (.iconst 5, 1) := dk_8 (dk_at dksX0_mix_8 12 rfl rfl)
theorem dX0_mix_203 : decode cX0_mix 203 = .ok (.iload_n 1, 1) := dk_27 (dk_at dksX0_mix_8 13 rfl rfl)
theorem dX0_mix_204 : decode cX0_mix 204 = .ok (.imul, 1) := dk_104 (dk_at dksX0_mix_8 14 rfl rfl)
theorem dX0_mix_205 : decode cX0_mix 205 = .ok (.iaload, 1) := dk_46 (dk_at dksX0_mix_8 15 rfl rfl)
theorem dX0_mix_206 : decode cX0_mix 206 = .ok (.aload_n 0, 1) := dk_42 (dk_at dksX0_mix_8 16 rfl rfl)
theorem dX0_mix_207 : decode cX0_mix 207 = .ok (.getfield 77, 3) := dk_180 0 77 (dk_at dksX0_mix_8 17 rfl rfl)
theorem dX0_mix_210 : decode cX0_mix 210 = .ok (.iconst 5, 1) := dk_8 (dk_at dksX0_mix_8 20 rfl rfl)
theorem dX0_mix_211 : decode cX0_mix 211 = .ok (.iload_n 1, 1) := dk_27 (dk_at dksX0_mix_8 21 rfl rfl)
theorem dX0_mix_212 : decode cX0_mix 212 = .ok (.imul, 1) := dk_104 (dk_at dksX0_mix_8 22 rfl rfl)
theorem dX0_mix_213 : decode cX0_mix 213 = .ok (.iconst 1, 1) := dk_4 (dk_at dksX0_mix_8 23 rfl rfl)
theorem dX0_mix_214 : decode cX0_mix 214 = .ok (.iadd, 1) := dk_96 (dk_at dksX0_mix_9 0 rfl rfl)
theorem dX0_mix_215 : decode cX0_mix 215 = .ok (.iaload, 1) := dk_46 (dk_at dksX0_mix_9 1 rfl rfl)
theorem dX0_mix_216 : decode cX0_mix 216 = .ok (.aload_n 0, 1) := dk_42 (dk_at dksX0_mix_9 2 rfl rfl)
theorem dX0_mix_217 : decode cX0_mix 217 = .ok (.getfield 77, 3) := dk_180 0 77 (dk_at dksX0_mix_9 3 rfl rfl)
theorem dX0_mix_220 : decode cX0_mix 220 = .ok (.iconst 5, 1) := dk_8 (dk_at dksX0_mix_9 6 rfl rfl)
theorem dX0_mix_221 : decode cX0_mix 221 = .ok (.iload_n 1, 1) := dk_27 (dk_at dksX0_mix_9 7 rfl rfl)
theorem dX0_mix_222 : decode cX0_mix 222 = .ok (.imul, 1) := dk_104 (dk_at dksX0_mix_9 8 rfl rfl)
theorem dX0_mix_223 : decode cX0_mix 223 = .ok (.iconst 2, 1) := dk_5 (dk_at dksX0_mix_9 9 rfl rfl)
theorem dX0_mix_224 : decode cX0_mix 224 = .ok (.iadd, 1) := dk_96 (dk_at dksX0_mix_9 10 rfl rfl)
theorem dX0_mix_225 : decode cX0_mix 225 = .ok (.iaload, 1) := dk_46 (dk_at dksX0_mix_9 11 rfl rfl)
theorem dX0_mix_226 : decode cX0_mix 226 = .ok (.aload_n 0, 1) := dk_42 (dk_at dksX0_mix_9 12 rfl rfl)
theorem dX0_mix_227 : decode cX0_mix 227 = .ok (.getfield 77, 3) := dk_180 0 77 (dk_at dksX0_mix_9 13 rfl rfl)
theorem dX0_mix_230 : decode cX0_mix 230 = .ok (.iconst 5, 1) := dk_8 (dk_at dksX0_mix_9 16 rfl rfl)
theorem dX0_mix_231 : decode cX0_mix 231 = .ok (.iload_n 1, 1) := dk_27 (dk_at dksX0_mix_9 17 rfl rfl)
theorem dX0_mix_232 : decode cX0_mix 232 = .ok (.imul, 1) := dk_104 (dk_at dksX0_mix_9 18 rfl rfl)
theorem dX0_mix_233 : decode cX0_mix 233 = .ok (.iconst 3, 1) := dk_6 (dk_at dksX0_mix_9 19 rfl rfl)
theorem dX0_mix_234 : decode cX0_mix 234 = .ok (.iadd, 1) := dk_96 (dk_at dksX0_mix_9 20 rfl rfl)
theorem dX0_mix_235 : decode cX0_mix 235 = .ok (.iaload, 1) := dk_46 (dk_at dksX0_mix_9 21 rfl rfl)
theorem dX0_mix_236 : decode cX0_mix 236 = .ok (.aload_n 0, 1) := dk_42 (dk_at dksX0_mix_9 22 rfl rfl)
theorem dX0_mix_237 : decode cX0_mix 237 = .ok (.getfield 77, 3) := dk_180 0 77 (dk_at dksX0_mix_10 0 rfl rfl)
theorem dX0_mix_240 : decode cX0_mix 240 = .ok (.iconst 5, 1) := dk_8 (dk_at dksX0_mix_10 3 rfl rfl)
theorem dX0_mix_241 : decode cX0_mix 241 = .ok (.iload_n 1, 1) := dk_27 (dk_at dksX0_mix_10 4 rfl rfl)
theorem dX0_mix_242 : decode cX0_mix 242 = .ok (.imul, 1) := dk_104 (dk_at dksX0_mix_10 5 rfl rfl)
theorem dX0_mix_243 : decode cX0_mix 243 = .ok (.iconst 4, 1) := dk_7 (dk_at dksX0_mix_10 6 rfl rfl)
theorem dX0_mix_244 : decode cX0_mix 244 = .ok (.iadd, 1) := dk_96 (dk_at dksX0_mix_10 7 rfl rfl)
theorem dX0_mix_245 : decode cX0_mix 245 = .ok (.iaload, 1) := dk_46 (dk_at dksX0_mix_10 8 rfl rfl)
theorem dX0_mix_246 : decode cX0_mix 246 = .ok (.iconst 1, 1) := dk_4 (dk_at dksX0_mix_10 9 rfl rfl)
theorem dX0_mix_247 : decode cX0_mix 247 = .ok (.if_icmp .ne 7, 3) := dk_160 0 7 (dk_at dksX0_mix_10 10 rfl rfl)
theorem dX0_mix_250 : decode cX0_mix 250 = .ok (.iconst 1, 1) := dk_4 (dk_at dksX0_mix_10 13 rfl rfl)
theorem dX0_mix_251 : decode cX0_mix 251 = .ok (.goto 4, 3) := dk_167 0 4 (dk_at dksX0_mix_10 14 rfl rfl)
theorem dX0_mix_254 : decode cX0_mix 254 = .ok (.iconst 0, 1) := dk_3 (dk_at dksX0_mix_10 17 rfl rfl)
theorem dX0_mix_255 : decode cX0_mix 255 = .ok (.invokevirtual 176, 3) := dk_182 0 176 (dk_at dksX0_mix_10 18 rfl rfl)
theorem dX0_mix_258 : decode cX0_mix 258 = .ok (.istore_n 2, 1) := dk_61 (dk_at dksX0_mix_10 21 rfl rfl)
theorem dX0_mix_259 : decode cX0_mix 259 = .ok (.iinc 1 1, 3) := dk_132 1 1 (dk_at dksX0_mix_11 0 rfl rfl)
theorem dX0_mix_262 : decode cX0_mix 262 = .ok (.goto (-73), 3) := dk_167 255 183 (dk_at dksX0_mix_11 3 rfl rfl)
theorem dX0_mix_265 : decode cX0_mix 265 = .ok (.aload_n 0, 1) := dk_42 (dk_at dksX0_mix_11 6 rfl rfl)
theorem dX0_mix_266 : decode cX0_mix 266 = .ok (.iconst 0, 1) := dk_3 (dk_at dksX0_mix_11 7 rfl rfl)
theorem dX0_mix_267 : decode cX0_mix 267 = .ok (.putfield 180, 3) := dk_181 0 180 (dk_at dksX0_mix_11 8 rfl rfl)
theorem dX0_mix_270 : decode cX0_mix 270 = .ok (.aload_n 0, 1) := dk_42 (dk_at dksX0_mix_11 11 rfl rfl)
theorem dX0_mix_271 : decode cX0_mix 271 = .ok (.getfield 111, 3) := dk_180 0 111 (dk_at dksX0_mix_11 12 rfl rfl)
theorem dX0_mix_274 : decode cX0_mix 274 = .ok (.ifCond .eq 10, 3) := dk_153 0 10 (dk_at dksX0_mix_11 15 rfl rfl)
theorem dX0_mix_277 : decode cX0_mix 277 = .ok (.aload_n 0, 1) := dk_42 (dk_at dksX0_mix_11 18 rfl rfl)
theorem dX0_mix_278 : decode cX0_mix 278 = .ok (.invokevirtual 229, 3) := dk_182 0 229 (dk_at dksX0_mix_11 19 rfl rfl)
theorem dX0_mix_281 : decode cX0_mix 281 = .ok (.goto 8, 3) := dk_167 0 8 (dk_at dksX0_mix_12 0 rfl rfl)
theorem dX0_mix_284 : decode cX0_mix 284 = .ok (.aload_n 0, 1) := dk_42 (dk_at dksX0_mix_12 3 rfl rfl)
theorem dX0_mix_285 : decode cX0_mix 285 = .ok (.iconst 0, 1) := dk_3 (dk_at dksX0_mix_12 4 rfl rfl)
theorem dX0_mix_286 : decode cX0_mix 286 = .ok (.putfield 226, 3) := dk_181 0 226 (dk_at dksX0_mix_12 5 rfl rfl)
theorem dX0_mix_289 : decode cX0_mix 289 = .ok (.aload_n 0, 1) := dk_42 (dk_at dksX0_mix_12 8 rfl rfl)
theorem dX0_mix_290 : decode cX0_mix 290 = .ok (.getfield 111, 3) := dk_180 0 111 (dk_at dksX0_mix_12 9 rfl rfl)
theorem dX0_mix_293 : decode cX0_mix 293 = .ok (.ifCond .eq 7, 3) := dk_153 0 7 (dk_at dksX0_mix_12 12 rfl rfl)
theorem dX0_mix_296 : decode cX0_mix 296 = .ok (.iconst 3, 1) := dk_6 (dk_at dksX0_mix_12 15 rfl rfl)
theorem dX0_mix_297 : decode cX0_mix 297 = .ok (.goto 4, 3) := dk_167 0 4 (dk_at dksX0_mix_12 16 rfl rfl)
theorem dX0_mix_300 : decode cX0_mix 300 = .ok (.iconst 4, 1) := dk_7 (dk_at dksX0_mix_12 19 rfl rfl)
theorem dX0_mix_301 : decode cX0_mix 301 = .ok (.ireturn, 1) := dk_172 (dk_at dksX0_mix_12 20 rfl rfl)
abbrev cX0_pair : ByteArray := prog_1_method_39_code
def yX0_pair : MethodName := ⟨RX0, "pair", "(II)F"⟩
def dkwX0_pair_0 : List UInt8 := [42, 27, 28, 182, 1, 47, 42, 27, 4, 96, 28, 182, 1, 47, 98, 184, 1, 43, 174]
abbrev dktX0_pair_0 : List UInt8 := dkwX0_pair_0 ++ []
theorem dksX0_pair_0 : cX0_pair.data.toList.drop 0 = dktX0_pair_0 := by decide +kernel
theorem dX0_pair_0 : decode cX0_pair 0 = .ok (.aload_n 0, 1) := dk_42 (dk_at dksX0_pair_0 0 rfl rfl)
theorem dX0_pair_1 : decode cX0_pair 1 = .ok (.iload_n 1, 1) := dk_27 (dk_at dksX0_pair_0 1 rfl rfl)
theorem dX0_pair_2 : decode cX0_pair 2 = .ok (.iload_n 2, 1) := dk_28 (dk_at dksX0_pair_0 2 rfl rfl)
theorem dX0_pair_3 : decode cX0_pair 3 = .ok (.invokevirtual 303, 3) := dk_182 1 47 (dk_at dksX0_pair_0 3 rfl rfl)
theorem dX0_pair_6 : decode cX0_pair 6 = .ok (.aload_n 0, 1) := dk_42 (dk_at dksX0_pair_0 6 rfl rfl)
theorem dX0_pair_7 : decode cX0_pair 7 = .ok (.iload_n 1, 1) := dk_27 (dk_at dksX0_pair_0 7 rfl rfl)
theorem dX0_pair_8 : decode cX0_pair 8 = .ok (.iconst 1, 1) := dk_4 (dk_at dksX0_pair_0 8 rfl rfl)
theorem dX0_pair_9 : decode cX0_pair 9 = .ok (.iadd, 1) := dk_96 (dk_at dksX0_pair_0 9 rfl rfl)
theorem dX0_pair_10 : decode cX0_pair 10 = .ok (.iload_n 2, 1) := dk_28 (dk_at dksX0_pair_0 10 rfl rfl)
theorem dX0_pair_11 : decode cX0_pair 11 = .ok (.invokevirtual 303, 3) := dk_182 1 47 (dk_at dksX0_pair_0 11 rfl rfl)
theorem dX0_pair_14 : decode cX0_pair 14 = .ok (.fadd, 1) := dk_98 (dk_at dksX0_pair_0 14 rfl rfl)
theorem dX0_pair_15 : decode cX0_pair 15 = .ok (.invokestatic 299, 3) := dk_184 1 43 (dk_at dksX0_pair_0 15 rfl rfl)
theorem dX0_pair_18 : decode cX0_pair 18 = .ok (.freturn, 1) := dk_174 (dk_at dksX0_pair_0 18 rfl rfl)
abbrev cX0_levelled : ByteArray := prog_1_method_38_code
def yX0_levelled : MethodName := ⟨RX0, "levelled", "(II)F"⟩
def dkwX0_levelled_1 : List UInt8 := [180, 0, 55, 27, 50, 180, 0, 207, 106, 184, 1, 43, 167, 0, 4, 11, 174]
abbrev dktX0_levelled_1 : List UInt8 := dkwX0_levelled_1 ++ []
def dkwX0_levelled_0 : List UInt8 := [42, 180, 0, 55, 27, 50, 180, 0, 211, 153, 0, 30, 42, 180, 0, 55, 27, 50, 180, 1, 31, 28, 48, 42]
abbrev dktX0_levelled_0 : List UInt8 := dkwX0_levelled_0 ++ dktX0_levelled_1
theorem dksX0_levelled_0 : cX0_levelled.data.toList.drop 0 = dktX0_levelled_0 := by decide +kernel
theorem dksX0_levelled_1 : cX0_levelled.data.toList.drop 24 = dktX0_levelled_1 := dk_seg dksX0_levelled_0 24 rfl rfl
theorem dX0_levelled_0 : decode cX0_levelled 0 = .ok (.aload_n 0, 1) := dk_42 (dk_at dksX0_levelled_0 0 rfl rfl)
theorem dX0_levelled_1 : decode cX0_levelled 1 = .ok (.getfield 55, 3) := dk_180 0 55 (dk_at dksX0_levelled_0 1 rfl rfl)
theorem dX0_levelled_4 : decode cX0_levelled 4 = .ok (.iload_n 1, 1) := dk_27 (dk_at dksX0_levelled_0 4 rfl rfl)
theorem dX0_levelled_5 : decode cX0_levelled 5 = .ok (.aaload, 1) := dk_50 (dk_at dksX0_levelled_0 5 rfl rfl)
theorem dX0_levelled_6 : decode cX0_levelled 6 = .ok (.getfield 211, 3) := dk_180 0 211 (dk_at dksX0_levelled_0 6 rfl rfl)
theorem dX0_levelled_9 : decode cX0_levelled 9 = .ok (.ifCond .eq 30, 3) := dk_153 0 30 (dk_at dksX0_levelled_0 9 rfl rfl)
theorem dX0_levelled_12 : decode cX0_levelled 12 = .ok (.aload_n 0, 1) := dk_42 (dk_at dksX0_levelled_0 12 rfl rfl)
theorem dX0_levelled_13 : decode cX0_levelled 13 = .ok (.getfield 55, 3) := dk_180 0 55 (dk_at dksX0_levelled_0 13 rfl rfl)
theorem dX0_levelled_16 : decode cX0_levelled 16 = .ok (.iload_n 1, 1) := dk_27 (dk_at dksX0_levelled_0 16 rfl rfl)
theorem dX0_levelled_17 : decode cX0_levelled 17 = .ok (.aaload, 1) := dk_50 (dk_at dksX0_levelled_0 17 rfl rfl)
theorem dX0_levelled_18 : decode cX0_levelled 18 = .ok (.getfield 287, 3) := dk_180 1 31 (dk_at dksX0_levelled_0 18 rfl rfl)
theorem dX0_levelled_21 : decode cX0_levelled 21 = .ok (.iload_n 2, 1) := dk_28 (dk_at dksX0_levelled_0 21 rfl rfl)
theorem dX0_levelled_22 : decode cX0_levelled 22 = .ok (.faload, 1) := dk_48 (dk_at dksX0_levelled_0 22 rfl rfl)
theorem dX0_levelled_23 : decode cX0_levelled 23 = .ok (.aload_n 0, 1) := dk_42 (dk_at dksX0_levelled_0 23 rfl rfl)
theorem dX0_levelled_24 : decode cX0_levelled 24 = .ok (.getfield 55, 3) := dk_180 0 55 (dk_at dksX0_levelled_1 0 rfl rfl)
theorem dX0_levelled_27 : decode cX0_levelled 27 = .ok (.iload_n 1, 1) := dk_27 (dk_at dksX0_levelled_1 3 rfl rfl)
theorem dX0_levelled_28 : decode cX0_levelled 28 = .ok (.aaload, 1) := dk_50 (dk_at dksX0_levelled_1 4 rfl rfl)
theorem dX0_levelled_29 : decode cX0_levelled 29 = .ok (.getfield 207, 3) := dk_180 0 207 (dk_at dksX0_levelled_1 5 rfl rfl)
theorem dX0_levelled_32 : decode cX0_levelled 32 = .ok (.fmul, 1) := dk_106 (dk_at dksX0_levelled_1 8 rfl rfl)
theorem dX0_levelled_33 : decode cX0_levelled 33 = .ok (.invokestatic 299, 3) := dk_184 1 43 (dk_at dksX0_levelled_1 9 rfl rfl)
theorem dX0_levelled_36 : decode cX0_levelled 36 = .ok (.goto 4, 3) := dk_167 0 4 (dk_at dksX0_levelled_1 12 rfl rfl)
theorem dX0_levelled_39 : decode cX0_levelled 39 = .ok (.fconst 0, 1) := dk_11 (dk_at dksX0_levelled_1 15 rfl rfl)
theorem dX0_levelled_40 : decode cX0_levelled 40 = .ok (.freturn, 1) := dk_174 (dk_at dksX0_levelled_1 16 rfl rfl)
abbrev cX0_note : ByteArray := prog_1_method_41_code
def yX0_note : MethodName := ⟨RX0, "note", "(IIII)V"⟩
def dkwX0_note_4 : List UInt8 := [177]
abbrev dktX0_note_4 : List UInt8 := dkwX0_note_4 ++ []
def dkwX0_note_3 : List UInt8 := [180, 0, 74, 8, 42, 180, 1, 58, 104, 7, 96, 21, 4, 79, 42, 89, 180, 1, 58, 4, 96, 181, 1, 58]
abbrev dktX0_note_3 : List UInt8 := dkwX0_note_3 ++ dktX0_note_4
def dkwX0_note_2 : List UInt8 := [180, 1, 58, 104, 5, 96, 28, 79, 42, 180, 0, 74, 8, 42, 180, 1, 58, 104, 6, 96, 29, 79, 42]
abbrev dktX0_note_2 : List UInt8 := dkwX0_note_2 ++ dktX0_note_3
def dkwX0_note_1 : List UInt8 := [180, 0, 74, 8, 42, 180, 1, 58, 104, 4, 96, 42, 180, 0, 220, 79, 42, 180, 0, 74, 8, 42]
abbrev dktX0_note_1 : List UInt8 := dkwX0_note_1 ++ dktX0_note_2
def dkwX0_note_0 : List UInt8 := [42, 180, 1, 58, 16, 100, 162, 0, 75, 42, 180, 0, 74, 8, 42, 180, 1, 58, 104, 27, 79, 42]
abbrev dktX0_note_0 : List UInt8 := dkwX0_note_0 ++ dktX0_note_1
theorem dksX0_note_0 : cX0_note.data.toList.drop 0 = dktX0_note_0 := by decide +kernel
theorem dksX0_note_1 : cX0_note.data.toList.drop 22 = dktX0_note_1 := dk_seg dksX0_note_0 22 rfl rfl
theorem dksX0_note_2 : cX0_note.data.toList.drop 44 = dktX0_note_2 := dk_seg dksX0_note_1 22 rfl rfl
theorem dksX0_note_3 : cX0_note.data.toList.drop 67 = dktX0_note_3 := dk_seg dksX0_note_2 23 rfl rfl
theorem dksX0_note_4 : cX0_note.data.toList.drop 91 = dktX0_note_4 := dk_seg dksX0_note_3 24 rfl rfl
theorem dX0_note_0 : decode cX0_note 0 = .ok (.aload_n 0, 1) := dk_42 (dk_at dksX0_note_0 0 rfl rfl)
theorem dX0_note_1 : decode cX0_note 1 = .ok (.getfield 314, 3) := dk_180 1 58 (dk_at dksX0_note_0 1 rfl rfl)
theorem dX0_note_4 : decode cX0_note 4 = .ok (.bipush 100, 2) := dk_16 100 (dk_at dksX0_note_0 4 rfl rfl)
theorem dX0_note_6 : decode cX0_note 6 = .ok (.if_icmp .ge 75, 3) := dk_162 0 75 (dk_at dksX0_note_0 6 rfl rfl)
theorem dX0_note_9 : decode cX0_note 9 = .ok (.aload_n 0, 1) := dk_42 (dk_at dksX0_note_0 9 rfl rfl)
theorem dX0_note_10 : decode cX0_note 10 = .ok (.getfield 74, 3) := dk_180 0 74 (dk_at dksX0_note_0 10 rfl rfl)
theorem dX0_note_13 : decode cX0_note 13 = .ok (.iconst 5, 1) := dk_8 (dk_at dksX0_note_0 13 rfl rfl)
theorem dX0_note_14 : decode cX0_note 14 = .ok (.aload_n 0, 1) := dk_42 (dk_at dksX0_note_0 14 rfl rfl)
theorem dX0_note_15 : decode cX0_note 15 = .ok (.getfield 314, 3) := dk_180 1 58 (dk_at dksX0_note_0 15 rfl rfl)
theorem dX0_note_18 : decode cX0_note 18 = .ok (.imul, 1) := dk_104 (dk_at dksX0_note_0 18 rfl rfl)
theorem dX0_note_19 : decode cX0_note 19 = .ok (.iload_n 1, 1) := dk_27 (dk_at dksX0_note_0 19 rfl rfl)
theorem dX0_note_20 : decode cX0_note 20 = .ok (.iastore, 1) := dk_79 (dk_at dksX0_note_0 20 rfl rfl)
theorem dX0_note_21 : decode cX0_note 21 = .ok (.aload_n 0, 1) := dk_42 (dk_at dksX0_note_0 21 rfl rfl)
theorem dX0_note_22 : decode cX0_note 22 = .ok (.getfield 74, 3) := dk_180 0 74 (dk_at dksX0_note_1 0 rfl rfl)
theorem dX0_note_25 : decode cX0_note 25 = .ok (.iconst 5, 1) := dk_8 (dk_at dksX0_note_1 3 rfl rfl)
theorem dX0_note_26 : decode cX0_note 26 = .ok (.aload_n 0, 1) := dk_42 (dk_at dksX0_note_1 4 rfl rfl)
theorem dX0_note_27 : decode cX0_note 27 = .ok (.getfield 314, 3) := dk_180 1 58 (dk_at dksX0_note_1 5 rfl rfl)
theorem dX0_note_30 : decode cX0_note 30 = .ok (.imul, 1) := dk_104 (dk_at dksX0_note_1 8 rfl rfl)
theorem dX0_note_31 : decode cX0_note 31 = .ok (.iconst 1, 1) := dk_4 (dk_at dksX0_note_1 9 rfl rfl)
theorem dX0_note_32 : decode cX0_note 32 = .ok (.iadd, 1) := dk_96 (dk_at dksX0_note_1 10 rfl rfl)
theorem dX0_note_33 : decode cX0_note 33 = .ok (.aload_n 0, 1) := dk_42 (dk_at dksX0_note_1 11 rfl rfl)
theorem dX0_note_34 : decode cX0_note 34 = .ok (.getfield 220, 3) := dk_180 0 220 (dk_at dksX0_note_1 12 rfl rfl)
theorem dX0_note_37 : decode cX0_note 37 = .ok (.iastore, 1) := dk_79 (dk_at dksX0_note_1 15 rfl rfl)
theorem dX0_note_38 : decode cX0_note 38 = .ok (.aload_n 0, 1) := dk_42 (dk_at dksX0_note_1 16 rfl rfl)
theorem dX0_note_39 : decode cX0_note 39 = .ok (.getfield 74, 3) := dk_180 0 74 (dk_at dksX0_note_1 17 rfl rfl)
theorem dX0_note_42 : decode cX0_note 42 = .ok (.iconst 5, 1) := dk_8 (dk_at dksX0_note_1 20 rfl rfl)
theorem dX0_note_43 : decode cX0_note 43 = .ok (.aload_n 0, 1) := dk_42 (dk_at dksX0_note_1 21 rfl rfl)
theorem dX0_note_44 : decode cX0_note 44 = .ok (.getfield 314, 3) := dk_180 1 58 (dk_at dksX0_note_2 0 rfl rfl)
theorem dX0_note_47 : decode cX0_note 47 = .ok (.imul, 1) := dk_104 (dk_at dksX0_note_2 3 rfl rfl)
theorem dX0_note_48 : decode cX0_note 48 = .ok (.iconst 2, 1) := dk_5 (dk_at dksX0_note_2 4 rfl rfl)
theorem dX0_note_49 : decode cX0_note 49 = .ok (.iadd, 1) := dk_96 (dk_at dksX0_note_2 5 rfl rfl)
theorem dX0_note_50 : decode cX0_note 50 = .ok (.iload_n 2, 1) := dk_28 (dk_at dksX0_note_2 6 rfl rfl)
theorem dX0_note_51 : decode cX0_note 51 = .ok (.iastore, 1) := dk_79 (dk_at dksX0_note_2 7 rfl rfl)
theorem dX0_note_52 : decode cX0_note 52 = .ok (.aload_n 0, 1) := dk_42 (dk_at dksX0_note_2 8 rfl rfl)
theorem dX0_note_53 : decode cX0_note 53 = .ok (.getfield 74, 3) := dk_180 0 74 (dk_at dksX0_note_2 9 rfl rfl)
theorem dX0_note_56 : decode cX0_note 56 = .ok (.iconst 5, 1) := dk_8 (dk_at dksX0_note_2 12 rfl rfl)
theorem dX0_note_57 : decode cX0_note 57 = .ok (.aload_n 0, 1) := dk_42 (dk_at dksX0_note_2 13 rfl rfl)
theorem dX0_note_58 : decode cX0_note 58 = .ok (.getfield 314, 3) := dk_180 1 58 (dk_at dksX0_note_2 14 rfl rfl)
theorem dX0_note_61 : decode cX0_note 61 = .ok (.imul, 1) := dk_104 (dk_at dksX0_note_2 17 rfl rfl)
theorem dX0_note_62 : decode cX0_note 62 = .ok (.iconst 3, 1) := dk_6 (dk_at dksX0_note_2 18 rfl rfl)
theorem dX0_note_63 : decode cX0_note 63 = .ok (.iadd, 1) := dk_96 (dk_at dksX0_note_2 19 rfl rfl)
theorem dX0_note_64 : decode cX0_note 64 = .ok (.iload_n 3, 1) := dk_29 (dk_at dksX0_note_2 20 rfl rfl)
theorem dX0_note_65 : decode cX0_note 65 = .ok (.iastore, 1) := dk_79 (dk_at dksX0_note_2 21 rfl rfl)
theorem dX0_note_66 : decode cX0_note 66 = .ok (.aload_n 0, 1) := dk_42 (dk_at dksX0_note_2 22 rfl rfl)
theorem dX0_note_67 : decode cX0_note 67 = .ok (.getfield 74, 3) := dk_180 0 74 (dk_at dksX0_note_3 0 rfl rfl)
theorem dX0_note_70 : decode cX0_note 70 = .ok (.iconst 5, 1) := dk_8 (dk_at dksX0_note_3 3 rfl rfl)
theorem dX0_note_71 : decode cX0_note 71 = .ok (.aload_n 0, 1) := dk_42 (dk_at dksX0_note_3 4 rfl rfl)
theorem dX0_note_72 : decode cX0_note 72 = .ok (.getfield 314, 3) := dk_180 1 58 (dk_at dksX0_note_3 5 rfl rfl)
theorem dX0_note_75 : decode cX0_note 75 = .ok (.imul, 1) := dk_104 (dk_at dksX0_note_3 8 rfl rfl)
theorem dX0_note_76 : decode cX0_note 76 = .ok (.iconst 4, 1) := dk_7 (dk_at dksX0_note_3 9 rfl rfl)
theorem dX0_note_77 : decode cX0_note 77 = .ok (.iadd, 1) := dk_96 (dk_at dksX0_note_3 10 rfl rfl)
theorem dX0_note_78 : decode cX0_note 78 = .ok (.iload 4, 2) := dk_21 4 (dk_at dksX0_note_3 11 rfl rfl)
theorem dX0_note_80 : decode cX0_note 80 = .ok (.iastore, 1) := dk_79 (dk_at dksX0_note_3 13 rfl rfl)
theorem dX0_note_81 : decode cX0_note 81 = .ok (.aload_n 0, 1) := dk_42 (dk_at dksX0_note_3 14 rfl rfl)
theorem dX0_note_82 : decode cX0_note 82 = .ok (.dup, 1) := dk_89 (dk_at dksX0_note_3 15 rfl rfl)
theorem dX0_note_83 : decode cX0_note 83 = .ok (.getfield 314, 3) := dk_180 1 58 (dk_at dksX0_note_3 16 rfl rfl)
theorem dX0_note_86 : decode cX0_note 86 = .ok (.iconst 1, 1) := dk_4 (dk_at dksX0_note_3 19 rfl rfl)
theorem dX0_note_87 : decode cX0_note 87 = .ok (.iadd, 1) := dk_96 (dk_at dksX0_note_3 20 rfl rfl)
theorem dX0_note_88 : decode cX0_note 88 = .ok (.putfield 314, 3) := dk_181 1 58 (dk_at dksX0_note_3 21 rfl rfl)
theorem dX0_note_91 : decode cX0_note 91 = .ok (.return_, 1) := dk_177 (dk_at dksX0_note_4 0 rfl rfl)
abbrev cX0_rounds : ByteArray := prog_1_method_43_code
def yX0_rounds : MethodName := ⟨RX0, "rounds", "(II)I"⟩
def dkwX0_rounds_3 : List UInt8 := [172]
abbrev dktX0_rounds_3 : List UInt8 := dkwX0_rounds_3 ++ []
def dkwX0_rounds_2 : List UInt8 := [153, 0, 23, 42, 27, 29, 96, 42, 180, 0, 63, 112, 182, 1, 64, 54, 4, 132, 3, 1, 167, 255, 227, 29]
abbrev dktX0_rounds_2 : List UInt8 := dkwX0_rounds_2 ++ dktX0_rounds_3
def dkwX0_rounds_1 : List UInt8 := [172, 42, 180, 0, 111, 154, 0, 6, 16, 153, 172, 3, 62, 29, 28, 162, 0, 30, 42, 180, 0, 111]
abbrev dktX0_rounds_1 : List UInt8 := dkwX0_rounds_1 ++ dktX0_rounds_2
def dkwX0_rounds_0 : List UInt8 := [42, 27, 182, 1, 61, 154, 0, 6, 16, 155, 172, 28, 3, 17, 0, 200, 184, 0, 81, 154, 0, 6, 16, 154]
abbrev dktX0_rounds_0 : List UInt8 := dkwX0_rounds_0 ++ dktX0_rounds_1
theorem dksX0_rounds_0 : cX0_rounds.data.toList.drop 0 = dktX0_rounds_0 := by decide +kernel
theorem dksX0_rounds_1 : cX0_rounds.data.toList.drop 24 = dktX0_rounds_1 := dk_seg dksX0_rounds_0 24 rfl rfl
theorem dksX0_rounds_2 : cX0_rounds.data.toList.drop 46 = dktX0_rounds_2 := dk_seg dksX0_rounds_1 22 rfl rfl
theorem dksX0_rounds_3 : cX0_rounds.data.toList.drop 70 = dktX0_rounds_3 := dk_seg dksX0_rounds_2 24 rfl rfl
theorem dX0_rounds_0 : decode cX0_rounds 0 = .ok (.aload_n 0, 1) := dk_42 (dk_at dksX0_rounds_0 0 rfl rfl)
theorem dX0_rounds_1 : decode cX0_rounds 1 = .ok (.iload_n 1, 1) := dk_27 (dk_at dksX0_rounds_0 1 rfl rfl)
theorem dX0_rounds_2 : decode cX0_rounds 2 = .ok (.invokevirtual 317, 3) := dk_182 1 61 (dk_at dksX0_rounds_0 2 rfl rfl)
theorem dX0_rounds_5 : decode cX0_rounds 5 = .ok (.ifCond .ne 6, 3) := dk_154 0 6 (dk_at dksX0_rounds_0 5 rfl rfl)
theorem dX0_rounds_8 : decode cX0_rounds 8 = .ok (.bipush (-101), 2) := dk_16 155 (dk_at dksX0_rounds_0 8 rfl rfl)
theorem dX0_rounds_10 : decode cX0_rounds 10 = .ok (.ireturn, 1) := dk_172 (dk_at dksX0_rounds_0 10 rfl rfl)
theorem dX0_rounds_11 : decode cX0_rounds 11 = .ok (.iload_n 2, 1) := dk_28 (dk_at dksX0_rounds_0 11 rfl rfl)
theorem dX0_rounds_12 : decode cX0_rounds 12 = .ok (.iconst 0, 1) := dk_3 (dk_at dksX0_rounds_0 12 rfl rfl)
theorem dX0_rounds_13 : decode cX0_rounds 13 = .ok (.sipush 200, 3) := dk_17 0 200 (dk_at dksX0_rounds_0 13 rfl rfl)
theorem dX0_rounds_16 : decode cX0_rounds 16 = .ok (.invokestatic 81, 3) := dk_184 0 81 (dk_at dksX0_rounds_0 16 rfl rfl)
theorem dX0_rounds_19 : decode cX0_rounds 19 = .ok (.ifCond .ne 6, 3) := dk_154 0 6 (dk_at dksX0_rounds_0 19 rfl rfl)
theorem dX0_rounds_22 : decode cX0_rounds 22 = .ok (.bipush (-102), 2) := dk_16 154 (dk_at dksX0_rounds_0 22 rfl rfl)
theorem dX0_rounds_24 : decode cX0_rounds 24 = .ok (.ireturn, 1) := dk_172 (dk_at dksX0_rounds_1 0 rfl rfl)
theorem dX0_rounds_25 : decode cX0_rounds 25 = .ok (.aload_n 0, 1) := dk_42 (dk_at dksX0_rounds_1 1 rfl rfl)
theorem dX0_rounds_26 : decode cX0_rounds 26 = .ok (.getfield 111, 3) := dk_180 0 111 (dk_at dksX0_rounds_1 2 rfl rfl)
theorem dX0_rounds_29 : decode cX0_rounds 29 = .ok (.ifCond .ne 6, 3) := dk_154 0 6 (dk_at dksX0_rounds_1 5 rfl rfl)
theorem dX0_rounds_32 : decode cX0_rounds 32 = .ok (.bipush (-103), 2) := dk_16 153 (dk_at dksX0_rounds_1 8 rfl rfl)
theorem dX0_rounds_34 : decode cX0_rounds 34 = .ok (.ireturn, 1) := dk_172 (dk_at dksX0_rounds_1 10 rfl rfl)
theorem dX0_rounds_35 : decode cX0_rounds 35 = .ok (.iconst 0, 1) := dk_3 (dk_at dksX0_rounds_1 11 rfl rfl)
theorem dX0_rounds_36 : decode cX0_rounds 36 = .ok (.istore_n 3, 1) := dk_62 (dk_at dksX0_rounds_1 12 rfl rfl)
theorem dX0_rounds_37 : decode cX0_rounds 37 = .ok (.iload_n 3, 1) := dk_29 (dk_at dksX0_rounds_1 13 rfl rfl)
theorem dX0_rounds_38 : decode cX0_rounds 38 = .ok (.iload_n 2, 1) := dk_28 (dk_at dksX0_rounds_1 14 rfl rfl)
theorem dX0_rounds_39 : decode cX0_rounds 39 = .ok (.if_icmp .ge 30, 3) := dk_162 0 30 (dk_at dksX0_rounds_1 15 rfl rfl)
theorem dX0_rounds_42 : decode cX0_rounds 42 = .ok (.aload_n 0, 1) := dk_42 (dk_at dksX0_rounds_1 18 rfl rfl)
theorem dX0_rounds_43 : decode cX0_rounds 43 = .ok (.getfield 111, 3) := dk_180 0 111 (dk_at dksX0_rounds_1 19 rfl rfl)
theorem dX0_rounds_46 : decode cX0_rounds 46 = .ok (.ifCond .eq 23, 3) := dk_153 0 23 (dk_at dksX0_rounds_2 0 rfl rfl)
theorem dX0_rounds_49 : decode cX0_rounds 49 = .ok (.aload_n 0, 1) := dk_42 (dk_at dksX0_rounds_2 3 rfl rfl)
theorem dX0_rounds_50 : decode cX0_rounds 50 = .ok (.iload_n 1, 1) := dk_27 (dk_at dksX0_rounds_2 4 rfl rfl)
theorem dX0_rounds_51 : decode cX0_rounds 51 = .ok (.iload_n 3, 1) := dk_29 (dk_at dksX0_rounds_2 5 rfl rfl)
theorem dX0_rounds_52 : decode cX0_rounds 52 = .ok (.iadd, 1) := dk_96 (dk_at dksX0_rounds_2 6 rfl rfl)
theorem dX0_rounds_53 : decode cX0_rounds 53 = .ok (.aload_n 0, 1) := dk_42 (dk_at dksX0_rounds_2 7 rfl rfl)
theorem dX0_rounds_54 : decode cX0_rounds 54 = .ok (.getfield 63, 3) := dk_180 0 63 (dk_at dksX0_rounds_2 8 rfl rfl)
theorem dX0_rounds_57 : decode cX0_rounds 57 = .ok (.irem, 1) := dk_112 (dk_at dksX0_rounds_2 11 rfl rfl)
theorem dX0_rounds_58 : decode cX0_rounds 58 = .ok (.invokevirtual 320, 3) := dk_182 1 64 (dk_at dksX0_rounds_2 12 rfl rfl)
theorem dX0_rounds_61 : decode cX0_rounds 61 = .ok (.istore 4, 2) := dk_54 4 (dk_at dksX0_rounds_2 15 rfl rfl)
theorem dX0_rounds_63 : decode cX0_rounds 63 = .ok (.iinc 3 1, 3) := dk_132 3 1 (dk_at dksX0_rounds_2 17 rfl rfl)
theorem dX0_rounds_66 : decode cX0_rounds 66 = .ok (.goto (-29), 3) := dk_167 255 227 (dk_at dksX0_rounds_2 20 rfl rfl)
theorem dX0_rounds_69 : decode cX0_rounds 69 = .ok (.iload_n 3, 1) := dk_29 (dk_at dksX0_rounds_2 23 rfl rfl)
theorem dX0_rounds_70 : decode cX0_rounds 70 = .ok (.ireturn, 1) := dk_172 (dk_at dksX0_rounds_3 0 rfl rfl)
abbrev cX0_stop : ByteArray := prog_1_method_44_code
def yX0_stop : MethodName := ⟨RX0, "stop", "()I"⟩
def dkwX0_stop_1 : List UInt8 := [4, 181, 0, 223, 27, 172]
abbrev dktX0_stop_1 : List UInt8 := dkwX0_stop_1 ++ []
def dkwX0_stop_0 : List UInt8 := [42, 180, 0, 111, 154, 0, 6, 16, 153, 172, 42, 180, 0, 223, 153, 0, 7, 3, 167, 0, 4, 4, 60, 42]
abbrev dktX0_stop_0 : List UInt8 := dkwX0_stop_0 ++ dktX0_stop_1
theorem dksX0_stop_0 : cX0_stop.data.toList.drop 0 = dktX0_stop_0 := by decide +kernel
theorem dksX0_stop_1 : cX0_stop.data.toList.drop 24 = dktX0_stop_1 := dk_seg dksX0_stop_0 24 rfl rfl
theorem dX0_stop_0 : decode cX0_stop 0 = .ok (.aload_n 0, 1) := dk_42 (dk_at dksX0_stop_0 0 rfl rfl)
theorem dX0_stop_1 : decode cX0_stop 1 = .ok (.getfield 111, 3) := dk_180 0 111 (dk_at dksX0_stop_0 1 rfl rfl)
theorem dX0_stop_4 : decode cX0_stop 4 = .ok (.ifCond .ne 6, 3) := dk_154 0 6 (dk_at dksX0_stop_0 4 rfl rfl)
theorem dX0_stop_7 : decode cX0_stop 7 = .ok (.bipush (-103), 2) := dk_16 153 (dk_at dksX0_stop_0 7 rfl rfl)
theorem dX0_stop_9 : decode cX0_stop 9 = .ok (.ireturn, 1) := dk_172 (dk_at dksX0_stop_0 9 rfl rfl)
theorem dX0_stop_10 : decode cX0_stop 10 = .ok (.aload_n 0, 1) := dk_42 (dk_at dksX0_stop_0 10 rfl rfl)
theorem dX0_stop_11 : decode cX0_stop 11 = .ok (.getfield 223, 3) := dk_180 0 223 (dk_at dksX0_stop_0 11 rfl rfl)
theorem dX0_stop_14 : decode cX0_stop 14 = .ok (.ifCond .eq 7, 3) := dk_153 0 7 (dk_at dksX0_stop_0 14 rfl rfl)
theorem dX0_stop_17 : decode cX0_stop 17 = .ok (.iconst 0, 1) := dk_3 (dk_at dksX0_stop_0 17 rfl rfl)
theorem dX0_stop_18 : decode cX0_stop 18 = .ok (.goto 4, 3) := dk_167 0 4 (dk_at dksX0_stop_0 18 rfl rfl)
theorem dX0_stop_21 : decode cX0_stop 21 = .ok (.iconst 1, 1) := dk_4 (dk_at dksX0_stop_0 21 rfl rfl)
theorem dX0_stop_22 : decode cX0_stop 22 = .ok (.istore_n 1, 1) := dk_60 (dk_at dksX0_stop_0 22 rfl rfl)
theorem dX0_stop_23 : decode cX0_stop 23 = .ok (.aload_n 0, 1) := dk_42 (dk_at dksX0_stop_0 23 rfl rfl)
theorem dX0_stop_24 : decode cX0_stop 24 = .ok (.iconst 1, 1) := dk_4 (dk_at dksX0_stop_1 0 rfl rfl)
theorem dX0_stop_25 : decode cX0_stop 25 = .ok (.putfield 223, 3) := dk_181 0 223 (dk_at dksX0_stop_1 1 rfl rfl)
theorem dX0_stop_28 : decode cX0_stop 28 = .ok (.iload_n 1, 1) := dk_27 (dk_at dksX0_stop_1 4 rfl rfl)
theorem dX0_stop_29 : decode cX0_stop 29 = .ok (.ireturn, 1) := dk_172 (dk_at dksX0_stop_1 5 rfl rfl)
abbrev cX0_out : ByteArray := prog_1_method_45_code
def yX0_out : MethodName := ⟨RX0, "out", "(I)I"⟩
def dkwX0_out_1 : List UInt8 := [184, 0, 129, 167, 0, 4, 3, 172]
abbrev dktX0_out_1 : List UInt8 := dkwX0_out_1 ++ []
def dkwX0_out_0 : List UInt8 := [27, 3, 16, 8, 42, 180, 0, 220, 104, 4, 100, 184, 0, 81, 153, 0, 15, 42, 180, 0, 67, 27, 48]
abbrev dktX0_out_0 : List UInt8 := dkwX0_out_0 ++ dktX0_out_1
theorem dksX0_out_0 : cX0_out.data.toList.drop 0 = dktX0_out_0 := by decide +kernel
theorem dksX0_out_1 : cX0_out.data.toList.drop 23 = dktX0_out_1 := dk_seg dksX0_out_0 23 rfl rfl
theorem dX0_out_0 : decode cX0_out 0 = .ok (.iload_n 1, 1) := dk_27 (dk_at dksX0_out_0 0 rfl rfl)
theorem dX0_out_1 : decode cX0_out 1 = .ok (.iconst 0, 1) := dk_3 (dk_at dksX0_out_0 1 rfl rfl)
theorem dX0_out_2 : decode cX0_out 2 = .ok (.bipush 8, 2) := dk_16 8 (dk_at dksX0_out_0 2 rfl rfl)
theorem dX0_out_4 : decode cX0_out 4 = .ok (.aload_n 0, 1) := dk_42 (dk_at dksX0_out_0 4 rfl rfl)
theorem dX0_out_5 : decode cX0_out 5 = .ok (.getfield 220, 3) := dk_180 0 220 (dk_at dksX0_out_0 5 rfl rfl)
theorem dX0_out_8 : decode cX0_out 8 = .ok (.imul, 1) := dk_104 (dk_at dksX0_out_0 8 rfl rfl)
theorem dX0_out_9 : decode cX0_out 9 = .ok (.iconst 1, 1) := dk_4 (dk_at dksX0_out_0 9 rfl rfl)
theorem dX0_out_10 : decode cX0_out 10 = .ok (.isub, 1) := dk_100 (dk_at dksX0_out_0 10 rfl rfl)
theorem dX0_out_11 : decode cX0_out 11 = .ok (.invokestatic 81, 3) := dk_184 0 81 (dk_at dksX0_out_0 11 rfl rfl)
theorem dX0_out_14 : decode cX0_out 14 = .ok (.ifCond .eq 15, 3) := dk_153 0 15 (dk_at dksX0_out_0 14 rfl rfl)
theorem dX0_out_17 : decode cX0_out 17 = .ok (.aload_n 0, 1) := dk_42 (dk_at dksX0_out_0 17 rfl rfl)
theorem dX0_out_18 : decode cX0_out 18 = .ok (.getfield 67, 3) := dk_180 0 67 (dk_at dksX0_out_0 18 rfl rfl)
theorem dX0_out_21 : decode cX0_out 21 = .ok (.iload_n 1, 1) := dk_27 (dk_at dksX0_out_0 21 rfl rfl)
theorem dX0_out_22 : decode cX0_out 22 = .ok (.faload, 1) := dk_48 (dk_at dksX0_out_0 22 rfl rfl)
theorem dX0_out_23 : decode cX0_out 23 = .ok (.invokestatic 129, 3) := dk_184 0 129 (dk_at dksX0_out_1 0 rfl rfl)
theorem dX0_out_26 : decode cX0_out 26 = .ok (.goto 4, 3) := dk_167 0 4 (dk_at dksX0_out_1 3 rfl rfl)
theorem dX0_out_29 : decode cX0_out 29 = .ok (.iconst 0, 1) := dk_3 (dk_at dksX0_out_1 6 rfl rfl)
theorem dX0_out_30 : decode cX0_out 30 = .ok (.ireturn, 1) := dk_172 (dk_at dksX0_out_1 7 rfl rfl)
abbrev cX0_told : ByteArray := prog_1_method_49_code
def yX0_told : MethodName := ⟨RX0, "told", "(II)I"⟩
def dkwX0_told_2 : List UInt8 := [180, 0, 55, 27, 50, 28, 182, 1, 74, 172]
abbrev dktX0_told_2 : List UInt8 := dkwX0_told_2 ++ []
def dkwX0_told_1 : List UInt8 := [16, 6, 16, 19, 184, 0, 81, 153, 0, 15, 42, 27, 28, 16, 6, 100, 182, 1, 71, 167, 0, 14, 42, 42]
abbrev dktX0_told_1 : List UInt8 := dkwX0_told_1 ++ dktX0_told_2
def dkwX0_told_0 : List UInt8 := [27, 184, 0, 214, 154, 0, 6, 16, 155, 172, 28, 3, 16, 20, 184, 0, 81, 154, 0, 6, 16, 154, 172, 28]
abbrev dktX0_told_0 : List UInt8 := dkwX0_told_0 ++ dktX0_told_1
theorem dksX0_told_0 : cX0_told.data.toList.drop 0 = dktX0_told_0 := by decide +kernel
theorem dksX0_told_1 : cX0_told.data.toList.drop 24 = dktX0_told_1 := dk_seg dksX0_told_0 24 rfl rfl
theorem dksX0_told_2 : cX0_told.data.toList.drop 48 = dktX0_told_2 := dk_seg dksX0_told_1 24 rfl rfl
theorem dX0_told_0 : decode cX0_told 0 = .ok (.iload_n 1, 1) := dk_27 (dk_at dksX0_told_0 0 rfl rfl)
theorem dX0_told_1 : decode cX0_told 1 = .ok (.invokestatic 214, 3) := dk_184 0 214 (dk_at dksX0_told_0 1 rfl rfl)
theorem dX0_told_4 : decode cX0_told 4 = .ok (.ifCond .ne 6, 3) := dk_154 0 6 (dk_at dksX0_told_0 4 rfl rfl)
theorem dX0_told_7 : decode cX0_told 7 = .ok (.bipush (-101), 2) := dk_16 155 (dk_at dksX0_told_0 7 rfl rfl)
theorem dX0_told_9 : decode cX0_told 9 = .ok (.ireturn, 1) := dk_172 (dk_at dksX0_told_0 9 rfl rfl)
theorem dX0_told_10 : decode cX0_told 10 = .ok (.iload_n 2, 1) := dk_28 (dk_at dksX0_told_0 10 rfl rfl)
theorem dX0_told_11 : decode cX0_told 11 = .ok (.iconst 0, 1) := dk_3 (dk_at dksX0_told_0 11 rfl rfl)
theorem dX0_told_12 : decode cX0_told 12 = .ok (.bipush 20, 2) := dk_16 20 (dk_at dksX0_told_0 12 rfl rfl)
theorem dX0_told_14 : decode cX0_told 14 = .ok (.invokestatic 81, 3) := dk_184 0 81 (dk_at dksX0_told_0 14 rfl rfl)
theorem dX0_told_17 : decode cX0_told 17 = .ok (.ifCond .ne 6, 3) := dk_154 0 6 (dk_at dksX0_told_0 17 rfl rfl)
theorem dX0_told_20 : decode cX0_told 20 = .ok (.bipush (-102), 2) := dk_16 154 (dk_at dksX0_told_0 20 rfl rfl)
theorem dX0_told_22 : decode cX0_told 22 = .ok (.ireturn, 1) := dk_172 (dk_at dksX0_told_0 22 rfl rfl)
theorem dX0_told_23 : decode cX0_told 23 = .ok (.iload_n 2, 1) := dk_28 (dk_at dksX0_told_0 23 rfl rfl)
theorem dX0_told_24 : decode cX0_told 24 = .ok (.bipush 6, 2) := dk_16 6 (dk_at dksX0_told_1 0 rfl rfl)
theorem dX0_told_26 : decode cX0_told 26 = .ok (.bipush 19, 2) := dk_16 19 (dk_at dksX0_told_1 2 rfl rfl)
theorem dX0_told_28 : decode cX0_told 28 = .ok (.invokestatic 81, 3) := dk_184 0 81 (dk_at dksX0_told_1 4 rfl rfl)
theorem dX0_told_31 : decode cX0_told 31 = .ok (.ifCond .eq 15, 3) := dk_153 0 15 (dk_at dksX0_told_1 7 rfl rfl)
theorem dX0_told_34 : decode cX0_told 34 = .ok (.aload_n 0, 1) := dk_42 (dk_at dksX0_told_1 10 rfl rfl)
theorem dX0_told_35 : decode cX0_told 35 = .ok (.iload_n 1, 1) := dk_27 (dk_at dksX0_told_1 11 rfl rfl)
theorem dX0_told_36 : decode cX0_told 36 = .ok (.iload_n 2, 1) := dk_28 (dk_at dksX0_told_1 12 rfl rfl)
theorem dX0_told_37 : decode cX0_told 37 = .ok (.bipush 6, 2) := dk_16 6 (dk_at dksX0_told_1 13 rfl rfl)
theorem dX0_told_39 : decode cX0_told 39 = .ok (.isub, 1) := dk_100 (dk_at dksX0_told_1 15 rfl rfl)
theorem dX0_told_40 : decode cX0_told 40 = .ok (.invokevirtual 327, 3) := dk_182 1 71 (dk_at dksX0_told_1 16 rfl rfl)
theorem dX0_told_43 : decode cX0_told 43 = .ok (.goto 14, 3) := dk_167 0 14 (dk_at dksX0_told_1 19 rfl rfl)
theorem dX0_told_46 : decode cX0_told 46 = .ok (.aload_n 0, 1) := dk_42 (dk_at dksX0_told_1 22 rfl rfl)
theorem dX0_told_47 : decode cX0_told 47 = .ok (.aload_n 0, 1) := dk_42 (dk_at dksX0_told_1 23 rfl rfl)
theorem dX0_told_48 : decode cX0_told 48 = .ok (.getfield 55, 3) := dk_180 0 55 (dk_at dksX0_told_2 0 rfl rfl)
theorem dX0_told_51 : decode cX0_told 51 = .ok (.iload_n 1, 1) := dk_27 (dk_at dksX0_told_2 3 rfl rfl)
theorem dX0_told_52 : decode cX0_told 52 = .ok (.aaload, 1) := dk_50 (dk_at dksX0_told_2 4 rfl rfl)
theorem dX0_told_53 : decode cX0_told 53 = .ok (.iload_n 2, 1) := dk_28 (dk_at dksX0_told_2 5 rfl rfl)
theorem dX0_told_54 : decode cX0_told 54 = .ok (.invokevirtual 330, 3) := dk_182 1 74 (dk_at dksX0_told_2 6 rfl rfl)
theorem dX0_told_57 : decode cX0_told 57 = .ok (.ireturn, 1) := dk_172 (dk_at dksX0_told_2 9 rfl rfl)
abbrev cX0_plugAt : ByteArray := prog_1_method_47_code
def yX0_plugAt : MethodName := ⟨RX0, "plugAt", "(II)I"⟩
def dkwX0_plugAt_1 : List UInt8 := [182, 1, 67, 172, 78, 42, 5, 182, 0, 96, 172]
abbrev dktX0_plugAt_1 : List UInt8 := dkwX0_plugAt_1 ++ []
def dkwX0_plugAt_0 : List UInt8 := [42, 180, 0, 55, 27, 50, 180, 0, 204, 28, 50, 78, 45, 199, 0, 7, 2, 167, 0, 8, 42, 45]
abbrev dktX0_plugAt_0 : List UInt8 := dkwX0_plugAt_0 ++ dktX0_plugAt_1
theorem dksX0_plugAt_0 : cX0_plugAt.data.toList.drop 0 = dktX0_plugAt_0 := by decide +kernel
theorem dksX0_plugAt_1 : cX0_plugAt.data.toList.drop 22 = dktX0_plugAt_1 := dk_seg dksX0_plugAt_0 22 rfl rfl
theorem dX0_plugAt_0 : decode cX0_plugAt 0 = .ok (.aload_n 0, 1) := dk_42 (dk_at dksX0_plugAt_0 0 rfl rfl)
theorem dX0_plugAt_1 : decode cX0_plugAt 1 = .ok (.getfield 55, 3) := dk_180 0 55 (dk_at dksX0_plugAt_0 1 rfl rfl)
theorem dX0_plugAt_4 : decode cX0_plugAt 4 = .ok (.iload_n 1, 1) := dk_27 (dk_at dksX0_plugAt_0 4 rfl rfl)
theorem dX0_plugAt_5 : decode cX0_plugAt 5 = .ok (.aaload, 1) := dk_50 (dk_at dksX0_plugAt_0 5 rfl rfl)
theorem dX0_plugAt_6 : decode cX0_plugAt 6 = .ok (.getfield 204, 3) := dk_180 0 204 (dk_at dksX0_plugAt_0 6 rfl rfl)
theorem dX0_plugAt_9 : decode cX0_plugAt 9 = .ok (.iload_n 2, 1) := dk_28 (dk_at dksX0_plugAt_0 9 rfl rfl)
theorem dX0_plugAt_10 : decode cX0_plugAt 10 = .ok (.aaload, 1) := dk_50 (dk_at dksX0_plugAt_0 10 rfl rfl)
theorem dX0_plugAt_11 : decode cX0_plugAt 11 = .ok (.astore_n 3, 1) := dk_78 (dk_at dksX0_plugAt_0 11 rfl rfl)
theorem dX0_plugAt_12 : decode cX0_plugAt 12 = .ok (.aload_n 3, 1) := dk_45 (dk_at dksX0_plugAt_0 12 rfl rfl)
theorem dX0_plugAt_13 : decode cX0_plugAt 13 = .ok (.ifnonnull 7, 3) := dk_199 0 7 (dk_at dksX0_plugAt_0 13 rfl rfl)
theorem dX0_plugAt_16 : decode cX0_plugAt 16 = .ok (.iconst (-1), 1) := dk_2 (dk_at dksX0_plugAt_0 16 rfl rfl)
theorem dX0_plugAt_17 : decode cX0_plugAt 17 = .ok (.goto 8, 3) := dk_167 0 8 (dk_at dksX0_plugAt_0 17 rfl rfl)
theorem dX0_plugAt_20 : decode cX0_plugAt 20 = .ok (.aload_n 0, 1) := dk_42 (dk_at dksX0_plugAt_0 20 rfl rfl)
theorem dX0_plugAt_21 : decode cX0_plugAt 21 = .ok (.aload_n 3, 1) := dk_45 (dk_at dksX0_plugAt_0 21 rfl rfl)
theorem dX0_plugAt_22 : decode cX0_plugAt 22 = .ok (.invokevirtual 323, 3) := dk_182 1 67 (dk_at dksX0_plugAt_1 0 rfl rfl)
theorem dX0_plugAt_25 : decode cX0_plugAt 25 = .ok (.ireturn, 1) := dk_172 (dk_at dksX0_plugAt_1 3 rfl rfl)
theorem dX0_plugAt_26 : decode cX0_plugAt 26 = .ok (.astore_n 3, 1) := dk_78 (dk_at dksX0_plugAt_1 4 rfl rfl)
theorem dX0_plugAt_27 : decode cX0_plugAt 27 = .ok (.aload_n 0, 1) := dk_42 (dk_at dksX0_plugAt_1 5 rfl rfl)
theorem dX0_plugAt_28 : decode cX0_plugAt 28 = .ok (.iconst 2, 1) := dk_5 (dk_at dksX0_plugAt_1 6 rfl rfl)
theorem dX0_plugAt_29 : decode cX0_plugAt 29 = .ok (.invokevirtual 96, 3) := dk_182 0 96 (dk_at dksX0_plugAt_1 7 rfl rfl)
theorem dX0_plugAt_32 : decode cX0_plugAt 32 = .ok (.ireturn, 1) := dk_172 (dk_at dksX0_plugAt_1 10 rfl rfl)
abbrev cX0_numberOf : ByteArray := prog_1_method_46_code
def yX0_numberOf : MethodName := ⟨RX0, "numberOf", "(LScoreThreads$Plug;)I"⟩
def dkwX0_numberOf_1 : List UInt8 := [167, 255, 239, 28, 172]
abbrev dktX0_numberOf_1 : List UInt8 := dkwX0_numberOf_1 ++ []
def dkwX0_numberOf_0 : List UInt8 := [42, 180, 0, 88, 4, 100, 61, 28, 155, 0, 19, 42, 180, 0, 49, 28, 50, 43, 165, 0, 9, 132, 2, 255]
abbrev dktX0_numberOf_0 : List UInt8 := dkwX0_numberOf_0 ++ dktX0_numberOf_1
theorem dksX0_numberOf_0 : cX0_numberOf.data.toList.drop 0 = dktX0_numberOf_0 := by decide +kernel
theorem dksX0_numberOf_1 : cX0_numberOf.data.toList.drop 24 = dktX0_numberOf_1 := dk_seg dksX0_numberOf_0 24 rfl rfl
theorem dX0_numberOf_0 : decode cX0_numberOf 0 = .ok (.aload_n 0, 1) := dk_42 (dk_at dksX0_numberOf_0 0 rfl rfl)
theorem dX0_numberOf_1 : decode cX0_numberOf 1 = .ok (.getfield 88, 3) := dk_180 0 88 (dk_at dksX0_numberOf_0 1 rfl rfl)
theorem dX0_numberOf_4 : decode cX0_numberOf 4 = .ok (.iconst 1, 1) := dk_4 (dk_at dksX0_numberOf_0 4 rfl rfl)
theorem dX0_numberOf_5 : decode cX0_numberOf 5 = .ok (.isub, 1) := dk_100 (dk_at dksX0_numberOf_0 5 rfl rfl)
theorem dX0_numberOf_6 : decode cX0_numberOf 6 = .ok (.istore_n 2, 1) := dk_61 (dk_at dksX0_numberOf_0 6 rfl rfl)
theorem dX0_numberOf_7 : decode cX0_numberOf 7 = .ok (.iload_n 2, 1) := dk_28 (dk_at dksX0_numberOf_0 7 rfl rfl)
theorem dX0_numberOf_8 : decode cX0_numberOf 8 = .ok (.ifCond .lt 19, 3) := dk_155 0 19 (dk_at dksX0_numberOf_0 8 rfl rfl)
theorem dX0_numberOf_11 : decode cX0_numberOf 11 = .ok (.aload_n 0, 1) := dk_42 (dk_at dksX0_numberOf_0 11 rfl rfl)
theorem dX0_numberOf_12 : decode cX0_numberOf 12 = .ok (.getfield 49, 3) := dk_180 0 49 (dk_at dksX0_numberOf_0 12 rfl rfl)
theorem dX0_numberOf_15 : decode cX0_numberOf 15 = .ok (.iload_n 2, 1) := dk_28 (dk_at dksX0_numberOf_0 15 rfl rfl)
theorem dX0_numberOf_16 : decode cX0_numberOf 16 = .ok (.aaload, 1) := dk_50 (dk_at dksX0_numberOf_0 16 rfl rfl)
theorem dX0_numberOf_17 : decode cX0_numberOf 17 = .ok (.aload_n 1, 1) := dk_43 (dk_at dksX0_numberOf_0 17 rfl rfl)
theorem dX0_numberOf_18 : decode cX0_numberOf 18 = .ok (.if_acmp .eq 9, 3) := dk_165 0 9 (dk_at dksX0_numberOf_0 18 rfl rfl)
theorem dX0_numberOf_21 : decode cX0_numberOf 21 = .ok (.iinc 2 (-1), 3) := dk_132 2 255 (dk_at dksX0_numberOf_0 21 rfl rfl)
theorem dX0_numberOf_24 : decode cX0_numberOf 24 = .ok (.goto (-17), 3) := dk_167 255 239 (dk_at dksX0_numberOf_1 0 rfl rfl)
theorem dX0_numberOf_27 : decode cX0_numberOf 27 = .ok (.iload_n 2, 1) := dk_28 (dk_at dksX0_numberOf_1 3 rfl rfl)
theorem dX0_numberOf_28 : decode cX0_numberOf 28 = .ok (.ireturn, 1) := dk_172 (dk_at dksX0_numberOf_1 4 rfl rfl)
abbrev cX0_of : ByteArray := prog_1_method_48_code
def yX0_of : MethodName := ⟨RX0, "of", "(LScoreThreads$Track;I)I"⟩
def dkwX0_of_5 : List UInt8 := [172]
abbrev dktX0_of_5 : List UInt8 := dkwX0_of_5 ++ []
def dkwX0_of_4 : List UInt8 := [153, 0, 7, 4, 167, 0, 4, 3, 172, 42, 180, 0, 111, 153, 0, 10, 43, 180, 0, 232, 167, 0, 4, 3]
abbrev dktX0_of_4 : List UInt8 := dkwX0_of_4 ++ dktX0_of_5
def dkwX0_of_3 : List UInt8 := [180, 0, 198, 153, 0, 7, 4, 167, 0, 4, 3, 172, 43, 180, 0, 207, 184, 0, 129, 172, 43, 180, 0, 201]
abbrev dktX0_of_3 : List UInt8 := dkwX0_of_3 ++ dktX0_of_4
def dkwX0_of_2 : List UInt8 := [43, 180, 0, 211, 153, 0, 7, 4, 167, 0, 4, 3, 172, 43, 180, 0, 192, 172, 43, 180, 0, 195, 172, 43]
abbrev dktX0_of_2 : List UInt8 := dkwX0_of_2 ++ dktX0_of_3
def dkwX0_of_1 : List UInt8 := [170, 0, 0, 0, 0, 0, 96, 0, 0, 0, 0, 0, 0, 0, 5, 0, 0, 0, 39, 0, 0, 0, 52, 0, 0, 0, 57, 0, 0, 0, 62, 0, 0, 0, 75, 0, 0, 0, 83]
abbrev dktX0_of_1 : List UInt8 := dkwX0_of_1 ++ dktX0_of_2
def dkwX0_of_0 : List UInt8 := [28]
abbrev dktX0_of_0 : List UInt8 := dkwX0_of_0 ++ dktX0_of_1
theorem dksX0_of_0 : cX0_of.data.toList.drop 0 = dktX0_of_0 := by decide +kernel
theorem dksX0_of_1 : cX0_of.data.toList.drop 1 = dktX0_of_1 := dk_seg dksX0_of_0 1 rfl rfl
theorem dksX0_of_2 : cX0_of.data.toList.drop 40 = dktX0_of_2 := dk_seg dksX0_of_1 39 rfl rfl
theorem dksX0_of_3 : cX0_of.data.toList.drop 64 = dktX0_of_3 := dk_seg dksX0_of_2 24 rfl rfl
theorem dksX0_of_4 : cX0_of.data.toList.drop 88 = dktX0_of_4 := dk_seg dksX0_of_3 24 rfl rfl
theorem dksX0_of_5 : cX0_of.data.toList.drop 112 = dktX0_of_5 := dk_seg dksX0_of_4 24 rfl rfl
theorem dX0_of_0 : decode cX0_of 0 = .ok (.iload_n 2, 1) := dk_28 (dk_at dksX0_of_0 0 rfl rfl)
theorem dX0_of_1 : decode cX0_of 1 = .ok (.tableswitch 96 0 5 #[39, 52, 57, 62, 75, 83], 39) := by decide +kernel
theorem dX0_of_40 : decode cX0_of 40 = .ok (.aload_n 1, 1) := dk_43 (dk_at dksX0_of_2 0 rfl rfl)
theorem dX0_of_41 : decode cX0_of 41 = .ok (.getfield 211, 3) := dk_180 0 211 (dk_at dksX0_of_2 1 rfl rfl)
theorem dX0_of_44 : decode cX0_of 44 = .ok (.ifCond .eq 7, 3) := dk_153 0 7 (dk_at dksX0_of_2 4 rfl rfl)
theorem dX0_of_47 : decode cX0_of 47 = .ok (.iconst 1, 1) := dk_4 (dk_at dksX0_of_2 7 rfl rfl)
theorem dX0_of_48 : decode cX0_of 48 = .ok (.goto 4, 3) := dk_167 0 4 (dk_at dksX0_of_2 8 rfl rfl)
theorem dX0_of_51 : decode cX0_of 51 = .ok (.iconst 0, 1) := dk_3 (dk_at dksX0_of_2 11 rfl rfl)
theorem dX0_of_52 : decode cX0_of 52 = .ok (.ireturn, 1) := dk_172 (dk_at dksX0_of_2 12 rfl rfl)
theorem dX0_of_53 : decode cX0_of 53 = .ok (.aload_n 1, 1) := dk_43 (dk_at dksX0_of_2 13 rfl rfl)
theorem dX0_of_54 : decode cX0_of 54 = .ok (.getfield 192, 3) := dk_180 0 192 (dk_at dksX0_of_2 14 rfl rfl)
theorem dX0_of_57 : decode cX0_of 57 = .ok (.ireturn, 1) := dk_172 (dk_at dksX0_of_2 17 rfl rfl)
theorem dX0_of_58 : decode cX0_of 58 = .ok (.aload_n 1, 1) := dk_43 (dk_at dksX0_of_2 18 rfl rfl)
theorem dX0_of_59 : decode cX0_of 59 = .ok (.getfield 195, 3) := dk_180 0 195 (dk_at dksX0_of_2 19 rfl rfl)
theorem dX0_of_62 : decode cX0_of 62 = .ok (.ireturn, 1) := dk_172 (dk_at dksX0_of_2 22 rfl rfl)
theorem dX0_of_63 : decode cX0_of 63 = .ok (.aload_n 1, 1) := dk_43 (dk_at dksX0_of_2 23 rfl rfl)
theorem dX0_of_64 : decode cX0_of 64 = .ok (.getfield 198, 3) := dk_180 0 198 (dk_at dksX0_of_3 0 rfl rfl)
theorem dX0_of_67 : decode cX0_of 67 = .ok (.ifCond .eq 7, 3) := dk_153 0 7 (dk_at dksX0_of_3 3 rfl rfl)
theorem dX0_of_70 : decode cX0_of 70 = .ok (.iconst 1, 1) := dk_4 (dk_at dksX0_of_3 6 rfl rfl)
theorem dX0_of_71 : decode cX0_of 71 = .ok (.goto 4, 3) := dk_167 0 4 (dk_at dksX0_of_3 7 rfl rfl)
theorem dX0_of_74 : decode cX0_of 74 = .ok (.iconst 0, 1) := dk_3 (dk_at dksX0_of_3 10 rfl rfl)
theorem dX0_of_75 : decode cX0_of 75 = .ok (.ireturn, 1) := dk_172 (dk_at dksX0_of_3 11 rfl rfl)
theorem dX0_of_76 : decode cX0_of 76 = .ok (.aload_n 1, 1) := dk_43 (dk_at dksX0_of_3 12 rfl rfl)
theorem dX0_of_77 : decode cX0_of 77 = .ok (.getfield 207, 3) := dk_180 0 207 (dk_at dksX0_of_3 13 rfl rfl)
theorem dX0_of_80 : decode cX0_of 80 = .ok (.invokestatic 129, 3) := dk_184 0 129 (dk_at dksX0_of_3 16 rfl rfl)
theorem dX0_of_83 : decode cX0_of 83 = .ok (.ireturn, 1) := dk_172 (dk_at dksX0_of_3 19 rfl rfl)
theorem dX0_of_84 : decode cX0_of 84 = .ok (.aload_n 1, 1) := dk_43 (dk_at dksX0_of_3 20 rfl rfl)
theorem dX0_of_85 : decode cX0_of 85 = .ok (.getfield 201, 3) := dk_180 0 201 (dk_at dksX0_of_3 21 rfl rfl)
theorem dX0_of_88 : decode cX0_of 88 = .ok (.ifCond .eq 7, 3) := dk_153 0 7 (dk_at dksX0_of_4 0 rfl rfl)
theorem dX0_of_91 : decode cX0_of 91 = .ok (.iconst 1, 1) := dk_4 (dk_at dksX0_of_4 3 rfl rfl)
theorem dX0_of_92 : decode cX0_of 92 = .ok (.goto 4, 3) := dk_167 0 4 (dk_at dksX0_of_4 4 rfl rfl)
theorem dX0_of_95 : decode cX0_of 95 = .ok (.iconst 0, 1) := dk_3 (dk_at dksX0_of_4 7 rfl rfl)
theorem dX0_of_96 : decode cX0_of 96 = .ok (.ireturn, 1) := dk_172 (dk_at dksX0_of_4 8 rfl rfl)
theorem dX0_of_97 : decode cX0_of 97 = .ok (.aload_n 0, 1) := dk_42 (dk_at dksX0_of_4 9 rfl rfl)
theorem dX0_of_98 : decode cX0_of 98 = .ok (.getfield 111, 3) := dk_180 0 111 (dk_at dksX0_of_4 10 rfl rfl)
theorem dX0_of_101 : decode cX0_of 101 = .ok (.ifCond .eq 10, 3) := dk_153 0 10 (dk_at dksX0_of_4 13 rfl rfl)
theorem dX0_of_104 : decode cX0_of 104 = .ok (.aload_n 1, 1) := dk_43 (dk_at dksX0_of_4 16 rfl rfl)
theorem dX0_of_105 : decode cX0_of 105 = .ok (.getfield 232, 3) := dk_180 0 232 (dk_at dksX0_of_4 17 rfl rfl)
theorem dX0_of_108 : decode cX0_of 108 = .ok (.goto 4, 3) := dk_167 0 4 (dk_at dksX0_of_4 20 rfl rfl)
theorem dX0_of_111 : decode cX0_of 111 = .ok (.iconst 0, 1) := dk_3 (dk_at dksX0_of_4 23 rfl rfl)
theorem dX0_of_112 : decode cX0_of 112 = .ok (.ireturn, 1) := dk_172 (dk_at dksX0_of_5 0 rfl rfl)
abbrev cX0_worker : ByteArray := prog_1_method_50_code
def yX0_worker : MethodName := ⟨RX0, "worker", "(I)I"⟩
def dkwX0_worker_0 : List UInt8 := [42, 27, 182, 1, 61, 153, 0, 12, 42, 180, 0, 59, 27, 46, 167, 0, 5, 16, 155, 172]
abbrev dktX0_worker_0 : List UInt8 := dkwX0_worker_0 ++ []
theorem dksX0_worker_0 : cX0_worker.data.toList.drop 0 = dktX0_worker_0 := by decide +kernel
theorem dX0_worker_0 : decode cX0_worker 0 = .ok (.aload_n 0, 1) := dk_42 (dk_at dksX0_worker_0 0 rfl rfl)
theorem dX0_worker_1 : decode cX0_worker 1 = .ok (.iload_n 1, 1) := dk_27 (dk_at dksX0_worker_0 1 rfl rfl)
theorem dX0_worker_2 : decode cX0_worker 2 = .ok (.invokevirtual 317, 3) := dk_182 1 61 (dk_at dksX0_worker_0 2 rfl rfl)
theorem dX0_worker_5 : decode cX0_worker 5 = .ok (.ifCond .eq 12, 3) := dk_153 0 12 (dk_at dksX0_worker_0 5 rfl rfl)
theorem dX0_worker_8 : decode cX0_worker 8 = .ok (.aload_n 0, 1) := dk_42 (dk_at dksX0_worker_0 8 rfl rfl)
theorem dX0_worker_9 : decode cX0_worker 9 = .ok (.getfield 59, 3) := dk_180 0 59 (dk_at dksX0_worker_0 9 rfl rfl)
theorem dX0_worker_12 : decode cX0_worker 12 = .ok (.iload_n 1, 1) := dk_27 (dk_at dksX0_worker_0 12 rfl rfl)
theorem dX0_worker_13 : decode cX0_worker 13 = .ok (.iaload, 1) := dk_46 (dk_at dksX0_worker_0 13 rfl rfl)
theorem dX0_worker_14 : decode cX0_worker 14 = .ok (.goto 5, 3) := dk_167 0 5 (dk_at dksX0_worker_0 14 rfl rfl)
theorem dX0_worker_17 : decode cX0_worker 17 = .ok (.bipush (-101), 2) := dk_16 155 (dk_at dksX0_worker_0 17 rfl rfl)
theorem dX0_worker_19 : decode cX0_worker 19 = .ok (.ireturn, 1) := dk_172 (dk_at dksX0_worker_0 19 rfl rfl)
abbrev cX0_fault : ByteArray := prog_1_method_51_code
def yX0_fault : MethodName := ⟨RX0, "fault", "(II)I"⟩
def dkwX0_fault_1 : List UInt8 := [100, 184, 0, 81, 153, 0, 16, 42, 180, 0, 74, 8, 27, 104, 28, 96, 46, 167, 0, 4, 2, 172]
abbrev dktX0_fault_1 : List UInt8 := dkwX0_fault_1 ++ []
def dkwX0_fault_0 : List UInt8 := [28, 3, 7, 184, 0, 81, 154, 0, 6, 16, 154, 172, 27, 3, 42, 180, 1, 58, 16, 100, 184, 1, 78, 4]
abbrev dktX0_fault_0 : List UInt8 := dkwX0_fault_0 ++ dktX0_fault_1
theorem dksX0_fault_0 : cX0_fault.data.toList.drop 0 = dktX0_fault_0 := by decide +kernel
theorem dksX0_fault_1 : cX0_fault.data.toList.drop 24 = dktX0_fault_1 := dk_seg dksX0_fault_0 24 rfl rfl
theorem dX0_fault_0 : decode cX0_fault 0 = .ok (.iload_n 2, 1) := dk_28 (dk_at dksX0_fault_0 0 rfl rfl)
theorem dX0_fault_1 : decode cX0_fault 1 = .ok (.iconst 0, 1) := dk_3 (dk_at dksX0_fault_0 1 rfl rfl)
theorem dX0_fault_2 : decode cX0_fault 2 = .ok (.iconst 4, 1) := dk_7 (dk_at dksX0_fault_0 2 rfl rfl)
theorem dX0_fault_3 : decode cX0_fault 3 = .ok (.invokestatic 81, 3) := dk_184 0 81 (dk_at dksX0_fault_0 3 rfl rfl)
theorem dX0_fault_6 : decode cX0_fault 6 = .ok (.ifCond .ne 6, 3) := dk_154 0 6 (dk_at dksX0_fault_0 6 rfl rfl)
theorem dX0_fault_9 : decode cX0_fault 9 = .ok (.bipush (-102), 2) := dk_16 154 (dk_at dksX0_fault_0 9 rfl rfl)
theorem dX0_fault_11 : decode cX0_fault 11 = .ok (.ireturn, 1) := dk_172 (dk_at dksX0_fault_0 11 rfl rfl)
theorem dX0_fault_12 : decode cX0_fault 12 = .ok (.iload_n 1, 1) := dk_27 (dk_at dksX0_fault_0 12 rfl rfl)
theorem dX0_fault_13 : decode cX0_fault 13 = .ok (.iconst 0, 1) := dk_3 (dk_at dksX0_fault_0 13 rfl rfl)
theorem dX0_fault_14 : decode cX0_fault 14 = .ok (.aload_n 0, 1) := dk_42 (dk_at dksX0_fault_0 14 rfl rfl)
theorem dX0_fault_15 : decode cX0_fault 15 = .ok (.getfield 314, 3) := dk_180 1 58 (dk_at dksX0_fault_0 15 rfl rfl)
theorem dX0_fault_18 : decode cX0_fault 18 = .ok (.bipush 100, 2) := dk_16 100 (dk_at dksX0_fault_0 18 rfl rfl)
theorem dX0_fault_20 : decode cX0_fault 20 = .ok (.invokestatic 334, 3) := dk_184 1 78 (dk_at dksX0_fault_0 20 rfl rfl)
theorem dX0_fault_23 : decode cX0_fault 23 = .ok (.iconst 1, 1) := dk_4 (dk_at dksX0_fault_0 23 rfl rfl)
theorem dX0_fault_24 : decode cX0_fault 24 = .ok (.isub, 1) := dk_100 (dk_at dksX0_fault_1 0 rfl rfl)
theorem dX0_fault_25 : decode cX0_fault 25 = .ok (.invokestatic 81, 3) := dk_184 0 81 (dk_at dksX0_fault_1 1 rfl rfl)
theorem dX0_fault_28 : decode cX0_fault 28 = .ok (.ifCond .eq 16, 3) := dk_153 0 16 (dk_at dksX0_fault_1 4 rfl rfl)
theorem dX0_fault_31 : decode cX0_fault 31 = .ok (.aload_n 0, 1) := dk_42 (dk_at dksX0_fault_1 7 rfl rfl)
theorem dX0_fault_32 : decode cX0_fault 32 = .ok (.getfield 74, 3) := dk_180 0 74 (dk_at dksX0_fault_1 8 rfl rfl)
theorem dX0_fault_35 : decode cX0_fault 35 = .ok (.iconst 5, 1) := dk_8 (dk_at dksX0_fault_1 11 rfl rfl)
theorem dX0_fault_36 : decode cX0_fault 36 = .ok (.iload_n 1, 1) := dk_27 (dk_at dksX0_fault_1 12 rfl rfl)
theorem dX0_fault_37 : decode cX0_fault 37 = .ok (.imul, 1) := dk_104 (dk_at dksX0_fault_1 13 rfl rfl)
theorem dX0_fault_38 : decode cX0_fault 38 = .ok (.iload_n 2, 1) := dk_28 (dk_at dksX0_fault_1 14 rfl rfl)
theorem dX0_fault_39 : decode cX0_fault 39 = .ok (.iadd, 1) := dk_96 (dk_at dksX0_fault_1 15 rfl rfl)
theorem dX0_fault_40 : decode cX0_fault 40 = .ok (.iaload, 1) := dk_46 (dk_at dksX0_fault_1 16 rfl rfl)
theorem dX0_fault_41 : decode cX0_fault 41 = .ok (.goto 4, 3) := dk_167 0 4 (dk_at dksX0_fault_1 17 rfl rfl)
theorem dX0_fault_44 : decode cX0_fault 44 = .ok (.iconst (-1), 1) := dk_2 (dk_at dksX0_fault_1 20 rfl rfl)
theorem dX0_fault_45 : decode cX0_fault 45 = .ok (.ireturn, 1) := dk_172 (dk_at dksX0_fault_1 21 rfl rfl)
abbrev cX0_found : ByteArray := prog_1_method_52_code
def yX0_found : MethodName := ⟨RX0, "found", "(I)I"⟩
def dkwX0_found_0 : List UInt8 := [27, 4, 16, 6, 184, 0, 81, 153, 0, 12, 42, 180, 0, 71, 27, 46, 167, 0, 5, 16, 154, 172]
abbrev dktX0_found_0 : List UInt8 := dkwX0_found_0 ++ []
theorem dksX0_found_0 : cX0_found.data.toList.drop 0 = dktX0_found_0 := by decide +kernel
theorem dX0_found_0 : decode cX0_found 0 = .ok (.iload_n 1, 1) := dk_27 (dk_at dksX0_found_0 0 rfl rfl)
theorem dX0_found_1 : decode cX0_found 1 = .ok (.iconst 1, 1) := dk_4 (dk_at dksX0_found_0 1 rfl rfl)
theorem dX0_found_2 : decode cX0_found 2 = .ok (.bipush 6, 2) := dk_16 6 (dk_at dksX0_found_0 2 rfl rfl)
theorem dX0_found_4 : decode cX0_found 4 = .ok (.invokestatic 81, 3) := dk_184 0 81 (dk_at dksX0_found_0 4 rfl rfl)
theorem dX0_found_7 : decode cX0_found 7 = .ok (.ifCond .eq 12, 3) := dk_153 0 12 (dk_at dksX0_found_0 7 rfl rfl)
theorem dX0_found_10 : decode cX0_found 10 = .ok (.aload_n 0, 1) := dk_42 (dk_at dksX0_found_0 10 rfl rfl)
theorem dX0_found_11 : decode cX0_found 11 = .ok (.getfield 71, 3) := dk_180 0 71 (dk_at dksX0_found_0 11 rfl rfl)
theorem dX0_found_14 : decode cX0_found 14 = .ok (.iload_n 1, 1) := dk_27 (dk_at dksX0_found_0 14 rfl rfl)
theorem dX0_found_15 : decode cX0_found 15 = .ok (.iaload, 1) := dk_46 (dk_at dksX0_found_0 15 rfl rfl)
theorem dX0_found_16 : decode cX0_found 16 = .ok (.goto 5, 3) := dk_167 0 5 (dk_at dksX0_found_0 16 rfl rfl)
theorem dX0_found_19 : decode cX0_found 19 = .ok (.bipush (-102), 2) := dk_16 154 (dk_at dksX0_found_0 19 rfl rfl)
theorem dX0_found_21 : decode cX0_found 21 = .ok (.ireturn, 1) := dk_172 (dk_at dksX0_found_0 21 rfl rfl)
abbrev cX0_about : ByteArray := prog_1_method_53_code
def yX0_about : MethodName := ⟨RX0, "about", "(I)I"⟩
def dkwX0_about_4 : List UInt8 := [42, 180, 0, 226, 172, 42, 180, 1, 8, 172, 42, 180, 1, 5, 172, 16, 154, 172]
abbrev dktX0_about_4 : List UInt8 := dkwX0_about_4 ++ []
def dkwX0_about_3 : List UInt8 := [172, 42, 180, 0, 180, 172, 42, 180, 0, 189, 172, 42, 180, 0, 111, 153, 0, 7, 4, 167, 0, 4, 3, 172]
abbrev dktX0_about_3 : List UInt8 := dkwX0_about_3 ++ dktX0_about_4
def dkwX0_about_2 : List UInt8 := [42, 180, 0, 85, 172, 42, 180, 0, 88, 172, 42, 180, 0, 63, 172, 42, 180, 0, 220, 172, 42, 180, 1, 58]
abbrev dktX0_about_2 : List UInt8 := dkwX0_about_2 ++ dktX0_about_3
def dkwX0_about_1 : List UInt8 := [170, 0, 0, 0, 0, 0, 122, 0, 0, 0, 0, 0, 0, 0, 10, 0, 0, 0, 59, 0, 0, 0, 64, 0, 0, 0, 69, 0, 0, 0, 74, 0, 0, 0, 79, 0, 0, 0, 84, 0, 0, 0, 89, 0, 0, 0, 94, 0, 0, 0, 107, 0, 0, 0, 112, 0, 0, 0, 117]
abbrev dktX0_about_1 : List UInt8 := dkwX0_about_1 ++ dktX0_about_2
def dkwX0_about_0 : List UInt8 := [27]
abbrev dktX0_about_0 : List UInt8 := dkwX0_about_0 ++ dktX0_about_1
theorem dksX0_about_0 : cX0_about.data.toList.drop 0 = dktX0_about_0 := by decide +kernel
theorem dksX0_about_1 : cX0_about.data.toList.drop 1 = dktX0_about_1 := dk_seg dksX0_about_0 1 rfl rfl
theorem dksX0_about_2 : cX0_about.data.toList.drop 60 = dktX0_about_2 := dk_seg dksX0_about_1 59 rfl rfl
theorem dksX0_about_3 : cX0_about.data.toList.drop 84 = dktX0_about_3 := dk_seg dksX0_about_2 24 rfl rfl
theorem dksX0_about_4 : cX0_about.data.toList.drop 108 = dktX0_about_4 := dk_seg dksX0_about_3 24 rfl rfl
theorem dX0_about_0 : decode cX0_about 0 = .ok (.iload_n 1, 1) := dk_27 (dk_at dksX0_about_0 0 rfl rfl)
theorem dX0_about_1 : decode cX0_about 1 = .ok (.tableswitch 122 0 10 #[59, 64, 69, 74, 79, 84, 89, 94, 107, 112, 117], 59) := by decide +kernel
theorem dX0_about_60 : decode cX0_about 60 = .ok (.aload_n 0, 1) := dk_42 (dk_at dksX0_about_2 0 rfl rfl)
theorem dX0_about_61 : decode cX0_about 61 = .ok (.getfield 85, 3) := dk_180 0 85 (dk_at dksX0_about_2 1 rfl rfl)
theorem dX0_about_64 : decode cX0_about 64 = .ok (.ireturn, 1) := dk_172 (dk_at dksX0_about_2 4 rfl rfl)
theorem dX0_about_65 : decode cX0_about 65 = .ok (.aload_n 0, 1) := dk_42 (dk_at dksX0_about_2 5 rfl rfl)
theorem dX0_about_66 : decode cX0_about 66 = .ok (.getfield 88, 3) := dk_180 0 88 (dk_at dksX0_about_2 6 rfl rfl)
theorem dX0_about_69 : decode cX0_about 69 = .ok (.ireturn, 1) := dk_172 (dk_at dksX0_about_2 9 rfl rfl)
theorem dX0_about_70 : decode cX0_about 70 = .ok (.aload_n 0, 1) := dk_42 (dk_at dksX0_about_2 10 rfl rfl)
theorem dX0_about_71 : decode cX0_about 71 = .ok (.getfield 63, 3) := dk_180 0 63 (dk_at dksX0_about_2 11 rfl rfl)
theorem dX0_about_74 : decode cX0_about 74 = .ok (.ireturn, 1) := dk_172 (dk_at dksX0_about_2 14 rfl rfl)
theorem dX0_about_75 : decode cX0_about 75 = .ok (.aload_n 0, 1) := dk_42 (dk_at dksX0_about_2 15 rfl rfl)
theorem dX0_about_76 : decode cX0_about 76 = .ok (.getfield 220, 3) := dk_180 0 220 (dk_at dksX0_about_2 16 rfl rfl)
theorem dX0_about_79 : decode cX0_about 79 = .ok (.ireturn, 1) := dk_172 (dk_at dksX0_about_2 19 rfl rfl)
theorem dX0_about_80 : decode cX0_about 80 = .ok (.aload_n 0, 1) := dk_42 (dk_at dksX0_about_2 20 rfl rfl)
theorem dX0_about_81 : decode cX0_about 81 = .ok (.getfield 314, 3) := dk_180 1 58 (dk_at dksX0_about_2 21 rfl rfl)
theorem dX0_about_84 : decode cX0_about 84 = .ok (.ireturn, 1) := dk_172 (dk_at dksX0_about_3 0 rfl rfl)
theorem dX0_about_85 : decode cX0_about 85 = .ok (.aload_n 0, 1) := dk_42 (dk_at dksX0_about_3 1 rfl rfl)
theorem dX0_about_86 : decode cX0_about 86 = .ok (.getfield 180, 3) := dk_180 0 180 (dk_at dksX0_about_3 2 rfl rfl)
theorem dX0_about_89 : decode cX0_about 89 = .ok (.ireturn, 1) := dk_172 (dk_at dksX0_about_3 5 rfl rfl)
theorem dX0_about_90 : decode cX0_about 90 = .ok (.aload_n 0, 1) := dk_42 (dk_at dksX0_about_3 6 rfl rfl)
theorem dX0_about_91 : decode cX0_about 91 = .ok (.getfield 189, 3) := dk_180 0 189 (dk_at dksX0_about_3 7 rfl rfl)
theorem dX0_about_94 : decode cX0_about 94 = .ok (.ireturn, 1) := dk_172 (dk_at dksX0_about_3 10 rfl rfl)
theorem dX0_about_95 : decode cX0_about 95 = .ok (.aload_n 0, 1) := dk_42 (dk_at dksX0_about_3 11 rfl rfl)
theorem dX0_about_96 : decode cX0_about 96 = .ok (.getfield 111, 3) := dk_180 0 111 (dk_at dksX0_about_3 12 rfl rfl)
theorem dX0_about_99 : decode cX0_about 99 = .ok (.ifCond .eq 7, 3) := dk_153 0 7 (dk_at dksX0_about_3 15 rfl rfl)
theorem dX0_about_102 : decode cX0_about 102 = .ok (.iconst 1, 1) := dk_4 (dk_at dksX0_about_3 18 rfl rfl)
theorem dX0_about_103 : decode cX0_about 103 = .ok (.goto 4, 3) := dk_167 0 4 (dk_at dksX0_about_3 19 rfl rfl)
theorem dX0_about_106 : decode cX0_about 106 = .ok (.iconst 0, 1) := dk_3 (dk_at dksX0_about_3 22 rfl rfl)
theorem dX0_about_107 : decode cX0_about 107 = .ok (.ireturn, 1) := dk_172 (dk_at dksX0_about_3 23 rfl rfl)
theorem dX0_about_108 : decode cX0_about 108 = .ok (.aload_n 0, 1) := dk_42 (dk_at dksX0_about_4 0 rfl rfl)
theorem dX0_about_109 : decode cX0_about 109 = .ok (.getfield 226, 3) := dk_180 0 226 (dk_at dksX0_about_4 1 rfl rfl)
theorem dX0_about_112 : decode cX0_about 112 = .ok (.ireturn, 1) := dk_172 (dk_at dksX0_about_4 4 rfl rfl)
theorem dX0_about_113 : decode cX0_about 113 = .ok (.aload_n 0, 1) := dk_42 (dk_at dksX0_about_4 5 rfl rfl)
theorem dX0_about_114 : decode cX0_about 114 = .ok (.getfield 264, 3) := dk_180 1 8 (dk_at dksX0_about_4 6 rfl rfl)
theorem dX0_about_117 : decode cX0_about 117 = .ok (.ireturn, 1) := dk_172 (dk_at dksX0_about_4 9 rfl rfl)
theorem dX0_about_118 : decode cX0_about 118 = .ok (.aload_n 0, 1) := dk_42 (dk_at dksX0_about_4 10 rfl rfl)
theorem dX0_about_119 : decode cX0_about 119 = .ok (.getfield 261, 3) := dk_180 1 5 (dk_at dksX0_about_4 11 rfl rfl)
theorem dX0_about_122 : decode cX0_about 122 = .ok (.ireturn, 1) := dk_172 (dk_at dksX0_about_4 14 rfl rfl)
theorem dX0_about_123 : decode cX0_about 123 = .ok (.bipush (-102), 2) := dk_16 154 (dk_at dksX0_about_4 15 rfl rfl)
theorem dX0_about_125 : decode cX0_about 125 = .ok (.ireturn, 1) := dk_172 (dk_at dksX0_about_4 17 rfl rfl)
abbrev cX0_digest : ByteArray := prog_1_method_55_code
def yX0_digest : MethodName := ⟨RX0, "digest", "()J"⟩
def dkwX0_digest_8 : List UInt8 := [20, 1, 83, 31, 105, 42, 180, 0, 189, 133, 97, 173]
abbrev dktX0_digest_8 : List UInt8 := dkwX0_digest_8 ++ []
def dkwX0_digest_7 : List UInt8 := [162, 0, 23, 20, 1, 83, 31, 105, 42, 180, 0, 74, 29, 46, 133, 97, 64, 132, 3, 1, 167, 255, 224]
abbrev dktX0_digest_7 : List UInt8 := dkwX0_digest_7 ++ dktX0_digest_8
def dkwX0_digest_6 : List UInt8 := [167, 255, 232, 132, 3, 1, 167, 255, 181, 3, 62, 29, 8, 42, 180, 1, 58, 16, 100, 184, 1, 78, 104]
abbrev dktX0_digest_6 : List UInt8 := dkwX0_digest_6 ++ dktX0_digest_7
def dkwX0_digest_5 : List UInt8 := [7, 162, 0, 24, 20, 1, 83, 31, 105, 42, 29, 21, 4, 182, 1, 71, 133, 97, 64, 132, 4, 1]
abbrev dktX0_digest_5 : List UInt8 := dkwX0_digest_5 ++ dktX0_digest_6
def dkwX0_digest_4 : List UInt8 := [180, 0, 55, 29, 50, 21, 4, 182, 1, 74, 133, 97, 64, 132, 4, 1, 167, 255, 226, 3, 54, 4, 21, 4]
abbrev dktX0_digest_4 : List UInt8 := dkwX0_digest_4 ++ dktX0_digest_5
def dkwX0_digest_3 : List UInt8 := [16, 8, 162, 0, 75, 3, 54, 4, 21, 4, 16, 6, 162, 0, 29, 20, 1, 83, 31, 105, 42, 42]
abbrev dktX0_digest_3 : List UInt8 := dkwX0_digest_3 ++ dktX0_digest_4
def dkwX0_digest_2 : List UInt8 := [162, 0, 20, 31, 42, 180, 0, 49, 29, 50, 184, 1, 87, 64, 132, 3, 1, 167, 255, 234, 3, 62, 29]
abbrev dktX0_digest_2 : List UInt8 := dkwX0_digest_2 ++ dktX0_digest_3
def dkwX0_digest_1 : List UInt8 := [180, 0, 67, 29, 48, 184, 0, 129, 133, 97, 64, 132, 3, 1, 167, 255, 225, 3, 62, 29, 42, 180, 0, 88]
abbrev dktX0_digest_1 : List UInt8 := dkwX0_digest_1 ++ dktX0_digest_2
def dkwX0_digest_0 : List UInt8 := [20, 1, 85, 64, 3, 62, 29, 16, 8, 42, 180, 0, 220, 104, 162, 0, 26, 20, 1, 83, 31, 105, 42]
abbrev dktX0_digest_0 : List UInt8 := dkwX0_digest_0 ++ dktX0_digest_1
theorem dksX0_digest_0 : cX0_digest.data.toList.drop 0 = dktX0_digest_0 := by decide +kernel
theorem dksX0_digest_1 : cX0_digest.data.toList.drop 23 = dktX0_digest_1 := dk_seg dksX0_digest_0 23 rfl rfl
theorem dksX0_digest_2 : cX0_digest.data.toList.drop 47 = dktX0_digest_2 := dk_seg dksX0_digest_1 24 rfl rfl
theorem dksX0_digest_3 : cX0_digest.data.toList.drop 70 = dktX0_digest_3 := dk_seg dksX0_digest_2 23 rfl rfl
theorem dksX0_digest_4 : cX0_digest.data.toList.drop 92 = dktX0_digest_4 := dk_seg dksX0_digest_3 22 rfl rfl
theorem dksX0_digest_5 : cX0_digest.data.toList.drop 116 = dktX0_digest_5 := dk_seg dksX0_digest_4 24 rfl rfl
theorem dksX0_digest_6 : cX0_digest.data.toList.drop 138 = dktX0_digest_6 := dk_seg dksX0_digest_5 22 rfl rfl
theorem dksX0_digest_7 : cX0_digest.data.toList.drop 161 = dktX0_digest_7 := dk_seg dksX0_digest_6 23 rfl rfl
theorem dksX0_digest_8 : cX0_digest.data.toList.drop 184 = dktX0_digest_8 := dk_seg dksX0_digest_7 23 rfl rfl
theorem dX0_digest_0 : decode cX0_digest 0 = .ok (.ldc2_w 341, 3) := dk_20 1 85 (dk_at dksX0_digest_0 0 rfl rfl)
theorem dX0_digest_3 : decode cX0_digest 3 = .ok (.lstore_n 1, 1) := dk_64 (dk_at dksX0_digest_0 3 rfl rfl)
theorem dX0_digest_4 : decode cX0_digest 4 = .ok (.iconst 0, 1) := dk_3 (dk_at dksX0_digest_0 4 rfl rfl)
theorem dX0_digest_5 : decode cX0_digest 5 = .ok (.istore_n 3, 1) := dk_62 (dk_at dksX0_digest_0 5 rfl rfl)
theorem dX0_digest_6 : decode cX0_digest 6 = .ok (.iload_n 3, 1) := dk_29 (dk_at dksX0_digest_0 6 rfl rfl)
theorem dX0_digest_7 : decode cX0_digest 7 = .ok (.bipush 8, 2) := dk_16 8 (dk_at dksX0_digest_0 7 rfl rfl)
theorem dX0_digest_9 : decode cX0_digest 9 = .ok (.aload_n 0, 1) := dk_42 (dk_at dksX0_digest_0 9 rfl rfl)
theorem dX0_digest_10 : decode cX0_digest 10 = .ok (.getfield 220, 3) := dk_180 0 220 (dk_at dksX0_digest_0 10 rfl rfl)
theorem dX0_digest_13 : decode cX0_digest 13 = .ok (.imul, 1) := dk_104 (dk_at dksX0_digest_0 13 rfl rfl)
theorem dX0_digest_14 : decode cX0_digest 14 = .ok (.if_icmp .ge 26, 3) := dk_162 0 26 (dk_at dksX0_digest_0 14 rfl rfl)
theorem dX0_digest_17 : decode cX0_digest 17 = .ok (.ldc2_w 339, 3) := dk_20 1 83 (dk_at dksX0_digest_0 17 rfl rfl)
theorem dX0_digest_20 : decode cX0_digest 20 = .ok (.lload_n 1, 1) := dk_31 (dk_at dksX0_digest_0 20 rfl rfl)
theorem dX0_digest_21 : decode cX0_digest 21 = .ok (.lmul, 1) := dk_105 (dk_at dksX0_digest_0 21 rfl rfl)
theorem dX0_digest_22 : decode cX0_digest 22 = .ok (.aload_n 0, 1) := dk_42 (dk_at dksX0_digest_0 22 rfl rfl)
theorem dX0_digest_23 : decode cX0_digest 23 = .ok (.getfield 67, 3) := dk_180 0 67 (dk_at dksX0_digest_1 0 rfl rfl)
theorem dX0_digest_26 : decode cX0_digest 26 = .ok (.iload_n 3, 1) := dk_29 (dk_at dksX0_digest_1 3 rfl rfl)
theorem dX0_digest_27 : decode cX0_digest 27 = .ok (.faload, 1) := dk_48 (dk_at dksX0_digest_1 4 rfl rfl)
theorem dX0_digest_28 : decode cX0_digest 28 = .ok (.invokestatic 129, 3) := dk_184 0 129 (dk_at dksX0_digest_1 5 rfl rfl)
theorem dX0_digest_31 : decode cX0_digest 31 = .ok (.i2l, 1) := dk_133 (dk_at dksX0_digest_1 8 rfl rfl)
theorem dX0_digest_32 : decode cX0_digest 32 = .ok (.ladd, 1) := dk_97 (dk_at dksX0_digest_1 9 rfl rfl)
theorem dX0_digest_33 : decode cX0_digest 33 = .ok (.lstore_n 1, 1) := dk_64 (dk_at dksX0_digest_1 10 rfl rfl)
theorem dX0_digest_34 : decode cX0_digest 34 = .ok (.iinc 3 1, 3) := dk_132 3 1 (dk_at dksX0_digest_1 11 rfl rfl)
theorem dX0_digest_37 : decode cX0_digest 37 = .ok (.goto (-31), 3) := dk_167 255 225 (dk_at dksX0_digest_1 14 rfl rfl)
theorem dX0_digest_40 : decode cX0_digest 40 = .ok (.iconst 0, 1) := dk_3 (dk_at dksX0_digest_1 17 rfl rfl)
theorem dX0_digest_41 : decode cX0_digest 41 = .ok (.istore_n 3, 1) := dk_62 (dk_at dksX0_digest_1 18 rfl rfl)
theorem dX0_digest_42 : decode cX0_digest 42 = .ok (.iload_n 3, 1) := dk_29 (dk_at dksX0_digest_1 19 rfl rfl)
theorem dX0_digest_43 : decode cX0_digest 43 = .ok (.aload_n 0, 1) := dk_42 (dk_at dksX0_digest_1 20 rfl rfl)
theorem dX0_digest_44 : decode cX0_digest 44 = .ok (.getfield 88, 3) := dk_180 0 88 (dk_at dksX0_digest_1 21 rfl rfl)
theorem dX0_digest_47 : decode cX0_digest 47 = .ok (.if_icmp .ge 20, 3) := dk_162 0 20 (dk_at dksX0_digest_2 0 rfl rfl)
theorem dX0_digest_50 : decode cX0_digest 50 = .ok (.lload_n 1, 1) := dk_31 (dk_at dksX0_digest_2 3 rfl rfl)
theorem dX0_digest_51 : decode cX0_digest 51 = .ok (.aload_n 0, 1) := dk_42 (dk_at dksX0_digest_2 4 rfl rfl)
theorem dX0_digest_52 : decode cX0_digest 52 = .ok (.getfield 49, 3) := dk_180 0 49 (dk_at dksX0_digest_2 5 rfl rfl)
theorem dX0_digest_55 : decode cX0_digest 55 = .ok (.iload_n 3, 1) := dk_29 (dk_at dksX0_digest_2 8 rfl rfl)
theorem dX0_digest_56 : decode cX0_digest 56 = .ok (.aaload, 1) := dk_50 (dk_at dksX0_digest_2 9 rfl rfl)
theorem dX0_digest_57 : decode cX0_digest 57 = .ok (.invokestatic 343, 3) := dk_184 1 87 (dk_at dksX0_digest_2 10 rfl rfl)
theorem dX0_digest_60 : decode cX0_digest 60 = .ok (.lstore_n 1, 1) := dk_64 (dk_at dksX0_digest_2 13 rfl rfl)
theorem dX0_digest_61 : decode cX0_digest 61 = .ok (.iinc 3 1, 3) := dk_132 3 1 (dk_at dksX0_digest_2 14 rfl rfl)
theorem dX0_digest_64 : decode cX0_digest 64 = .ok (.goto (-22), 3) := dk_167 255 234 (dk_at dksX0_digest_2 17 rfl rfl)
theorem dX0_digest_67 : decode cX0_digest 67 = .ok (.iconst 0, 1) := dk_3 (dk_at dksX0_digest_2 20 rfl rfl)
theorem dX0_digest_68 : decode cX0_digest 68 = .ok (.istore_n 3, 1) := dk_62 (dk_at dksX0_digest_2 21 rfl rfl)
theorem dX0_digest_69 : decode cX0_digest 69 = .ok (.iload_n 3, 1) := dk_29 (dk_at dksX0_digest_2 22 rfl rfl)
theorem dX0_digest_70 : decode cX0_digest 70 = .ok (.bipush 8, 2) := dk_16 8 (dk_at dksX0_digest_3 0 rfl rfl)
theorem dX0_digest_72 : decode cX0_digest 72 = .ok (.if_icmp .ge 75, 3) := dk_162 0 75 (dk_at dksX0_digest_3 2 rfl rfl)
theorem dX0_digest_75 : decode cX0_digest 75 = .ok (.iconst 0, 1) := dk_3 (dk_at dksX0_digest_3 5 rfl rfl)
theorem dX0_digest_76 : decode cX0_digest 76 = .ok (.istore 4, 2) := dk_54 4 (dk_at dksX0_digest_3 6 rfl rfl)
theorem dX0_digest_78 : decode cX0_digest 78 = .ok (.iload 4, 2) := dk_21 4 (dk_at dksX0_digest_3 8 rfl rfl)
theorem dX0_digest_80 : decode cX0_digest 80 = .ok (.bipush 6, 2) := dk_16 6 (dk_at dksX0_digest_3 10 rfl rfl)
theorem dX0_digest_82 : decode cX0_digest 82 = .ok (.if_icmp .ge 29, 3) := dk_162 0 29 (dk_at dksX0_digest_3 12 rfl rfl)
theorem dX0_digest_85 : decode cX0_digest 85 = .ok (.ldc2_w 339, 3) := dk_20 1 83 (dk_at dksX0_digest_3 15 rfl rfl)
theorem dX0_digest_88 : decode cX0_digest 88 = .ok (.lload_n 1, 1) := dk_31 (dk_at dksX0_digest_3 18 rfl rfl)
theorem dX0_digest_89 : decode cX0_digest 89 = .ok (.lmul, 1) := dk_105 (dk_at dksX0_digest_3 19 rfl rfl)
theorem dX0_digest_90 : decode cX0_digest 90 = .ok (.aload_n 0, 1) := dk_42 (dk_at dksX0_digest_3 20 rfl rfl)
theorem dX0_digest_91 : decode cX0_digest 91 = .ok (.aload_n 0, 1) := dk_42 (dk_at dksX0_digest_3 21 rfl rfl)
theorem dX0_digest_92 : decode cX0_digest 92 = .ok (.getfield 55, 3) := dk_180 0 55 (dk_at dksX0_digest_4 0 rfl rfl)
theorem dX0_digest_95 : decode cX0_digest 95 = .ok (.iload_n 3, 1) := dk_29 (dk_at dksX0_digest_4 3 rfl rfl)
theorem dX0_digest_96 : decode cX0_digest 96 = .ok (.aaload, 1) := dk_50 (dk_at dksX0_digest_4 4 rfl rfl)
theorem dX0_digest_97 : decode cX0_digest 97 = .ok (.iload 4, 2) := dk_21 4 (dk_at dksX0_digest_4 5 rfl rfl)
theorem dX0_digest_99 : decode cX0_digest 99 = .ok (.invokevirtual 330, 3) := dk_182 1 74 (dk_at dksX0_digest_4 7 rfl rfl)
theorem dX0_digest_102 : decode cX0_digest 102 = .ok (.i2l, 1) := dk_133 (dk_at dksX0_digest_4 10 rfl rfl)
theorem dX0_digest_103 : decode cX0_digest 103 = .ok (.ladd, 1) := dk_97 (dk_at dksX0_digest_4 11 rfl rfl)
theorem dX0_digest_104 : decode cX0_digest 104 = .ok (.lstore_n 1, 1) := dk_64 (dk_at dksX0_digest_4 12 rfl rfl)
theorem dX0_digest_105 : decode cX0_digest 105 = .ok (.iinc 4 1, 3) := dk_132 4 1 (dk_at dksX0_digest_4 13 rfl rfl)
theorem dX0_digest_108 : decode cX0_digest 108 = .ok (.goto (-30), 3) := dk_167 255 226 (dk_at dksX0_digest_4 16 rfl rfl)
theorem dX0_digest_111 : decode cX0_digest 111 = .ok (.iconst 0, 1) := dk_3 (dk_at dksX0_digest_4 19 rfl rfl)
theorem dX0_digest_112 : decode cX0_digest 112 = .ok (.istore 4, 2) := dk_54 4 (dk_at dksX0_digest_4 20 rfl rfl)
theorem dX0_digest_114 : decode cX0_digest 114 = .ok (.iload 4, 2) := dk_21 4 (dk_at dksX0_digest_4 22 rfl rfl)
theorem dX0_digest_116 : decode cX0_digest 116 = .ok (.iconst 4, 1) := dk_7 (dk_at dksX0_digest_5 0 rfl rfl)
theorem dX0_digest_117 : decode cX0_digest 117 = .ok (.if_icmp .ge 24, 3) := dk_162 0 24 (dk_at dksX0_digest_5 1 rfl rfl)
theorem dX0_digest_120 : decode cX0_digest 120 = .ok (.ldc2_w 339, 3) := dk_20 1 83 (dk_at dksX0_digest_5 4 rfl rfl)
theorem dX0_digest_123 : decode cX0_digest 123 = .ok (.lload_n 1, 1) := dk_31 (dk_at dksX0_digest_5 7 rfl rfl)
theorem dX0_digest_124 : decode cX0_digest 124 = .ok (.lmul, 1) := dk_105 (dk_at dksX0_digest_5 8 rfl rfl)
theorem dX0_digest_125 : decode cX0_digest 125 = .ok (.aload_n 0, 1) := dk_42 (dk_at dksX0_digest_5 9 rfl rfl)
theorem dX0_digest_126 : decode cX0_digest 126 = .ok (.iload_n 3, 1) := dk_29 (dk_at dksX0_digest_5 10 rfl rfl)
theorem dX0_digest_127 : decode cX0_digest 127 = .ok (.iload 4, 2) := dk_21 4 (dk_at dksX0_digest_5 11 rfl rfl)
theorem dX0_digest_129 : decode cX0_digest 129 = .ok (.invokevirtual 327, 3) := dk_182 1 71 (dk_at dksX0_digest_5 13 rfl rfl)
theorem dX0_digest_132 : decode cX0_digest 132 = .ok (.i2l, 1) := dk_133 (dk_at dksX0_digest_5 16 rfl rfl)
theorem dX0_digest_133 : decode cX0_digest 133 = .ok (.ladd, 1) := dk_97 (dk_at dksX0_digest_5 17 rfl rfl)
theorem dX0_digest_134 : decode cX0_digest 134 = .ok (.lstore_n 1, 1) := dk_64 (dk_at dksX0_digest_5 18 rfl rfl)
theorem dX0_digest_135 : decode cX0_digest 135 = .ok (.iinc 4 1, 3) := dk_132 4 1 (dk_at dksX0_digest_5 19 rfl rfl)
theorem dX0_digest_138 : decode cX0_digest 138 = .ok (.goto (-24), 3) := dk_167 255 232 (dk_at dksX0_digest_6 0 rfl rfl)
theorem dX0_digest_141 : decode cX0_digest 141 = .ok (.iinc 3 1, 3) := dk_132 3 1 (dk_at dksX0_digest_6 3 rfl rfl)
theorem dX0_digest_144 : decode cX0_digest 144 = .ok (.goto (-75), 3) := dk_167 255 181 (dk_at dksX0_digest_6 6 rfl rfl)
theorem dX0_digest_147 : decode cX0_digest 147 = .ok (.iconst 0, 1) := dk_3 (dk_at dksX0_digest_6 9 rfl rfl)
theorem dX0_digest_148 : decode cX0_digest 148 = .ok (.istore_n 3, 1) := dk_62 (dk_at dksX0_digest_6 10 rfl rfl)
theorem dX0_digest_149 : decode cX0_digest 149 = .ok (.iload_n 3, 1) := dk_29 (dk_at dksX0_digest_6 11 rfl rfl)
theorem dX0_digest_150 : decode cX0_digest 150 = .ok (.iconst 5, 1) := dk_8 (dk_at dksX0_digest_6 12 rfl rfl)
theorem dX0_digest_151 : decode cX0_digest 151 = .ok (.aload_n 0, 1) := dk_42 (dk_at dksX0_digest_6 13 rfl rfl)
theorem dX0_digest_152 : decode cX0_digest 152 = .ok (.getfield 314, 3) := dk_180 1 58 (dk_at dksX0_digest_6 14 rfl rfl)
theorem dX0_digest_155 : decode cX0_digest 155 = .ok (.bipush 100, 2) := dk_16 100 (dk_at dksX0_digest_6 17 rfl rfl)
theorem dX0_digest_157 : decode cX0_digest 157 = .ok (.invokestatic 334, 3) := dk_184 1 78 (dk_at dksX0_digest_6 19 rfl rfl)
theorem dX0_digest_160 : decode cX0_digest 160 = .ok (.imul, 1) := dk_104 (dk_at dksX0_digest_6 22 rfl rfl)
theorem dX0_digest_161 : decode cX0_digest 161 = .ok (.if_icmp .ge 23, 3) := dk_162 0 23 (dk_at dksX0_digest_7 0 rfl rfl)
theorem dX0_digest_164 : decode cX0_digest 164 = .ok (.ldc2_w 339, 3) := dk_20 1 83 (dk_at dksX0_digest_7 3 rfl rfl)
theorem dX0_digest_167 : decode cX0_digest 167 = .ok (.lload_n 1, 1) := dk_31 (dk_at dksX0_digest_7 6 rfl rfl)
theorem dX0_digest_168 : decode cX0_digest 168 = .ok (.lmul, 1) := dk_105 (dk_at dksX0_digest_7 7 rfl rfl)
theorem dX0_digest_169 : decode cX0_digest 169 = .ok (.aload_n 0, 1) := dk_42 (dk_at dksX0_digest_7 8 rfl rfl)
theorem dX0_digest_170 : decode cX0_digest 170 = .ok (.getfield 74, 3) := dk_180 0 74 (dk_at dksX0_digest_7 9 rfl rfl)
theorem dX0_digest_173 : decode cX0_digest 173 = .ok (.iload_n 3, 1) := dk_29 (dk_at dksX0_digest_7 12 rfl rfl)
theorem dX0_digest_174 : decode cX0_digest 174 = .ok (.iaload, 1) := dk_46 (dk_at dksX0_digest_7 13 rfl rfl)
theorem dX0_digest_175 : decode cX0_digest 175 = .ok (.i2l, 1) := dk_133 (dk_at dksX0_digest_7 14 rfl rfl)
theorem dX0_digest_176 : decode cX0_digest 176 = .ok (.ladd, 1) := dk_97 (dk_at dksX0_digest_7 15 rfl rfl)
theorem dX0_digest_177 : decode cX0_digest 177 = .ok (.lstore_n 1, 1) := dk_64 (dk_at dksX0_digest_7 16 rfl rfl)
theorem dX0_digest_178 : decode cX0_digest 178 = .ok (.iinc 3 1, 3) := dk_132 3 1 (dk_at dksX0_digest_7 17 rfl rfl)
theorem dX0_digest_181 : decode cX0_digest 181 = .ok (.goto (-32), 3) := dk_167 255 224 (dk_at dksX0_digest_7 20 rfl rfl)
theorem dX0_digest_184 : decode cX0_digest 184 = .ok (.ldc2_w 339, 3) := dk_20 1 83 (dk_at dksX0_digest_8 0 rfl rfl)
theorem dX0_digest_187 : decode cX0_digest 187 = .ok (.lload_n 1, 1) := dk_31 (dk_at dksX0_digest_8 3 rfl rfl)
theorem dX0_digest_188 : decode cX0_digest 188 = .ok (.lmul, 1) := dk_105 (dk_at dksX0_digest_8 4 rfl rfl)
theorem dX0_digest_189 : decode cX0_digest 189 = .ok (.aload_n 0, 1) := dk_42 (dk_at dksX0_digest_8 5 rfl rfl)
theorem dX0_digest_190 : decode cX0_digest 190 = .ok (.getfield 189, 3) := dk_180 0 189 (dk_at dksX0_digest_8 6 rfl rfl)
theorem dX0_digest_193 : decode cX0_digest 193 = .ok (.i2l, 1) := dk_133 (dk_at dksX0_digest_8 9 rfl rfl)
theorem dX0_digest_194 : decode cX0_digest 194 = .ok (.ladd, 1) := dk_97 (dk_at dksX0_digest_8 10 rfl rfl)
theorem dX0_digest_195 : decode cX0_digest 195 = .ok (.lreturn, 1) := dk_173 (dk_at dksX0_digest_8 11 rfl rfl)
abbrev cX0_withPlug : ByteArray := prog_1_method_54_code
def yX0_withPlug : MethodName := ⟨RX0, "withPlug", "(JLScoreThreads$Plug;)J"⟩
def dkwX0_withPlug_4 : List UInt8 := [180, 0, 154, 21, 6, 48, 184, 0, 129, 133, 97, 66, 132, 6, 1, 167, 255, 215, 33, 173]
abbrev dktX0_withPlug_4 : List UInt8 := dkwX0_withPlug_4 ++ []
def dkwX0_withPlug_3 : List UInt8 := [180, 0, 154, 198, 0, 39, 21, 6, 25, 5, 180, 0, 154, 190, 162, 0, 28, 20, 1, 83, 33, 105, 25, 5]
abbrev dktX0_withPlug_3 : List UInt8 := dkwX0_withPlug_3 ++ dktX0_withPlug_4
def dkwX0_withPlug_2 : List UInt8 := [180, 0, 154, 199, 0, 7, 2, 167, 0, 9, 25, 5, 180, 0, 154, 190, 133, 97, 66, 3, 54, 6, 25, 5]
abbrev dktX0_withPlug_2 : List UInt8 := dkwX0_withPlug_2 ++ dktX0_withPlug_3
def dkwX0_withPlug_1 : List UInt8 := [58, 5, 20, 1, 83, 33, 105, 25, 5, 180, 0, 151, 133, 97, 66, 20, 1, 83, 33, 105, 25, 5]
abbrev dktX0_withPlug_1 : List UInt8 := dkwX0_withPlug_1 ++ dktX0_withPlug_2
def dkwX0_withPlug_0 : List UInt8 := [20, 1, 83, 30, 105, 44, 182, 0, 167, 133, 97, 66, 44, 193, 0, 20, 153, 0, 95, 44, 192, 0, 20]
abbrev dktX0_withPlug_0 : List UInt8 := dkwX0_withPlug_0 ++ dktX0_withPlug_1
theorem dksX0_withPlug_0 : cX0_withPlug.data.toList.drop 0 = dktX0_withPlug_0 := by decide +kernel
theorem dksX0_withPlug_1 : cX0_withPlug.data.toList.drop 23 = dktX0_withPlug_1 := dk_seg dksX0_withPlug_0 23 rfl rfl
theorem dksX0_withPlug_2 : cX0_withPlug.data.toList.drop 45 = dktX0_withPlug_2 := dk_seg dksX0_withPlug_1 22 rfl rfl
theorem dksX0_withPlug_3 : cX0_withPlug.data.toList.drop 69 = dktX0_withPlug_3 := dk_seg dksX0_withPlug_2 24 rfl rfl
theorem dksX0_withPlug_4 : cX0_withPlug.data.toList.drop 93 = dktX0_withPlug_4 := dk_seg dksX0_withPlug_3 24 rfl rfl
theorem dX0_withPlug_0 : decode cX0_withPlug 0 = .ok (.ldc2_w 339, 3) := dk_20 1 83 (dk_at dksX0_withPlug_0 0 rfl rfl)
theorem dX0_withPlug_3 : decode cX0_withPlug 3 = .ok (.lload_n 0, 1) := dk_30 (dk_at dksX0_withPlug_0 3 rfl rfl)
theorem dX0_withPlug_4 : decode cX0_withPlug 4 = .ok (.lmul, 1) := dk_105 (dk_at dksX0_withPlug_0 4 rfl rfl)
theorem dX0_withPlug_5 : decode cX0_withPlug 5 = .ok (.aload_n 2, 1) := dk_44 (dk_at dksX0_withPlug_0 5 rfl rfl)
theorem dX0_withPlug_6 : decode cX0_withPlug 6 = .ok (.invokevirtual 167, 3) := dk_182 0 167 (dk_at dksX0_withPlug_0 6 rfl rfl)
theorem dX0_withPlug_9 : decode cX0_withPlug 9 = .ok (.i2l, 1) := dk_133 (dk_at dksX0_withPlug_0 9 rfl rfl)
theorem dX0_withPlug_10 : decode cX0_withPlug 10 = .ok (.ladd, 1) := dk_97 (dk_at dksX0_withPlug_0 10 rfl rfl)
theorem dX0_withPlug_11 : decode cX0_withPlug 11 = .ok (.lstore_n 3, 1) := dk_66 (dk_at dksX0_withPlug_0 11 rfl rfl)
theorem dX0_withPlug_12 : decode cX0_withPlug 12 = .ok (.aload_n 2, 1) := dk_44 (dk_at dksX0_withPlug_0 12 rfl rfl)
theorem dX0_withPlug_13 : decode cX0_withPlug 13 = .ok (.instanceof 20, 3) := dk_193 0 20 (dk_at dksX0_withPlug_0 13 rfl rfl)
theorem dX0_withPlug_16 : decode cX0_withPlug 16 = .ok (.ifCond .eq 95, 3) := dk_153 0 95 (dk_at dksX0_withPlug_0 16 rfl rfl)
theorem dX0_withPlug_19 : decode cX0_withPlug 19 = .ok (.aload_n 2, 1) := dk_44 (dk_at dksX0_withPlug_0 19 rfl rfl)
theorem dX0_withPlug_20 : decode cX0_withPlug 20 = .ok (.checkcast 20, 3) := dk_192 0 20 (dk_at dksX0_withPlug_0 20 rfl rfl)
theorem dX0_withPlug_23 : decode cX0_withPlug 23 = .ok (.astore 5, 2) := dk_58 5 (dk_at dksX0_withPlug_1 0 rfl rfl)
theorem dX0_withPlug_25 : decode cX0_withPlug 25 = .ok (.ldc2_w 339, 3) := dk_20 1 83 (dk_at dksX0_withPlug_1 2 rfl rfl)
theorem dX0_withPlug_28 : decode cX0_withPlug 28 = .ok (.lload_n 3, 1) := dk_33 (dk_at dksX0_withPlug_1 5 rfl rfl)
theorem dX0_withPlug_29 : decode cX0_withPlug 29 = .ok (.lmul, 1) := dk_105 (dk_at dksX0_withPlug_1 6 rfl rfl)
theorem dX0_withPlug_30 : decode cX0_withPlug 30 = .ok (.aload 5, 2) := dk_25 5 (dk_at dksX0_withPlug_1 7 rfl rfl)
theorem dX0_withPlug_32 : decode cX0_withPlug 32 = .ok (.getfield 151, 3) := dk_180 0 151 (dk_at dksX0_withPlug_1 9 rfl rfl)
theorem dX0_withPlug_35 : decode cX0_withPlug 35 = .ok (.i2l, 1) := dk_133 (dk_at dksX0_withPlug_1 12 rfl rfl)
theorem dX0_withPlug_36 : decode cX0_withPlug 36 = .ok (.ladd, 1) := dk_97 (dk_at dksX0_withPlug_1 13 rfl rfl)
theorem dX0_withPlug_37 : decode cX0_withPlug 37 = .ok (.lstore_n 3, 1) := dk_66 (dk_at dksX0_withPlug_1 14 rfl rfl)
theorem dX0_withPlug_38 : decode cX0_withPlug 38 = .ok (.ldc2_w 339, 3) := dk_20 1 83 (dk_at dksX0_withPlug_1 15 rfl rfl)
theorem dX0_withPlug_41 : decode cX0_withPlug 41 = .ok (.lload_n 3, 1) := dk_33 (dk_at dksX0_withPlug_1 18 rfl rfl)
theorem dX0_withPlug_42 : decode cX0_withPlug 42 = .ok (.lmul, 1) := dk_105 (dk_at dksX0_withPlug_1 19 rfl rfl)
theorem dX0_withPlug_43 : decode cX0_withPlug 43 = .ok (.aload 5, 2) := dk_25 5 (dk_at dksX0_withPlug_1 20 rfl rfl)
theorem dX0_withPlug_45 : decode cX0_withPlug 45 = .ok (.getfield 154, 3) := dk_180 0 154 (dk_at dksX0_withPlug_2 0 rfl rfl)
theorem dX0_withPlug_48 : decode cX0_withPlug 48 = .ok (.ifnonnull 7, 3) := dk_199 0 7 (dk_at dksX0_withPlug_2 3 rfl rfl)
theorem dX0_withPlug_51 : decode cX0_withPlug 51 = .ok (.iconst (-1), 1) := dk_2 (dk_at dksX0_withPlug_2 6 rfl rfl)
theorem dX0_withPlug_52 : decode cX0_withPlug 52 = .ok (.goto 9, 3) := dk_167 0 9 (dk_at dksX0_withPlug_2 7 rfl rfl)
theorem dX0_withPlug_55 : decode cX0_withPlug 55 = .ok (.aload 5, 2) := dk_25 5 (dk_at dksX0_withPlug_2 10 rfl rfl)
theorem dX0_withPlug_57 : decode cX0_withPlug 57 = .ok (.getfield 154, 3) := dk_180 0 154 (dk_at dksX0_withPlug_2 12 rfl rfl)
theorem dX0_withPlug_60 : decode cX0_withPlug 60 = .ok (.arraylength, 1) := dk_190 (dk_at dksX0_withPlug_2 15 rfl rfl)
theorem dX0_withPlug_61 : decode cX0_withPlug 61 = .ok (.i2l, 1) := dk_133 (dk_at dksX0_withPlug_2 16 rfl rfl)
theorem dX0_withPlug_62 : decode cX0_withPlug 62 = .ok (.ladd, 1) := dk_97 (dk_at dksX0_withPlug_2 17 rfl rfl)
theorem dX0_withPlug_63 : decode cX0_withPlug 63 = .ok (.lstore_n 3, 1) := dk_66 (dk_at dksX0_withPlug_2 18 rfl rfl)
theorem dX0_withPlug_64 : decode cX0_withPlug 64 = .ok (.iconst 0, 1) := dk_3 (dk_at dksX0_withPlug_2 19 rfl rfl)
theorem dX0_withPlug_65 : decode cX0_withPlug 65 = .ok (.istore 6, 2) := dk_54 6 (dk_at dksX0_withPlug_2 20 rfl rfl)
theorem dX0_withPlug_67 : decode cX0_withPlug 67 = .ok (.aload 5, 2) := dk_25 5 (dk_at dksX0_withPlug_2 22 rfl rfl)
theorem dX0_withPlug_69 : decode cX0_withPlug 69 = .ok (.getfield 154, 3) := dk_180 0 154 (dk_at dksX0_withPlug_3 0 rfl rfl)
theorem dX0_withPlug_72 : decode cX0_withPlug 72 = .ok (.ifnull 39, 3) := dk_198 0 39 (dk_at dksX0_withPlug_3 3 rfl rfl)
theorem dX0_withPlug_75 : decode cX0_withPlug 75 = .ok (.iload 6, 2) := dk_21 6 (dk_at dksX0_withPlug_3 6 rfl rfl)
theorem dX0_withPlug_77 : decode cX0_withPlug 77 = .ok (.aload 5, 2) := dk_25 5 (dk_at dksX0_withPlug_3 8 rfl rfl)
theorem dX0_withPlug_79 : decode cX0_withPlug 79 = .ok (.getfield 154, 3) := dk_180 0 154 (dk_at dksX0_withPlug_3 10 rfl rfl)
theorem dX0_withPlug_82 : decode cX0_withPlug 82 = .ok (.arraylength, 1) := dk_190 (dk_at dksX0_withPlug_3 13 rfl rfl)
theorem dX0_withPlug_83 : decode cX0_withPlug 83 = .ok (.if_icmp .ge 28, 3) := dk_162 0 28 (dk_at dksX0_withPlug_3 14 rfl rfl)
theorem dX0_withPlug_86 : decode cX0_withPlug 86 = .ok (.ldc2_w 339, 3) := dk_20 1 83 (dk_at dksX0_withPlug_3 17 rfl rfl)
theorem dX0_withPlug_89 : decode cX0_withPlug 89 = .ok (.lload_n 3, 1) := dk_33 (dk_at dksX0_withPlug_3 20 rfl rfl)
theorem dX0_withPlug_90 : decode cX0_withPlug 90 = .ok (.lmul, 1) := dk_105 (dk_at dksX0_withPlug_3 21 rfl rfl)
theorem dX0_withPlug_91 : decode cX0_withPlug 91 = .ok (.aload 5, 2) := dk_25 5 (dk_at dksX0_withPlug_3 22 rfl rfl)
theorem dX0_withPlug_93 : decode cX0_withPlug 93 = .ok (.getfield 154, 3) := dk_180 0 154 (dk_at dksX0_withPlug_4 0 rfl rfl)
theorem dX0_withPlug_96 : decode cX0_withPlug 96 = .ok (.iload 6, 2) := dk_21 6 (dk_at dksX0_withPlug_4 3 rfl rfl)
theorem dX0_withPlug_98 : decode cX0_withPlug 98 = .ok (.faload, 1) := dk_48 (dk_at dksX0_withPlug_4 5 rfl rfl)
theorem dX0_withPlug_99 : decode cX0_withPlug 99 = .ok (.invokestatic 129, 3) := dk_184 0 129 (dk_at dksX0_withPlug_4 6 rfl rfl)
theorem dX0_withPlug_102 : decode cX0_withPlug 102 = .ok (.i2l, 1) := dk_133 (dk_at dksX0_withPlug_4 9 rfl rfl)
theorem dX0_withPlug_103 : decode cX0_withPlug 103 = .ok (.ladd, 1) := dk_97 (dk_at dksX0_withPlug_4 10 rfl rfl)
theorem dX0_withPlug_104 : decode cX0_withPlug 104 = .ok (.lstore_n 3, 1) := dk_66 (dk_at dksX0_withPlug_4 11 rfl rfl)
theorem dX0_withPlug_105 : decode cX0_withPlug 105 = .ok (.iinc 6 1, 3) := dk_132 6 1 (dk_at dksX0_withPlug_4 12 rfl rfl)
theorem dX0_withPlug_108 : decode cX0_withPlug 108 = .ok (.goto (-41), 3) := dk_167 255 215 (dk_at dksX0_withPlug_4 15 rfl rfl)
theorem dX0_withPlug_111 : decode cX0_withPlug 111 = .ok (.lload_n 3, 1) := dk_33 (dk_at dksX0_withPlug_4 18 rfl rfl)
theorem dX0_withPlug_112 : decode cX0_withPlug 112 = .ok (.lreturn, 1) := dk_173 (dk_at dksX0_withPlug_4 19 rfl rfl)
theorem q52 : (Jvm.Cond.initialized "ScoreThreads") ∈ lw_all := lw_g (lw_at lw_m1 1 rfl) rfl
theorem q82 : (Jvm.Cond.instantiable "ScoreThreads" (20 : Nat)) ∈ lw_all := lw_g (lw_at lw_m1 31 rfl) rfl
theorem q84 : (Jvm.Cond.instanceMethod ({ cls := "ScoreThreads", name := "<init>", desc := "()V" } : Jvm.MethodName)) ∈ lw_all := lw_g (lw_at lw_m1 33 rfl) rfl
theorem q85 : (Jvm.Cond.code ({ cls := "ScoreThreads", name := "<init>", desc := "()V" } : Jvm.MethodName) prog_1_method_5_code (2 : Nat) (Option.none : Option Jvm.ClassFile.FieldType)) ∈ lw_all := lw_g (lw_at lw_m1 34 rfl) rfl
theorem q86 : (Jvm.Cond.methodLink "ScoreThreads" (40 : Nat) ({ cls := "java/lang/Object", name := "<init>", desc := "()V" } : Jvm.MethodName)) ∈ lw_all := lw_g (lw_at lw_m1 35 rfl) rfl
theorem q89 : (Jvm.Cond.classLink "ScoreThreads" (45 : Nat) "ScoreThreads$Clip") ∈ lw_all := lw_g (lw_at lw_m1 38 rfl) rfl
theorem q91 : (Jvm.Cond.classLink "ScoreThreads" (47 : Nat) "ScoreThreads$Plug") ∈ lw_all := lw_g (lw_at lw_m1 40 rfl) rfl
theorem q93 : (Jvm.Cond.classLink "ScoreThreads" (53 : Nat) "ScoreThreads$Track") ∈ lw_all := lw_g (lw_at lw_m1 42 rfl) rfl
theorem q96 : (Jvm.Cond.methodLinkNest "ScoreThreads" (80 : Nat) ({ cls := "ScoreThreads$Track", name := "<init>", desc := "()V" } : Jvm.MethodName) "ScoreThreads") ∈ lw_tbl := lw_at lw_m1 45 rfl
theorem q101 : (Jvm.Cond.fieldLink "ScoreThreads" (211 : Nat) "ScoreThreads$Track" "on" "Z") ∈ lw_all := lw_g (lw_at lw_m1 50 rfl) rfl
theorem q103 : (Jvm.Cond.fieldLink "ScoreThreads" (192 : Nat) "ScoreThreads$Track" "clip" "I") ∈ lw_all := lw_g (lw_at lw_m1 52 rfl) rfl
theorem q104 : (Jvm.Cond.fieldLink "ScoreThreads" (195 : Nat) "ScoreThreads$Track" "start" "I") ∈ lw_all := lw_g (lw_at lw_m1 53 rfl) rfl
theorem q105 : (Jvm.Cond.fieldLink "ScoreThreads" (198 : Nat) "ScoreThreads$Track" "strict" "Z") ∈ lw_all := lw_g (lw_at lw_m1 54 rfl) rfl
theorem q107 : (Jvm.Cond.fieldLink "ScoreThreads" (207 : Nat) "ScoreThreads$Track" "level" "F") ∈ lw_all := lw_g (lw_at lw_m1 56 rfl) rfl
theorem q108 : (Jvm.Cond.fieldLink "ScoreThreads" (201 : Nat) "ScoreThreads$Track" "pure" "Z") ∈ lw_all := lw_g (lw_at lw_m1 57 rfl) rfl
theorem q110 : (Jvm.Cond.fieldLink "ScoreThreads" (204 : Nat) "ScoreThreads$Track" "chain" "[LScoreThreads$Plug;") ∈ lw_all := lw_g (lw_at lw_m1 59 rfl) rfl
theorem q111 : (Jvm.Cond.fieldLink "ScoreThreads" (232 : Nat) "ScoreThreads$Track" "state" "I") ∈ lw_all := lw_g (lw_at lw_m1 60 rfl) rfl
theorem q113 : (Jvm.Cond.fieldLink "ScoreThreads" (235 : Nat) "ScoreThreads$Track" "place" "I") ∈ lw_all := lw_g (lw_at lw_m1 62 rfl) rfl
theorem q115 : (Jvm.Cond.fieldLink "ScoreThreads" (287 : Nat) "ScoreThreads$Track" "row" "[F") ∈ lw_all := lw_g (lw_at lw_m1 64 rfl) rfl
theorem q117 : (Jvm.Cond.fieldLink "ScoreThreads" (290 : Nat) "ScoreThreads$Track" "other" "[F") ∈ lw_all := lw_g (lw_at lw_m1 66 rfl) rfl
theorem q118 : (Jvm.Cond.fieldLink "ScoreThreads" (238 : Nat) "ScoreThreads$Track" "fails" "I") ∈ lw_all := lw_g (lw_at lw_m1 67 rfl) rfl
theorem q120 : (Jvm.Cond.fieldLink "ScoreThreads" (274 : Nat) "ScoreThreads$Track" "where" "[I") ∈ lw_all := lw_g (lw_at lw_m1 69 rfl) rfl
theorem q122 : (Jvm.Cond.fieldLink "ScoreThreads" (277 : Nat) "ScoreThreads$Track" "what" "[I") ∈ lw_all := lw_g (lw_at lw_m1 71 rfl) rfl
theorem q154 : (Jvm.Cond.fieldLink "ScoreThreads" (31 : Nat) "ScoreThreads" "clips" "[LScoreThreads$Clip;") ∈ lw_all := lw_g (lw_at lw_m1 103 rfl) rfl
theorem q155 : (Jvm.Cond.fieldLink "ScoreThreads" (85 : Nat) "ScoreThreads" "clipMany" "I") ∈ lw_all := lw_g (lw_at lw_m1 104 rfl) rfl
theorem q156 : (Jvm.Cond.fieldLink "ScoreThreads" (49 : Nat) "ScoreThreads" "plugs" "[LScoreThreads$Plug;") ∈ lw_all := lw_g (lw_at lw_m1 105 rfl) rfl
theorem q157 : (Jvm.Cond.fieldLink "ScoreThreads" (88 : Nat) "ScoreThreads" "plugMany" "I") ∈ lw_all := lw_g (lw_at lw_m1 106 rfl) rfl
theorem q158 : (Jvm.Cond.fieldLink "ScoreThreads" (55 : Nat) "ScoreThreads" "tracks" "[LScoreThreads$Track;") ∈ lw_all := lw_g (lw_at lw_m1 107 rfl) rfl
theorem q159 : (Jvm.Cond.fieldLink "ScoreThreads" (59 : Nat) "ScoreThreads" "has" "[I") ∈ lw_all := lw_g (lw_at lw_m1 108 rfl) rfl
theorem q160 : (Jvm.Cond.fieldLink "ScoreThreads" (63 : Nat) "ScoreThreads" "workers" "I") ∈ lw_all := lw_g (lw_at lw_m1 109 rfl) rfl
theorem q161 : (Jvm.Cond.fieldLink "ScoreThreads" (111 : Nat) "ScoreThreads" "runs" "Z") ∈ lw_all := lw_g (lw_at lw_m1 110 rfl) rfl
theorem q162 : (Jvm.Cond.fieldLink "ScoreThreads" (223 : Nat) "ScoreThreads" "stops" "Z") ∈ lw_all := lw_g (lw_at lw_m1 111 rfl) rfl
theorem q163 : (Jvm.Cond.fieldLink "ScoreThreads" (226 : Nat) "ScoreThreads" "left" "I") ∈ lw_all := lw_g (lw_at lw_m1 112 rfl) rfl
theorem q164 : (Jvm.Cond.fieldLink "ScoreThreads" (220 : Nat) "ScoreThreads" "blocks" "I") ∈ lw_all := lw_g (lw_at lw_m1 113 rfl) rfl
theorem q165 : (Jvm.Cond.fieldLink "ScoreThreads" (67 : Nat) "ScoreThreads" "out" "[F") ∈ lw_all := lw_g (lw_at lw_m1 114 rfl) rfl
theorem q166 : (Jvm.Cond.fieldLink "ScoreThreads" (264 : Nat) "ScoreThreads" "steps" "I") ∈ lw_all := lw_g (lw_at lw_m1 115 rfl) rfl
theorem q167 : (Jvm.Cond.fieldLink "ScoreThreads" (261 : Nat) "ScoreThreads" "waits" "I") ∈ lw_all := lw_g (lw_at lw_m1 116 rfl) rfl
theorem q168 : (Jvm.Cond.fieldLink "ScoreThreads" (71 : Nat) "ScoreThreads" "found" "[I") ∈ lw_all := lw_g (lw_at lw_m1 117 rfl) rfl
theorem q169 : (Jvm.Cond.fieldLink "ScoreThreads" (74 : Nat) "ScoreThreads" "faults" "[I") ∈ lw_all := lw_g (lw_at lw_m1 118 rfl) rfl
theorem q170 : (Jvm.Cond.fieldLink "ScoreThreads" (314 : Nat) "ScoreThreads" "faultMany" "I") ∈ lw_all := lw_g (lw_at lw_m1 119 rfl) rfl
theorem q171 : (Jvm.Cond.fieldLink "ScoreThreads" (77 : Nat) "ScoreThreads" "queue" "[I") ∈ lw_all := lw_g (lw_at lw_m1 120 rfl) rfl
theorem q172 : (Jvm.Cond.fieldLink "ScoreThreads" (180 : Nat) "ScoreThreads" "queued" "I") ∈ lw_all := lw_g (lw_at lw_m1 121 rfl) rfl
theorem q173 : (Jvm.Cond.fieldLink "ScoreThreads" (189 : Nat) "ScoreThreads" "edits" "I") ∈ lw_all := lw_g (lw_at lw_m1 122 rfl) rfl
theorem q174 : (Jvm.Cond.laysFinal "ScoreThreads" "ScoreThreads" "clips" "[LScoreThreads$Clip;") ∈ lw_all := lw_g (lw_at lw_m1 123 rfl) rfl
theorem q175 : (Jvm.Cond.soleField "ScoreThreads" "clips") ∈ lw_all := lw_g (lw_at lw_m1 124 rfl) rfl
theorem q176 : (Jvm.Cond.lays "ScoreThreads" "ScoreThreads" "clipMany" "I") ∈ lw_all := lw_g (lw_at lw_m1 125 rfl) rfl
theorem q177 : (Jvm.Cond.soleField "ScoreThreads" "clipMany") ∈ lw_all := lw_g (lw_at lw_m1 126 rfl) rfl
theorem q178 : (Jvm.Cond.laysFinal "ScoreThreads" "ScoreThreads" "plugs" "[LScoreThreads$Plug;") ∈ lw_all := lw_g (lw_at lw_m1 127 rfl) rfl
theorem q179 : (Jvm.Cond.soleField "ScoreThreads" "plugs") ∈ lw_all := lw_g (lw_at lw_m1 128 rfl) rfl
theorem q180 : (Jvm.Cond.lays "ScoreThreads" "ScoreThreads" "plugMany" "I") ∈ lw_all := lw_g (lw_at lw_m1 129 rfl) rfl
theorem q181 : (Jvm.Cond.soleField "ScoreThreads" "plugMany") ∈ lw_all := lw_g (lw_at lw_m1 130 rfl) rfl
theorem q182 : (Jvm.Cond.laysFinal "ScoreThreads" "ScoreThreads" "tracks" "[LScoreThreads$Track;") ∈ lw_all := lw_g (lw_at lw_m1 131 rfl) rfl
theorem q183 : (Jvm.Cond.soleField "ScoreThreads" "tracks") ∈ lw_all := lw_g (lw_at lw_m1 132 rfl) rfl
theorem q184 : (Jvm.Cond.laysFinal "ScoreThreads" "ScoreThreads" "has" "[I") ∈ lw_all := lw_g (lw_at lw_m1 133 rfl) rfl
theorem q185 : (Jvm.Cond.soleField "ScoreThreads" "has") ∈ lw_all := lw_g (lw_at lw_m1 134 rfl) rfl
theorem q186 : (Jvm.Cond.lays "ScoreThreads" "ScoreThreads" "workers" "I") ∈ lw_all := lw_g (lw_at lw_m1 135 rfl) rfl
theorem q187 : (Jvm.Cond.soleField "ScoreThreads" "workers") ∈ lw_all := lw_g (lw_at lw_m1 136 rfl) rfl
theorem q188 : (Jvm.Cond.lays "ScoreThreads" "ScoreThreads" "runs" "Z") ∈ lw_all := lw_g (lw_at lw_m1 137 rfl) rfl
theorem q189 : (Jvm.Cond.soleField "ScoreThreads" "runs") ∈ lw_all := lw_g (lw_at lw_m1 138 rfl) rfl
theorem q190 : (Jvm.Cond.lays "ScoreThreads" "ScoreThreads" "stops" "Z") ∈ lw_all := lw_g (lw_at lw_m1 139 rfl) rfl
theorem q191 : (Jvm.Cond.soleField "ScoreThreads" "stops") ∈ lw_all := lw_g (lw_at lw_m1 140 rfl) rfl
theorem q192 : (Jvm.Cond.lays "ScoreThreads" "ScoreThreads" "left" "I") ∈ lw_all := lw_g (lw_at lw_m1 141 rfl) rfl
theorem q193 : (Jvm.Cond.soleField "ScoreThreads" "left") ∈ lw_all := lw_g (lw_at lw_m1 142 rfl) rfl
theorem q194 : (Jvm.Cond.lays "ScoreThreads" "ScoreThreads" "blocks" "I") ∈ lw_all := lw_g (lw_at lw_m1 143 rfl) rfl
theorem q195 : (Jvm.Cond.soleField "ScoreThreads" "blocks") ∈ lw_all := lw_g (lw_at lw_m1 144 rfl) rfl
theorem q196 : (Jvm.Cond.laysFinal "ScoreThreads" "ScoreThreads" "out" "[F") ∈ lw_all := lw_g (lw_at lw_m1 145 rfl) rfl
theorem q197 : (Jvm.Cond.soleField "ScoreThreads" "out") ∈ lw_all := lw_g (lw_at lw_m1 146 rfl) rfl
theorem q198 : (Jvm.Cond.lays "ScoreThreads" "ScoreThreads" "steps" "I") ∈ lw_all := lw_g (lw_at lw_m1 147 rfl) rfl
theorem q199 : (Jvm.Cond.soleField "ScoreThreads" "steps") ∈ lw_all := lw_g (lw_at lw_m1 148 rfl) rfl
theorem q200 : (Jvm.Cond.lays "ScoreThreads" "ScoreThreads" "waits" "I") ∈ lw_all := lw_g (lw_at lw_m1 149 rfl) rfl
theorem q201 : (Jvm.Cond.soleField "ScoreThreads" "waits") ∈ lw_all := lw_g (lw_at lw_m1 150 rfl) rfl
theorem q202 : (Jvm.Cond.laysFinal "ScoreThreads" "ScoreThreads" "found" "[I") ∈ lw_all := lw_g (lw_at lw_m1 151 rfl) rfl
theorem q203 : (Jvm.Cond.soleField "ScoreThreads" "found") ∈ lw_all := lw_g (lw_at lw_m1 152 rfl) rfl
theorem q204 : (Jvm.Cond.laysFinal "ScoreThreads" "ScoreThreads" "faults" "[I") ∈ lw_all := lw_g (lw_at lw_m1 153 rfl) rfl
theorem q205 : (Jvm.Cond.soleField "ScoreThreads" "faults") ∈ lw_all := lw_g (lw_at lw_m1 154 rfl) rfl
theorem q206 : (Jvm.Cond.lays "ScoreThreads" "ScoreThreads" "faultMany" "I") ∈ lw_all := lw_g (lw_at lw_m1 155 rfl) rfl
theorem q207 : (Jvm.Cond.soleField "ScoreThreads" "faultMany") ∈ lw_all := lw_g (lw_at lw_m1 156 rfl) rfl
theorem q208 : (Jvm.Cond.laysFinal "ScoreThreads" "ScoreThreads" "queue" "[I") ∈ lw_all := lw_g (lw_at lw_m1 157 rfl) rfl
theorem q209 : (Jvm.Cond.soleField "ScoreThreads" "queue") ∈ lw_all := lw_g (lw_at lw_m1 158 rfl) rfl
theorem q210 : (Jvm.Cond.lays "ScoreThreads" "ScoreThreads" "queued" "I") ∈ lw_all := lw_g (lw_at lw_m1 159 rfl) rfl
theorem q211 : (Jvm.Cond.soleField "ScoreThreads" "queued") ∈ lw_all := lw_g (lw_at lw_m1 160 rfl) rfl
theorem q212 : (Jvm.Cond.lays "ScoreThreads" "ScoreThreads" "edits" "I") ∈ lw_all := lw_g (lw_at lw_m1 161 rfl) rfl
theorem q213 : (Jvm.Cond.soleField "ScoreThreads" "edits") ∈ lw_all := lw_g (lw_at lw_m1 162 rfl) rfl
theorem q214 : (Jvm.Cond.superclass "ScoreThreads" "java/lang/Object") ∈ lw_all := lw_g (lw_at lw_m1 163 rfl) rfl
theorem q216 : (Jvm.Cond.instanceMethod ({ cls := "ScoreThreads", name := "clip", desc := "(II)I" } : Jvm.MethodName)) ∈ lw_all := lw_g (lw_at lw_m1 165 rfl) rfl
theorem q217 : (Jvm.Cond.selects "ScoreThreads" ({ cls := "ScoreThreads", name := "clip", desc := "(II)I" } : Jvm.MethodName) ({ cls := "ScoreThreads", name := "clip", desc := "(II)I" } : Jvm.MethodName)) ∈ lw_all := lw_g (lw_at lw_m1 166 rfl) rfl
theorem q218 : (Jvm.Cond.codeWith ({ cls := "ScoreThreads", name := "clip", desc := "(II)I" } : Jvm.MethodName) prog_1_method_11_code (4 : Nat) (Option.some Jvm.ClassFile.FieldType.int) [((30 : Nat), (48 : Nat), (51 : Nat), (94 : Nat))]) ∈ lw_all := lw_g (lw_at lw_m1 167 rfl) rfl
theorem q219 : (Jvm.Cond.classLink "ScoreThreads" (94 : Nat) "java/lang/NegativeArraySizeException") ∈ lw_all := lw_g (lw_at lw_m1 168 rfl) rfl
theorem q306 : (Jvm.Cond.methodLink "ScoreThreads" (81 : Nat) ({ cls := "ScoreThreads", name := "isIn", desc := "(III)Z" } : Jvm.MethodName)) ∈ lw_all := lw_g (lw_at lw_m2 15 rfl) rfl
theorem q307 : (Jvm.Cond.static ({ cls := "ScoreThreads", name := "isIn", desc := "(III)Z" } : Jvm.MethodName)) ∈ lw_all := lw_g (lw_at lw_m2 16 rfl) rfl
theorem q308 : (Jvm.Cond.code ({ cls := "ScoreThreads", name := "isIn", desc := "(III)Z" } : Jvm.MethodName) prog_1_method_1_code (3 : Nat) (Option.some Jvm.ClassFile.FieldType.boolean)) ∈ lw_all := lw_g (lw_at lw_m2 17 rfl) rfl
theorem q310 : (Jvm.Cond.methodLink "ScoreThreads" (91 : Nat) ({ cls := "ScoreThreads$Clip", name := "<init>", desc := "(II)V" } : Jvm.MethodName)) ∈ lw_all := lw_g (lw_at lw_m2 19 rfl) rfl
theorem q329 : (Jvm.Cond.methodLink "ScoreThreads" (96 : Nat) ({ cls := "ScoreThreads", name := "met", desc := "(I)I" } : Jvm.MethodName)) ∈ lw_all := lw_g (lw_at lw_m2 38 rfl) rfl
theorem q330 : (Jvm.Cond.privateMethod ({ cls := "ScoreThreads", name := "met", desc := "(I)I" } : Jvm.MethodName)) ∈ lw_tbl := lw_at lw_m2 39 rfl
theorem q331 : (Jvm.Cond.instanceMethod ({ cls := "ScoreThreads", name := "met", desc := "(I)I" } : Jvm.MethodName)) ∈ lw_all := lw_g (lw_at lw_m2 40 rfl) rfl
theorem q332 : (Jvm.Cond.code ({ cls := "ScoreThreads", name := "met", desc := "(I)I" } : Jvm.MethodName) prog_1_method_6_code (2 : Nat) (Option.some Jvm.ClassFile.FieldType.int)) ∈ lw_all := lw_g (lw_at lw_m2 41 rfl) rfl
theorem q334 : (Jvm.Cond.instanceMethod ({ cls := "ScoreThreads", name := "number", desc := "(IIIJ)I" } : Jvm.MethodName)) ∈ lw_all := lw_g (lw_at lw_m2 43 rfl) rfl
theorem q335 : (Jvm.Cond.selects "ScoreThreads" ({ cls := "ScoreThreads", name := "number", desc := "(IIIJ)I" } : Jvm.MethodName) ({ cls := "ScoreThreads", name := "number", desc := "(IIIJ)I" } : Jvm.MethodName)) ∈ lw_all := lw_g (lw_at lw_m2 44 rfl) rfl
theorem q336 : (Jvm.Cond.codeWith ({ cls := "ScoreThreads", name := "number", desc := "(IIIJ)I" } : Jvm.MethodName) prog_1_method_12_code (8 : Nat) (Option.some Jvm.ClassFile.FieldType.int) [((77 : Nat), (90 : Nat), (93 : Nat), (119 : Nat)), ((77 : Nat), (90 : Nat), (101 : Nat), (121 : Nat))]) ∈ lw_all := lw_g (lw_at lw_m2 45 rfl) rfl
theorem q337 : (Jvm.Cond.classLink "ScoreThreads" (119 : Nat) "java/lang/ClassCastException") ∈ lw_all := lw_g (lw_at lw_m2 46 rfl) rfl
theorem q351 : (Jvm.Cond.classLink "ScoreThreads" (121 : Nat) "java/lang/ArrayIndexOutOfBoundsException") ∈ lw_all := lw_g (lw_at lw_m2 60 rfl) rfl
theorem q370 : (Jvm.Cond.methodLink "ScoreThreads" (100 : Nat) ({ cls := "ScoreThreads", name := "isClip", desc := "(I)Z" } : Jvm.MethodName)) ∈ lw_all := lw_g (lw_at lw_m2 79 rfl) rfl
theorem q371 : (Jvm.Cond.privateMethod ({ cls := "ScoreThreads", name := "isClip", desc := "(I)Z" } : Jvm.MethodName)) ∈ lw_tbl := lw_at lw_m2 80 rfl
theorem q372 : (Jvm.Cond.instanceMethod ({ cls := "ScoreThreads", name := "isClip", desc := "(I)Z" } : Jvm.MethodName)) ∈ lw_all := lw_g (lw_at lw_m2 81 rfl) rfl
theorem q373 : (Jvm.Cond.code ({ cls := "ScoreThreads", name := "isClip", desc := "(I)Z" } : Jvm.MethodName) prog_1_method_8_code (2 : Nat) (Option.some Jvm.ClassFile.FieldType.boolean)) ∈ lw_all := lw_g (lw_at lw_m2 82 rfl) rfl
theorem q374 : (Jvm.Cond.methodLink "ScoreThreads" (104 : Nat) ({ cls := "ScoreThreads", name := "isNoFloat", desc := "(I)Z" } : Jvm.MethodName)) ∈ lw_all := lw_g (lw_at lw_m2 83 rfl) rfl
theorem q375 : (Jvm.Cond.static ({ cls := "ScoreThreads", name := "isNoFloat", desc := "(I)Z" } : Jvm.MethodName)) ∈ lw_all := lw_g (lw_at lw_m2 84 rfl) rfl
theorem q376 : (Jvm.Cond.code ({ cls := "ScoreThreads", name := "isNoFloat", desc := "(I)Z" } : Jvm.MethodName) prog_1_method_3_code (1 : Nat) (Option.some Jvm.ClassFile.FieldType.boolean)) ∈ lw_all := lw_g (lw_at lw_m2 85 rfl) rfl
theorem q377 : (Jvm.Cond.constant "ScoreThreads" (3 : Nat) (2147483647 : Int32)) ∈ lw_all := lw_g (lw_at lw_m2 86 rfl) rfl
theorem q378 : (Jvm.Cond.constant "ScoreThreads" (4 : Nat) (2139095040 : Int32)) ∈ lw_all := lw_g (lw_at lw_m2 87 rfl) rfl
theorem q379 : (Jvm.Cond.constantLong "ScoreThreads" (107 : Nat) (9223372036854775807 : Int64)) ∈ lw_all := lw_g (lw_at lw_m2 88 rfl) rfl
theorem q380 : (Jvm.Cond.constantLong "ScoreThreads" (109 : Nat) (9218868437227405312 : Int64)) ∈ lw_all := lw_g (lw_at lw_m2 89 rfl) rfl
theorem q381 : (Jvm.Cond.methodLink "ScoreThreads" (115 : Nat) ({ cls := "ScoreThreads$Clip", name := "put", desc := "(IIJ)V" } : Jvm.MethodName)) ∈ lw_all := lw_g (lw_at lw_m2 90 rfl) rfl
theorem q397 : (Jvm.Cond.instanceMethod ({ cls := "ScoreThreads", name := "sample", desc := "(II)I" } : Jvm.MethodName)) ∈ lw_all := lw_g (lw_at lw_m2 106 rfl) rfl
theorem q398 : (Jvm.Cond.selects "ScoreThreads" ({ cls := "ScoreThreads", name := "sample", desc := "(II)I" } : Jvm.MethodName) ({ cls := "ScoreThreads", name := "sample", desc := "(II)I" } : Jvm.MethodName)) ∈ lw_all := lw_g (lw_at lw_m2 107 rfl) rfl
theorem q399 : (Jvm.Cond.code ({ cls := "ScoreThreads", name := "sample", desc := "(II)I" } : Jvm.MethodName) prog_1_method_13_code (3 : Nat) (Option.some Jvm.ClassFile.FieldType.int)) ∈ lw_all := lw_g (lw_at lw_m2 108 rfl) rfl
theorem q400 : (Jvm.Cond.methodLink "ScoreThreads" (123 : Nat) ({ cls := "ScoreThreads$Clip", name := "has", desc := "(I)Z" } : Jvm.MethodName)) ∈ lw_all := lw_g (lw_at lw_m2 109 rfl) rfl
theorem q404 : (Jvm.Cond.methodLink "ScoreThreads" (125 : Nat) ({ cls := "ScoreThreads$Clip", name := "sample", desc := "(I)F" } : Jvm.MethodName)) ∈ lw_all := lw_g (lw_at lw_m2 113 rfl) rfl
theorem q412 : (Jvm.Cond.static ({ cls := "ScoreThreads", name := "clipped", desc := "(F)F" } : Jvm.MethodName)) ∈ lw_all := lw_g (lw_at lw_m2 121 rfl) rfl
theorem q413 : (Jvm.Cond.code ({ cls := "ScoreThreads", name := "clipped", desc := "(F)F" } : Jvm.MethodName) prog_1_method_2_code (1 : Nat) (Option.some Jvm.ClassFile.FieldType.float)) ∈ lw_all := lw_g (lw_at lw_m2 122 rfl) rfl
theorem q414 : (Jvm.Cond.constantFloat "ScoreThreads" (1 : Nat) (1090519040 : UInt32)) ∈ lw_all := lw_g (lw_at lw_m2 123 rfl) rfl
theorem q415 : (Jvm.Cond.constantFloat "ScoreThreads" (2 : Nat) (3238002688 : UInt32)) ∈ lw_all := lw_g (lw_at lw_m2 124 rfl) rfl
theorem q416 : (Jvm.Cond.methodLink "ScoreThreads" (129 : Nat) ({ cls := "java/lang/Float", name := "floatToIntBits", desc := "(F)I" } : Jvm.MethodName)) ∈ lw_all := lw_g (lw_at lw_m2 125 rfl) rfl
theorem q427 : (Jvm.Cond.instanceMethod ({ cls := "ScoreThreads", name := "plug", desc := "(III)I" } : Jvm.MethodName)) ∈ lw_all := lw_g (lw_at lw_m2 136 rfl) rfl
theorem q428 : (Jvm.Cond.selects "ScoreThreads" ({ cls := "ScoreThreads", name := "plug", desc := "(III)I" } : Jvm.MethodName) ({ cls := "ScoreThreads", name := "plug", desc := "(III)I" } : Jvm.MethodName)) ∈ lw_all := lw_g (lw_at lw_m2 137 rfl) rfl
theorem q429 : (Jvm.Cond.codeWith ({ cls := "ScoreThreads", name := "plug", desc := "(III)I" } : Jvm.MethodName) prog_1_method_16_code (5 : Nat) (Option.some Jvm.ClassFile.FieldType.int) [((43 : Nat), (62 : Nat), (65 : Nat), (94 : Nat))]) ∈ lw_all := lw_g (lw_at lw_m2 138 rfl) rfl
theorem q430 : (Jvm.Cond.methodLink "ScoreThreads" (139 : Nat) ({ cls := "ScoreThreads", name := "isLevel", desc := "(IF)Z" } : Jvm.MethodName)) ∈ lw_all := lw_g (lw_at lw_m2 139 rfl) rfl
theorem q431 : (Jvm.Cond.static ({ cls := "ScoreThreads", name := "isLevel", desc := "(IF)Z" } : Jvm.MethodName)) ∈ lw_all := lw_g (lw_at lw_m2 140 rfl) rfl
theorem q432 : (Jvm.Cond.code ({ cls := "ScoreThreads", name := "isLevel", desc := "(IF)Z" } : Jvm.MethodName) prog_1_method_14_code (3 : Nat) (Option.some Jvm.ClassFile.FieldType.boolean)) ∈ lw_all := lw_g (lw_at lw_m2 141 rfl) rfl
theorem q433 : (Jvm.Cond.constantFloat "ScoreThreads" (135 : Nat) (1120272384 : UInt32)) ∈ lw_all := lw_g (lw_at lw_m2 142 rfl) rfl
theorem q434 : (Jvm.Cond.methodLink "ScoreThreads" (136 : Nat) ({ cls := "java/lang/Float", name := "intBitsToFloat", desc := "(I)F" } : Jvm.MethodName)) ∈ lw_all := lw_g (lw_at lw_m2 143 rfl) rfl
theorem q435 : (Jvm.Cond.methodLink "ScoreThreads" (143 : Nat) ({ cls := "ScoreThreads", name := "fitsPlug", desc := "(II)Z" } : Jvm.MethodName)) ∈ lw_all := lw_g (lw_at lw_m2 144 rfl) rfl
theorem q436 : (Jvm.Cond.privateMethod ({ cls := "ScoreThreads", name := "fitsPlug", desc := "(II)Z" } : Jvm.MethodName)) ∈ lw_tbl := lw_at lw_m2 145 rfl
theorem q437 : (Jvm.Cond.instanceMethod ({ cls := "ScoreThreads", name := "fitsPlug", desc := "(II)Z" } : Jvm.MethodName)) ∈ lw_all := lw_g (lw_at lw_m2 146 rfl) rfl
theorem q438 : (Jvm.Cond.code ({ cls := "ScoreThreads", name := "fitsPlug", desc := "(II)Z" } : Jvm.MethodName) prog_1_method_15_code (3 : Nat) (Option.some Jvm.ClassFile.FieldType.boolean)) ∈ lw_all := lw_g (lw_at lw_m2 147 rfl) rfl
theorem q439 : (Jvm.Cond.methodLink "ScoreThreads" (147 : Nat) ({ cls := "ScoreThreads", name := "newPlug", desc := "(IFI)LScoreThreads$Plug;" } : Jvm.MethodName)) ∈ lw_all := lw_g (lw_at lw_m2 148 rfl) rfl
theorem q440 : (Jvm.Cond.privateMethod ({ cls := "ScoreThreads", name := "newPlug", desc := "(IFI)LScoreThreads$Plug;" } : Jvm.MethodName)) ∈ lw_tbl := lw_at lw_m2 149 rfl
theorem q441 : (Jvm.Cond.instanceMethod ({ cls := "ScoreThreads", name := "newPlug", desc := "(IFI)LScoreThreads$Plug;" } : Jvm.MethodName)) ∈ lw_all := lw_g (lw_at lw_m2 150 rfl) rfl
theorem q442 : (Jvm.Cond.code ({ cls := "ScoreThreads", name := "newPlug", desc := "(IFI)LScoreThreads$Plug;" } : Jvm.MethodName) prog_1_method_4_code (4 : Nat) (Option.some (Jvm.ClassFile.FieldType.object "ScoreThreads$Plug"))) ∈ lw_all := lw_g (lw_at lw_m2 151 rfl) rfl
theorem q443 : (Jvm.Cond.classLink "ScoreThreads" (5 : Nat) "ScoreThreads$Gain") ∈ lw_all := lw_g (lw_at lw_m2 152 rfl) rfl
theorem q445 : (Jvm.Cond.methodLink "ScoreThreads" (7 : Nat) ({ cls := "ScoreThreads$Gain", name := "<init>", desc := "(IFI)V" } : Jvm.MethodName)) ∈ lw_all := lw_g (lw_at lw_m2 154 rfl) rfl
theorem q453 : (Jvm.Cond.fieldLink "ScoreThreads" (160 : Nat) "ScoreThreads$Plug" "kind" "I") ∈ lw_all := lw_g (lw_at lw_m2 162 rfl) rfl
theorem q478 : (Jvm.Cond.classLink "ScoreThreads" (11 : Nat) "ScoreThreads$Warm") ∈ lw_all := lw_g (lw_at lw_m2 187 rfl) rfl
theorem q480 : (Jvm.Cond.methodLink "ScoreThreads" (13 : Nat) ({ cls := "ScoreThreads$Warm", name := "<init>", desc := "(IFI)V" } : Jvm.MethodName)) ∈ lw_all := lw_g (lw_at lw_m2 189 rfl) rfl
theorem q489 : (Jvm.Cond.classLink "ScoreThreads" (14 : Nat) "ScoreThreads$Fold") ∈ lw_all := lw_g (lw_at lw_m2 198 rfl) rfl
theorem q491 : (Jvm.Cond.methodLink "ScoreThreads" (16 : Nat) ({ cls := "ScoreThreads$Fold", name := "<init>", desc := "(IFI)V" } : Jvm.MethodName)) ∈ lw_all := lw_g (lw_at lw_m2 200 rfl) rfl
theorem q500 : (Jvm.Cond.classLink "ScoreThreads" (17 : Nat) "ScoreThreads$Steps") ∈ lw_all := lw_g (lw_at lw_m2 209 rfl) rfl
theorem q502 : (Jvm.Cond.methodLink "ScoreThreads" (19 : Nat) ({ cls := "ScoreThreads$Steps", name := "<init>", desc := "(IFI)V" } : Jvm.MethodName)) ∈ lw_all := lw_g (lw_at lw_m2 211 rfl) rfl
theorem q511 : (Jvm.Cond.classLink "ScoreThreads" (20 : Nat) "ScoreThreads$Echo") ∈ lw_all := lw_g (lw_at lw_m2 220 rfl) rfl
theorem q513 : (Jvm.Cond.methodLink "ScoreThreads" (22 : Nat) ({ cls := "ScoreThreads$Echo", name := "<init>", desc := "(IFI)V" } : Jvm.MethodName)) ∈ lw_all := lw_g (lw_at lw_m2 222 rfl) rfl
theorem q518 : (Jvm.Cond.fieldLink "ScoreThreads" (154 : Nat) "ScoreThreads$Echo" "line" "[F") ∈ lw_all := lw_g (lw_at lw_m2 227 rfl) rfl
theorem q520 : (Jvm.Cond.fieldLink "ScoreThreads" (151 : Nat) "ScoreThreads$Echo" "at" "I") ∈ lw_all := lw_g (lw_at lw_m2 229 rfl) rfl
theorem q530 : (Jvm.Cond.classLink "ScoreThreads" (23 : Nat) "ScoreThreads$Bell") ∈ lw_all := lw_g (lw_at lw_m2 239 rfl) rfl
theorem q532 : (Jvm.Cond.methodLink "ScoreThreads" (25 : Nat) ({ cls := "ScoreThreads$Bell", name := "<init>", desc := "(IFI)V" } : Jvm.MethodName)) ∈ lw_all := lw_g (lw_at lw_m3 1 rfl) rfl
theorem q543 : (Jvm.Cond.classLink "ScoreThreads" (26 : Nat) "ScoreThreads$Gate") ∈ lw_all := lw_g (lw_at lw_m3 12 rfl) rfl
theorem q545 : (Jvm.Cond.methodLink "ScoreThreads" (28 : Nat) ({ cls := "ScoreThreads$Gate", name := "<init>", desc := "(IFI)V" } : Jvm.MethodName)) ∈ lw_all := lw_g (lw_at lw_m3 14 rfl) rfl
theorem q554 : (Jvm.Cond.classLink "ScoreThreads" (29 : Nat) "ScoreThreads$Table") ∈ lw_all := lw_g (lw_at lw_m3 23 rfl) rfl
theorem q556 : (Jvm.Cond.methodLink "ScoreThreads" (37 : Nat) ({ cls := "ScoreThreads$Table", name := "<init>", desc := "(IFILScoreThreads$Clip;)V" } : Jvm.MethodName)) ∈ lw_all := lw_g (lw_at lw_m3 25 rfl) rfl
theorem q569 : (Jvm.Cond.instanceMethod ({ cls := "ScoreThreads", name := "plugged", desc := "(II)I" } : Jvm.MethodName)) ∈ lw_all := lw_g (lw_at lw_m3 38 rfl) rfl
theorem q570 : (Jvm.Cond.selects "ScoreThreads" ({ cls := "ScoreThreads", name := "plugged", desc := "(II)I" } : Jvm.MethodName) ({ cls := "ScoreThreads", name := "plugged", desc := "(II)I" } : Jvm.MethodName)) ∈ lw_all := lw_g (lw_at lw_m3 39 rfl) rfl
theorem q571 : (Jvm.Cond.codeWith ({ cls := "ScoreThreads", name := "plugged", desc := "(II)I" } : Jvm.MethodName) prog_1_method_18_code (4 : Nat) (Option.some Jvm.ClassFile.FieldType.int) [((72 : Nat), (82 : Nat), (83 : Nat), (119 : Nat)), ((72 : Nat), (82 : Nat), (90 : Nat), (174 : Nat)), ((72 : Nat), (82 : Nat), (97 : Nat), (121 : Nat))]) ∈ lw_all := lw_g (lw_at lw_m3 40 rfl) rfl
theorem q572 : (Jvm.Cond.classLink "ScoreThreads" (174 : Nat) "java/lang/NullPointerException") ∈ lw_all := lw_g (lw_at lw_m3 41 rfl) rfl
theorem q597 : (Jvm.Cond.methodLink "ScoreThreads" (157 : Nat) ({ cls := "ScoreThreads", name := "isPlug", desc := "(I)Z" } : Jvm.MethodName)) ∈ lw_all := lw_g (lw_at lw_m3 66 rfl) rfl
theorem q598 : (Jvm.Cond.privateMethod ({ cls := "ScoreThreads", name := "isPlug", desc := "(I)Z" } : Jvm.MethodName)) ∈ lw_tbl := lw_at lw_m3 67 rfl
theorem q599 : (Jvm.Cond.instanceMethod ({ cls := "ScoreThreads", name := "isPlug", desc := "(I)Z" } : Jvm.MethodName)) ∈ lw_all := lw_g (lw_at lw_m3 68 rfl) rfl
theorem q600 : (Jvm.Cond.code ({ cls := "ScoreThreads", name := "isPlug", desc := "(I)Z" } : Jvm.MethodName) prog_1_method_9_code (2 : Nat) (Option.some Jvm.ClassFile.FieldType.boolean)) ∈ lw_all := lw_g (lw_at lw_m3 69 rfl) rfl
theorem q601 : (Jvm.Cond.methodLink "ScoreThreads" (163 : Nat) ({ cls := "ScoreThreads$Plug", name := "tail", desc := "()I" } : Jvm.MethodName)) ∈ lw_all := lw_g (lw_at lw_m3 70 rfl) rfl
theorem q626 : (Jvm.Cond.methodLink "ScoreThreads" (167 : Nat) ({ cls := "ScoreThreads$Plug", name := "uses", desc := "()I" } : Jvm.MethodName)) ∈ lw_all := lw_g (lw_at lw_m3 95 rfl) rfl
theorem q638 : (Jvm.Cond.methodLink "ScoreThreads" (170 : Nat) ({ cls := "ScoreThreads", name := "ofEcho", desc := "(LScoreThreads$Plug;I)I" } : Jvm.MethodName)) ∈ lw_all := lw_g (lw_at lw_m3 107 rfl) rfl
theorem q639 : (Jvm.Cond.static ({ cls := "ScoreThreads", name := "ofEcho", desc := "(LScoreThreads$Plug;I)I" } : Jvm.MethodName)) ∈ lw_all := lw_g (lw_at lw_m3 108 rfl) rfl
theorem q640 : (Jvm.Cond.code ({ cls := "ScoreThreads", name := "ofEcho", desc := "(LScoreThreads$Plug;I)I" } : Jvm.MethodName) prog_1_method_17_code (3 : Nat) (Option.some Jvm.ClassFile.FieldType.int)) ∈ lw_all := lw_g (lw_at lw_m3 109 rfl) rfl
theorem q642 : (Jvm.Cond.instanceMethod ({ cls := "ScoreThreads", name := "track", desc := "(IIIZ)I" } : Jvm.MethodName)) ∈ lw_all := lw_g (lw_at lw_m3 111 rfl) rfl
theorem q643 : (Jvm.Cond.selects "ScoreThreads" ({ cls := "ScoreThreads", name := "track", desc := "(IIIZ)I" } : Jvm.MethodName) ({ cls := "ScoreThreads", name := "track", desc := "(IIIZ)I" } : Jvm.MethodName)) ∈ lw_all := lw_g (lw_at lw_m3 112 rfl) rfl
theorem q644 : (Jvm.Cond.code ({ cls := "ScoreThreads", name := "track", desc := "(IIIZ)I" } : Jvm.MethodName) prog_1_method_22_code (5 : Nat) (Option.some Jvm.ClassFile.FieldType.int)) ∈ lw_all := lw_g (lw_at lw_m3 113 rfl) rfl
theorem q645 : (Jvm.Cond.methodLink "ScoreThreads" (214 : Nat) ({ cls := "ScoreThreads", name := "isTrack", desc := "(I)Z" } : Jvm.MethodName)) ∈ lw_all := lw_g (lw_at lw_m3 114 rfl) rfl
theorem q646 : (Jvm.Cond.static ({ cls := "ScoreThreads", name := "isTrack", desc := "(I)Z" } : Jvm.MethodName)) ∈ lw_all := lw_g (lw_at lw_m3 115 rfl) rfl
theorem q647 : (Jvm.Cond.code ({ cls := "ScoreThreads", name := "isTrack", desc := "(I)Z" } : Jvm.MethodName) prog_1_method_7_code (1 : Nat) (Option.some Jvm.ClassFile.FieldType.boolean)) ∈ lw_all := lw_g (lw_at lw_m3 116 rfl) rfl
theorem q648 : (Jvm.Cond.methodLink "ScoreThreads" (217 : Nat) ({ cls := "ScoreThreads", name := "edit", desc := "(IIIIZ)I" } : Jvm.MethodName)) ∈ lw_all := lw_g (lw_at lw_m3 117 rfl) rfl
theorem q649 : (Jvm.Cond.privateMethod ({ cls := "ScoreThreads", name := "edit", desc := "(IIIIZ)I" } : Jvm.MethodName)) ∈ lw_tbl := lw_at lw_m3 118 rfl
theorem q650 : (Jvm.Cond.instanceMethod ({ cls := "ScoreThreads", name := "edit", desc := "(IIIIZ)I" } : Jvm.MethodName)) ∈ lw_all := lw_g (lw_at lw_m3 119 rfl) rfl
theorem q651 : (Jvm.Cond.code ({ cls := "ScoreThreads", name := "edit", desc := "(IIIIZ)I" } : Jvm.MethodName) prog_1_method_19_code (7 : Nat) (Option.some Jvm.ClassFile.FieldType.int)) ∈ lw_all := lw_g (lw_at lw_m3 120 rfl) rfl
theorem q652 : (Jvm.Cond.methodLink "ScoreThreads" (176 : Nat) ({ cls := "ScoreThreads", name := "does", desc := "(IIIIZ)I" } : Jvm.MethodName)) ∈ lw_all := lw_g (lw_at lw_m3 121 rfl) rfl
theorem q653 : (Jvm.Cond.privateMethod ({ cls := "ScoreThreads", name := "does", desc := "(IIIIZ)I" } : Jvm.MethodName)) ∈ lw_tbl := lw_at lw_m3 122 rfl
theorem q654 : (Jvm.Cond.instanceMethod ({ cls := "ScoreThreads", name := "does", desc := "(IIIIZ)I" } : Jvm.MethodName)) ∈ lw_all := lw_g (lw_at lw_m3 123 rfl) rfl
theorem q655 : (Jvm.Cond.codeWith ({ cls := "ScoreThreads", name := "does", desc := "(IIIIZ)I" } : Jvm.MethodName) prog_1_method_20_code (8 : Nat) (Option.some Jvm.ClassFile.FieldType.int) [((3 : Nat), (14 : Nat), (17 : Nat), (121 : Nat)), ((3 : Nat), (14 : Nat), (25 : Nat), (187 : Nat)), ((3 : Nat), (14 : Nat), (33 : Nat), (119 : Nat)), ((3 : Nat), (14 : Nat), (41 : Nat), (94 : Nat))]) ∈ lw_all := lw_g (lw_at lw_m3 124 rfl) rfl
theorem q656 : (Jvm.Cond.classLink "ScoreThreads" (187 : Nat) "java/lang/ArrayStoreException") ∈ lw_all := lw_g (lw_at lw_m3 125 rfl) rfl
theorem q670 : (Jvm.Cond.methodLink "ScoreThreads" (183 : Nat) ({ cls := "ScoreThreads", name := "change", desc := "(IIIIZ)V" } : Jvm.MethodName)) ∈ lw_all := lw_g (lw_at lw_m3 139 rfl) rfl
theorem q671 : (Jvm.Cond.privateMethod ({ cls := "ScoreThreads", name := "change", desc := "(IIIIZ)V" } : Jvm.MethodName)) ∈ lw_tbl := lw_at lw_m3 140 rfl
theorem q672 : (Jvm.Cond.instanceMethod ({ cls := "ScoreThreads", name := "change", desc := "(IIIIZ)V" } : Jvm.MethodName)) ∈ lw_all := lw_g (lw_at lw_m3 141 rfl) rfl
theorem q673 : (Jvm.Cond.code ({ cls := "ScoreThreads", name := "change", desc := "(IIIIZ)V" } : Jvm.MethodName) prog_1_method_21_code (7 : Nat) (Option.none : Option Jvm.ClassFile.FieldType)) ∈ lw_all := lw_g (lw_at lw_m3 142 rfl) rfl
theorem q676 : (Jvm.Cond.instanceMethod ({ cls := "ScoreThreads", name := "pure", desc := "(IZ)I" } : Jvm.MethodName)) ∈ lw_all := lw_g (lw_at lw_m3 145 rfl) rfl
theorem q677 : (Jvm.Cond.selects "ScoreThreads" ({ cls := "ScoreThreads", name := "pure", desc := "(IZ)I" } : Jvm.MethodName) ({ cls := "ScoreThreads", name := "pure", desc := "(IZ)I" } : Jvm.MethodName)) ∈ lw_all := lw_g (lw_at lw_m3 146 rfl) rfl
theorem q678 : (Jvm.Cond.code ({ cls := "ScoreThreads", name := "pure", desc := "(IZ)I" } : Jvm.MethodName) prog_1_method_23_code (3 : Nat) (Option.some Jvm.ClassFile.FieldType.int)) ∈ lw_all := lw_g (lw_at lw_m3 147 rfl) rfl
theorem q680 : (Jvm.Cond.instanceMethod ({ cls := "ScoreThreads", name := "chain", desc := "(III)I" } : Jvm.MethodName)) ∈ lw_all := lw_g (lw_at lw_m3 149 rfl) rfl
theorem q681 : (Jvm.Cond.selects "ScoreThreads" ({ cls := "ScoreThreads", name := "chain", desc := "(III)I" } : Jvm.MethodName) ({ cls := "ScoreThreads", name := "chain", desc := "(III)I" } : Jvm.MethodName)) ∈ lw_all := lw_g (lw_at lw_m3 150 rfl) rfl
theorem q682 : (Jvm.Cond.code ({ cls := "ScoreThreads", name := "chain", desc := "(III)I" } : Jvm.MethodName) prog_1_method_24_code (4 : Nat) (Option.some Jvm.ClassFile.FieldType.int)) ∈ lw_all := lw_g (lw_at lw_m3 151 rfl) rfl
theorem q684 : (Jvm.Cond.instanceMethod ({ cls := "ScoreThreads", name := "level", desc := "(II)I" } : Jvm.MethodName)) ∈ lw_all := lw_g (lw_at lw_m3 153 rfl) rfl
theorem q685 : (Jvm.Cond.selects "ScoreThreads" ({ cls := "ScoreThreads", name := "level", desc := "(II)I" } : Jvm.MethodName) ({ cls := "ScoreThreads", name := "level", desc := "(II)I" } : Jvm.MethodName)) ∈ lw_all := lw_g (lw_at lw_m3 154 rfl) rfl
theorem q686 : (Jvm.Cond.code ({ cls := "ScoreThreads", name := "level", desc := "(II)I" } : Jvm.MethodName) prog_1_method_25_code (3 : Nat) (Option.some Jvm.ClassFile.FieldType.int)) ∈ lw_all := lw_g (lw_at lw_m3 155 rfl) rfl
theorem q688 : (Jvm.Cond.instanceMethod ({ cls := "ScoreThreads", name := "on", desc := "(IZ)I" } : Jvm.MethodName)) ∈ lw_all := lw_g (lw_at lw_m3 157 rfl) rfl
theorem q689 : (Jvm.Cond.selects "ScoreThreads" ({ cls := "ScoreThreads", name := "on", desc := "(IZ)I" } : Jvm.MethodName) ({ cls := "ScoreThreads", name := "on", desc := "(IZ)I" } : Jvm.MethodName)) ∈ lw_all := lw_g (lw_at lw_m3 158 rfl) rfl
theorem q690 : (Jvm.Cond.code ({ cls := "ScoreThreads", name := "on", desc := "(IZ)I" } : Jvm.MethodName) prog_1_method_26_code (3 : Nat) (Option.some Jvm.ClassFile.FieldType.int)) ∈ lw_all := lw_g (lw_at lw_m3 159 rfl) rfl
theorem q692 : (Jvm.Cond.instanceMethod ({ cls := "ScoreThreads", name := "line", desc := "(II)I" } : Jvm.MethodName)) ∈ lw_all := lw_g (lw_at lw_m3 161 rfl) rfl
theorem q693 : (Jvm.Cond.selects "ScoreThreads" ({ cls := "ScoreThreads", name := "line", desc := "(II)I" } : Jvm.MethodName) ({ cls := "ScoreThreads", name := "line", desc := "(II)I" } : Jvm.MethodName)) ∈ lw_all := lw_g (lw_at lw_m3 162 rfl) rfl
theorem q694 : (Jvm.Cond.code ({ cls := "ScoreThreads", name := "line", desc := "(II)I" } : Jvm.MethodName) prog_1_method_27_code (3 : Nat) (Option.some Jvm.ClassFile.FieldType.int)) ∈ lw_all := lw_g (lw_at lw_m3 163 rfl) rfl
theorem q696 : (Jvm.Cond.instanceMethod ({ cls := "ScoreThreads", name := "hire", desc := "(I)I" } : Jvm.MethodName)) ∈ lw_all := lw_g (lw_at lw_m3 165 rfl) rfl
theorem q697 : (Jvm.Cond.selects "ScoreThreads" ({ cls := "ScoreThreads", name := "hire", desc := "(I)I" } : Jvm.MethodName) ({ cls := "ScoreThreads", name := "hire", desc := "(I)I" } : Jvm.MethodName)) ∈ lw_all := lw_g (lw_at lw_m3 166 rfl) rfl
theorem q698 : (Jvm.Cond.code ({ cls := "ScoreThreads", name := "hire", desc := "(I)I" } : Jvm.MethodName) prog_1_method_28_code (3 : Nat) (Option.some Jvm.ClassFile.FieldType.int)) ∈ lw_all := lw_g (lw_at lw_m3 167 rfl) rfl
theorem q700 : (Jvm.Cond.instanceMethod ({ cls := "ScoreThreads", name := "render", desc := "(I)I" } : Jvm.MethodName)) ∈ lw_all := lw_g (lw_at lw_m3 169 rfl) rfl
theorem q701 : (Jvm.Cond.selects "ScoreThreads" ({ cls := "ScoreThreads", name := "render", desc := "(I)I" } : Jvm.MethodName) ({ cls := "ScoreThreads", name := "render", desc := "(I)I" } : Jvm.MethodName)) ∈ lw_all := lw_g (lw_at lw_m3 170 rfl) rfl
theorem q702 : (Jvm.Cond.code ({ cls := "ScoreThreads", name := "render", desc := "(I)I" } : Jvm.MethodName) prog_1_method_29_code (2 : Nat) (Option.some Jvm.ClassFile.FieldType.int)) ∈ lw_all := lw_g (lw_at lw_m3 171 rfl) rfl
theorem q703 : (Jvm.Cond.methodLink "ScoreThreads" (229 : Nat) ({ cls := "ScoreThreads", name := "open", desc := "()V" } : Jvm.MethodName)) ∈ lw_all := lw_g (lw_at lw_m3 172 rfl) rfl
theorem q704 : (Jvm.Cond.privateMethod ({ cls := "ScoreThreads", name := "open", desc := "()V" } : Jvm.MethodName)) ∈ lw_tbl := lw_at lw_m3 173 rfl
theorem q705 : (Jvm.Cond.instanceMethod ({ cls := "ScoreThreads", name := "open", desc := "()V" } : Jvm.MethodName)) ∈ lw_all := lw_g (lw_at lw_m3 174 rfl) rfl
theorem q706 : (Jvm.Cond.code ({ cls := "ScoreThreads", name := "open", desc := "()V" } : Jvm.MethodName) prog_1_method_30_code (3 : Nat) (Option.none : Option Jvm.ClassFile.FieldType)) ∈ lw_all := lw_g (lw_at lw_m3 175 rfl) rfl
theorem q708 : (Jvm.Cond.instanceMethod ({ cls := "ScoreThreads", name := "turn", desc := "(I)I" } : Jvm.MethodName)) ∈ lw_all := lw_g (lw_at lw_m3 177 rfl) rfl
theorem q709 : (Jvm.Cond.selects "ScoreThreads" ({ cls := "ScoreThreads", name := "turn", desc := "(I)I" } : Jvm.MethodName) ({ cls := "ScoreThreads", name := "turn", desc := "(I)I" } : Jvm.MethodName)) ∈ lw_all := lw_g (lw_at lw_m3 178 rfl) rfl
theorem q710 : (Jvm.Cond.code ({ cls := "ScoreThreads", name := "turn", desc := "(I)I" } : Jvm.MethodName) prog_1_method_42_code (2 : Nat) (Option.some Jvm.ClassFile.FieldType.int)) ∈ lw_all := lw_g (lw_at lw_m3 179 rfl) rfl
theorem q711 : (Jvm.Cond.methodLink "ScoreThreads" (317 : Nat) ({ cls := "ScoreThreads", name := "isWorker", desc := "(I)Z" } : Jvm.MethodName)) ∈ lw_all := lw_g (lw_at lw_m3 180 rfl) rfl
theorem q712 : (Jvm.Cond.privateMethod ({ cls := "ScoreThreads", name := "isWorker", desc := "(I)Z" } : Jvm.MethodName)) ∈ lw_tbl := lw_at lw_m3 181 rfl
theorem q713 : (Jvm.Cond.instanceMethod ({ cls := "ScoreThreads", name := "isWorker", desc := "(I)Z" } : Jvm.MethodName)) ∈ lw_all := lw_g (lw_at lw_m3 182 rfl) rfl
theorem q714 : (Jvm.Cond.code ({ cls := "ScoreThreads", name := "isWorker", desc := "(I)Z" } : Jvm.MethodName) prog_1_method_10_code (2 : Nat) (Option.some Jvm.ClassFile.FieldType.boolean)) ∈ lw_all := lw_g (lw_at lw_m3 183 rfl) rfl
theorem q715 : (Jvm.Cond.methodLink "ScoreThreads" (320 : Nat) ({ cls := "ScoreThreads", name := "step", desc := "(I)I" } : Jvm.MethodName)) ∈ lw_all := lw_g (lw_at lw_m3 184 rfl) rfl
theorem q716 : (Jvm.Cond.privateMethod ({ cls := "ScoreThreads", name := "step", desc := "(I)I" } : Jvm.MethodName)) ∈ lw_tbl := lw_at lw_m3 185 rfl
theorem q717 : (Jvm.Cond.instanceMethod ({ cls := "ScoreThreads", name := "step", desc := "(I)I" } : Jvm.MethodName)) ∈ lw_all := lw_g (lw_at lw_m3 186 rfl) rfl
theorem q718 : (Jvm.Cond.code ({ cls := "ScoreThreads", name := "step", desc := "(I)I" } : Jvm.MethodName) prog_1_method_33_code (3 : Nat) (Option.some Jvm.ClassFile.FieldType.int)) ∈ lw_all := lw_g (lw_at lw_m3 187 rfl) rfl
theorem q719 : (Jvm.Cond.methodLink "ScoreThreads" (245 : Nat) ({ cls := "ScoreThreads", name := "mayGo", desc := "(I)Z" } : Jvm.MethodName)) ∈ lw_all := lw_g (lw_at lw_m3 188 rfl) rfl
theorem q720 : (Jvm.Cond.privateMethod ({ cls := "ScoreThreads", name := "mayGo", desc := "(I)Z" } : Jvm.MethodName)) ∈ lw_tbl := lw_at lw_m3 189 rfl
theorem q721 : (Jvm.Cond.instanceMethod ({ cls := "ScoreThreads", name := "mayGo", desc := "(I)Z" } : Jvm.MethodName)) ∈ lw_all := lw_g (lw_at lw_m3 190 rfl) rfl
theorem q722 : (Jvm.Cond.code ({ cls := "ScoreThreads", name := "mayGo", desc := "(I)Z" } : Jvm.MethodName) prog_1_method_32_code (6 : Nat) (Option.some Jvm.ClassFile.FieldType.boolean)) ∈ lw_all := lw_g (lw_at lw_m3 191 rfl) rfl
theorem q723 : (Jvm.Cond.methodLink "ScoreThreads" (241 : Nat) ({ cls := "ScoreThreads$Track", name := "needs", desc := "(LScoreThreads$Plug;)Z" } : Jvm.MethodName)) ∈ lw_all := lw_g (lw_at lw_m3 192 rfl) rfl
theorem q730 : (Jvm.Cond.methodLink "ScoreThreads" (248 : Nat) ({ cls := "ScoreThreads", name := "work", desc := "(II)I" } : Jvm.MethodName)) ∈ lw_all := lw_g (lw_at lw_m3 199 rfl) rfl
theorem q731 : (Jvm.Cond.privateMethod ({ cls := "ScoreThreads", name := "work", desc := "(II)I" } : Jvm.MethodName)) ∈ lw_tbl := lw_at lw_m3 200 rfl
theorem q732 : (Jvm.Cond.instanceMethod ({ cls := "ScoreThreads", name := "work", desc := "(II)I" } : Jvm.MethodName)) ∈ lw_all := lw_g (lw_at lw_m3 201 rfl) rfl
theorem q733 : (Jvm.Cond.code ({ cls := "ScoreThreads", name := "work", desc := "(II)I" } : Jvm.MethodName) prog_1_method_35_code (5 : Nat) (Option.some Jvm.ClassFile.FieldType.int)) ∈ lw_all := lw_g (lw_at lw_m3 202 rfl) rfl
theorem q734 : (Jvm.Cond.methodLink "ScoreThreads" (267 : Nat) ({ cls := "ScoreThreads", name := "tried", desc := "(LScoreThreads$Track;)I" } : Jvm.MethodName)) ∈ lw_all := lw_g (lw_at lw_m3 203 rfl) rfl
theorem q735 : (Jvm.Cond.privateMethod ({ cls := "ScoreThreads", name := "tried", desc := "(LScoreThreads$Track;)I" } : Jvm.MethodName)) ∈ lw_tbl := lw_at lw_m3 204 rfl
theorem q736 : (Jvm.Cond.instanceMethod ({ cls := "ScoreThreads", name := "tried", desc := "(LScoreThreads$Track;)I" } : Jvm.MethodName)) ∈ lw_all := lw_g (lw_at lw_m3 205 rfl) rfl
theorem q737 : (Jvm.Cond.codeWith ({ cls := "ScoreThreads", name := "tried", desc := "(LScoreThreads$Track;)I" } : Jvm.MethodName) prog_1_method_36_code (3 : Nat) (Option.some Jvm.ClassFile.FieldType.int) [((0 : Nat), (55 : Nat), (56 : Nat), (174 : Nat)), ((0 : Nat), (55 : Nat), (59 : Nat), (121 : Nat)), ((0 : Nat), (55 : Nat), (62 : Nat), (297 : Nat))]) ∈ lw_all := lw_g (lw_at lw_m3 206 rfl) rfl
theorem q738 : (Jvm.Cond.classLink "ScoreThreads" (297 : Nat) "java/lang/ArithmeticException") ∈ lw_all := lw_g (lw_at lw_m3 207 rfl) rfl
theorem q752 : (Jvm.Cond.methodLink "ScoreThreads" (283 : Nat) ({ cls := "ScoreThreads", name := "load", desc := "(LScoreThreads$Track;)V" } : Jvm.MethodName)) ∈ lw_all := lw_g (lw_at lw_m3 221 rfl) rfl
theorem q753 : (Jvm.Cond.privateMethod ({ cls := "ScoreThreads", name := "load", desc := "(LScoreThreads$Track;)V" } : Jvm.MethodName)) ∈ lw_tbl := lw_at lw_m3 222 rfl
theorem q754 : (Jvm.Cond.instanceMethod ({ cls := "ScoreThreads", name := "load", desc := "(LScoreThreads$Track;)V" } : Jvm.MethodName)) ∈ lw_all := lw_g (lw_at lw_m3 223 rfl) rfl
theorem q755 : (Jvm.Cond.code ({ cls := "ScoreThreads", name := "load", desc := "(LScoreThreads$Track;)V" } : Jvm.MethodName) prog_1_method_37_code (5 : Nat) (Option.none : Option Jvm.ClassFile.FieldType)) ∈ lw_all := lw_g (lw_at lw_m3 224 rfl) rfl
theorem q756 : (Jvm.Cond.methodLink "ScoreThreads" (293 : Nat) ({ cls := "ScoreThreads$Plug", name := "pass", desc := "([F[F)V" } : Jvm.MethodName)) ∈ lw_all := lw_g (lw_at lw_m3 225 rfl) rfl
theorem q837 : (Jvm.Cond.methodLink "ScoreThreads" (271 : Nat) ({ cls := "ScoreThreads$Track", name := "next", desc := "(I)I" } : Jvm.MethodName)) ∈ lw_all := lw_g (lw_at lw_m4 66 rfl) rfl
theorem q841 : (Jvm.Cond.methodLink "ScoreThreads" (280 : Nat) ({ cls := "ScoreThreads$Track", name := "silence", desc := "()V" } : Jvm.MethodName)) ∈ lw_all := lw_g (lw_at lw_m4 70 rfl) rfl
theorem q845 : (Jvm.Cond.methodLink "ScoreThreads" (252 : Nat) ({ cls := "ScoreThreads", name := "waited", desc := "()I" } : Jvm.MethodName)) ∈ lw_all := lw_g (lw_at lw_m4 74 rfl) rfl
theorem q846 : (Jvm.Cond.privateMethod ({ cls := "ScoreThreads", name := "waited", desc := "()I" } : Jvm.MethodName)) ∈ lw_tbl := lw_at lw_m4 75 rfl
theorem q847 : (Jvm.Cond.instanceMethod ({ cls := "ScoreThreads", name := "waited", desc := "()I" } : Jvm.MethodName)) ∈ lw_all := lw_g (lw_at lw_m4 76 rfl) rfl
theorem q848 : (Jvm.Cond.code ({ cls := "ScoreThreads", name := "waited", desc := "()I" } : Jvm.MethodName) prog_1_method_34_code (1 : Nat) (Option.some Jvm.ClassFile.FieldType.int)) ∈ lw_all := lw_g (lw_at lw_m4 77 rfl) rfl
theorem q849 : (Jvm.Cond.methodLink "ScoreThreads" (255 : Nat) ({ cls := "ScoreThreads", name := "least", desc := "(I)I" } : Jvm.MethodName)) ∈ lw_all := lw_g (lw_at lw_m4 78 rfl) rfl
theorem q850 : (Jvm.Cond.privateMethod ({ cls := "ScoreThreads", name := "least", desc := "(I)I" } : Jvm.MethodName)) ∈ lw_tbl := lw_at lw_m4 79 rfl
theorem q851 : (Jvm.Cond.instanceMethod ({ cls := "ScoreThreads", name := "least", desc := "(I)I" } : Jvm.MethodName)) ∈ lw_all := lw_g (lw_at lw_m4 80 rfl) rfl
theorem q852 : (Jvm.Cond.code ({ cls := "ScoreThreads", name := "least", desc := "(I)I" } : Jvm.MethodName) prog_1_method_31_code (3 : Nat) (Option.some Jvm.ClassFile.FieldType.int)) ∈ lw_all := lw_g (lw_at lw_m4 81 rfl) rfl
theorem q853 : (Jvm.Cond.methodLink "ScoreThreads" (258 : Nat) ({ cls := "ScoreThreads", name := "mix", desc := "()I" } : Jvm.MethodName)) ∈ lw_all := lw_g (lw_at lw_m4 82 rfl) rfl
theorem q854 : (Jvm.Cond.privateMethod ({ cls := "ScoreThreads", name := "mix", desc := "()I" } : Jvm.MethodName)) ∈ lw_tbl := lw_at lw_m4 83 rfl
theorem q855 : (Jvm.Cond.instanceMethod ({ cls := "ScoreThreads", name := "mix", desc := "()I" } : Jvm.MethodName)) ∈ lw_all := lw_g (lw_at lw_m4 84 rfl) rfl
theorem q856 : (Jvm.Cond.code ({ cls := "ScoreThreads", name := "mix", desc := "()I" } : Jvm.MethodName) prog_1_method_40_code (4 : Nat) (Option.some Jvm.ClassFile.FieldType.int)) ∈ lw_all := lw_g (lw_at lw_m4 85 rfl) rfl
theorem q857 : (Jvm.Cond.methodLink "ScoreThreads" (307 : Nat) ({ cls := "ScoreThreads", name := "pair", desc := "(II)F" } : Jvm.MethodName)) ∈ lw_all := lw_g (lw_at lw_m4 86 rfl) rfl
theorem q858 : (Jvm.Cond.privateMethod ({ cls := "ScoreThreads", name := "pair", desc := "(II)F" } : Jvm.MethodName)) ∈ lw_tbl := lw_at lw_m4 87 rfl
theorem q859 : (Jvm.Cond.instanceMethod ({ cls := "ScoreThreads", name := "pair", desc := "(II)F" } : Jvm.MethodName)) ∈ lw_all := lw_g (lw_at lw_m4 88 rfl) rfl
theorem q860 : (Jvm.Cond.code ({ cls := "ScoreThreads", name := "pair", desc := "(II)F" } : Jvm.MethodName) prog_1_method_39_code (3 : Nat) (Option.some Jvm.ClassFile.FieldType.float)) ∈ lw_all := lw_g (lw_at lw_m4 89 rfl) rfl
theorem q861 : (Jvm.Cond.methodLink "ScoreThreads" (303 : Nat) ({ cls := "ScoreThreads", name := "levelled", desc := "(II)F" } : Jvm.MethodName)) ∈ lw_all := lw_g (lw_at lw_m4 90 rfl) rfl
theorem q862 : (Jvm.Cond.privateMethod ({ cls := "ScoreThreads", name := "levelled", desc := "(II)F" } : Jvm.MethodName)) ∈ lw_tbl := lw_at lw_m4 91 rfl
theorem q863 : (Jvm.Cond.instanceMethod ({ cls := "ScoreThreads", name := "levelled", desc := "(II)F" } : Jvm.MethodName)) ∈ lw_all := lw_g (lw_at lw_m4 92 rfl) rfl
theorem q864 : (Jvm.Cond.code ({ cls := "ScoreThreads", name := "levelled", desc := "(II)F" } : Jvm.MethodName) prog_1_method_38_code (3 : Nat) (Option.some Jvm.ClassFile.FieldType.float)) ∈ lw_all := lw_g (lw_at lw_m4 93 rfl) rfl
theorem q865 : (Jvm.Cond.methodLink "ScoreThreads" (299 : Nat) ({ cls := "ScoreThreads", name := "clipped", desc := "(F)F" } : Jvm.MethodName)) ∈ lw_all := lw_g (lw_at lw_m4 94 rfl) rfl
theorem q866 : (Jvm.Cond.methodLink "ScoreThreads" (310 : Nat) ({ cls := "ScoreThreads", name := "note", desc := "(IIII)V" } : Jvm.MethodName)) ∈ lw_all := lw_g (lw_at lw_m4 95 rfl) rfl
theorem q867 : (Jvm.Cond.privateMethod ({ cls := "ScoreThreads", name := "note", desc := "(IIII)V" } : Jvm.MethodName)) ∈ lw_tbl := lw_at lw_m4 96 rfl
theorem q868 : (Jvm.Cond.instanceMethod ({ cls := "ScoreThreads", name := "note", desc := "(IIII)V" } : Jvm.MethodName)) ∈ lw_all := lw_g (lw_at lw_m4 97 rfl) rfl
theorem q869 : (Jvm.Cond.code ({ cls := "ScoreThreads", name := "note", desc := "(IIII)V" } : Jvm.MethodName) prog_1_method_41_code (5 : Nat) (Option.none : Option Jvm.ClassFile.FieldType)) ∈ lw_all := lw_g (lw_at lw_m4 98 rfl) rfl
theorem q871 : (Jvm.Cond.instanceMethod ({ cls := "ScoreThreads", name := "rounds", desc := "(II)I" } : Jvm.MethodName)) ∈ lw_all := lw_g (lw_at lw_m4 100 rfl) rfl
theorem q872 : (Jvm.Cond.selects "ScoreThreads" ({ cls := "ScoreThreads", name := "rounds", desc := "(II)I" } : Jvm.MethodName) ({ cls := "ScoreThreads", name := "rounds", desc := "(II)I" } : Jvm.MethodName)) ∈ lw_all := lw_g (lw_at lw_m4 101 rfl) rfl
theorem q873 : (Jvm.Cond.code ({ cls := "ScoreThreads", name := "rounds", desc := "(II)I" } : Jvm.MethodName) prog_1_method_43_code (5 : Nat) (Option.some Jvm.ClassFile.FieldType.int)) ∈ lw_all := lw_g (lw_at lw_m4 102 rfl) rfl
theorem q875 : (Jvm.Cond.instanceMethod ({ cls := "ScoreThreads", name := "stop", desc := "()I" } : Jvm.MethodName)) ∈ lw_all := lw_g (lw_at lw_m4 104 rfl) rfl
theorem q876 : (Jvm.Cond.selects "ScoreThreads" ({ cls := "ScoreThreads", name := "stop", desc := "()I" } : Jvm.MethodName) ({ cls := "ScoreThreads", name := "stop", desc := "()I" } : Jvm.MethodName)) ∈ lw_all := lw_g (lw_at lw_m4 105 rfl) rfl
theorem q877 : (Jvm.Cond.code ({ cls := "ScoreThreads", name := "stop", desc := "()I" } : Jvm.MethodName) prog_1_method_44_code (2 : Nat) (Option.some Jvm.ClassFile.FieldType.int)) ∈ lw_all := lw_g (lw_at lw_m4 106 rfl) rfl
theorem q879 : (Jvm.Cond.instanceMethod ({ cls := "ScoreThreads", name := "out", desc := "(I)I" } : Jvm.MethodName)) ∈ lw_all := lw_g (lw_at lw_m4 108 rfl) rfl
theorem q880 : (Jvm.Cond.selects "ScoreThreads" ({ cls := "ScoreThreads", name := "out", desc := "(I)I" } : Jvm.MethodName) ({ cls := "ScoreThreads", name := "out", desc := "(I)I" } : Jvm.MethodName)) ∈ lw_all := lw_g (lw_at lw_m4 109 rfl) rfl
theorem q881 : (Jvm.Cond.code ({ cls := "ScoreThreads", name := "out", desc := "(I)I" } : Jvm.MethodName) prog_1_method_45_code (2 : Nat) (Option.some Jvm.ClassFile.FieldType.int)) ∈ lw_all := lw_g (lw_at lw_m4 110 rfl) rfl
theorem q883 : (Jvm.Cond.instanceMethod ({ cls := "ScoreThreads", name := "told", desc := "(II)I" } : Jvm.MethodName)) ∈ lw_all := lw_g (lw_at lw_m4 112 rfl) rfl
theorem q884 : (Jvm.Cond.selects "ScoreThreads" ({ cls := "ScoreThreads", name := "told", desc := "(II)I" } : Jvm.MethodName) ({ cls := "ScoreThreads", name := "told", desc := "(II)I" } : Jvm.MethodName)) ∈ lw_all := lw_g (lw_at lw_m4 113 rfl) rfl
theorem q885 : (Jvm.Cond.code ({ cls := "ScoreThreads", name := "told", desc := "(II)I" } : Jvm.MethodName) prog_1_method_49_code (3 : Nat) (Option.some Jvm.ClassFile.FieldType.int)) ∈ lw_all := lw_g (lw_at lw_m4 114 rfl) rfl
theorem q886 : (Jvm.Cond.methodLink "ScoreThreads" (327 : Nat) ({ cls := "ScoreThreads", name := "plugAt", desc := "(II)I" } : Jvm.MethodName)) ∈ lw_all := lw_g (lw_at lw_m4 115 rfl) rfl
theorem q887 : (Jvm.Cond.privateMethod ({ cls := "ScoreThreads", name := "plugAt", desc := "(II)I" } : Jvm.MethodName)) ∈ lw_tbl := lw_at lw_m4 116 rfl
theorem q888 : (Jvm.Cond.instanceMethod ({ cls := "ScoreThreads", name := "plugAt", desc := "(II)I" } : Jvm.MethodName)) ∈ lw_all := lw_g (lw_at lw_m4 117 rfl) rfl
theorem q889 : (Jvm.Cond.codeWith ({ cls := "ScoreThreads", name := "plugAt", desc := "(II)I" } : Jvm.MethodName) prog_1_method_47_code (4 : Nat) (Option.some Jvm.ClassFile.FieldType.int) [((0 : Nat), (25 : Nat), (26 : Nat), (121 : Nat))]) ∈ lw_all := lw_g (lw_at lw_m4 118 rfl) rfl
theorem q890 : (Jvm.Cond.methodLink "ScoreThreads" (323 : Nat) ({ cls := "ScoreThreads", name := "numberOf", desc := "(LScoreThreads$Plug;)I" } : Jvm.MethodName)) ∈ lw_all := lw_g (lw_at lw_m4 119 rfl) rfl
theorem q891 : (Jvm.Cond.privateMethod ({ cls := "ScoreThreads", name := "numberOf", desc := "(LScoreThreads$Plug;)I" } : Jvm.MethodName)) ∈ lw_tbl := lw_at lw_m4 120 rfl
theorem q892 : (Jvm.Cond.instanceMethod ({ cls := "ScoreThreads", name := "numberOf", desc := "(LScoreThreads$Plug;)I" } : Jvm.MethodName)) ∈ lw_all := lw_g (lw_at lw_m4 121 rfl) rfl
theorem q893 : (Jvm.Cond.code ({ cls := "ScoreThreads", name := "numberOf", desc := "(LScoreThreads$Plug;)I" } : Jvm.MethodName) prog_1_method_46_code (3 : Nat) (Option.some Jvm.ClassFile.FieldType.int)) ∈ lw_all := lw_g (lw_at lw_m4 122 rfl) rfl
theorem q894 : (Jvm.Cond.methodLink "ScoreThreads" (330 : Nat) ({ cls := "ScoreThreads", name := "of", desc := "(LScoreThreads$Track;I)I" } : Jvm.MethodName)) ∈ lw_all := lw_g (lw_at lw_m4 123 rfl) rfl
theorem q895 : (Jvm.Cond.privateMethod ({ cls := "ScoreThreads", name := "of", desc := "(LScoreThreads$Track;I)I" } : Jvm.MethodName)) ∈ lw_tbl := lw_at lw_m4 124 rfl
theorem q896 : (Jvm.Cond.instanceMethod ({ cls := "ScoreThreads", name := "of", desc := "(LScoreThreads$Track;I)I" } : Jvm.MethodName)) ∈ lw_all := lw_g (lw_at lw_m4 125 rfl) rfl
theorem q897 : (Jvm.Cond.code ({ cls := "ScoreThreads", name := "of", desc := "(LScoreThreads$Track;I)I" } : Jvm.MethodName) prog_1_method_48_code (3 : Nat) (Option.some Jvm.ClassFile.FieldType.int)) ∈ lw_all := lw_g (lw_at lw_m4 126 rfl) rfl
theorem q899 : (Jvm.Cond.instanceMethod ({ cls := "ScoreThreads", name := "worker", desc := "(I)I" } : Jvm.MethodName)) ∈ lw_all := lw_g (lw_at lw_m4 128 rfl) rfl
theorem q900 : (Jvm.Cond.selects "ScoreThreads" ({ cls := "ScoreThreads", name := "worker", desc := "(I)I" } : Jvm.MethodName) ({ cls := "ScoreThreads", name := "worker", desc := "(I)I" } : Jvm.MethodName)) ∈ lw_all := lw_g (lw_at lw_m4 129 rfl) rfl
theorem q901 : (Jvm.Cond.code ({ cls := "ScoreThreads", name := "worker", desc := "(I)I" } : Jvm.MethodName) prog_1_method_50_code (2 : Nat) (Option.some Jvm.ClassFile.FieldType.int)) ∈ lw_all := lw_g (lw_at lw_m4 130 rfl) rfl
theorem q903 : (Jvm.Cond.instanceMethod ({ cls := "ScoreThreads", name := "fault", desc := "(II)I" } : Jvm.MethodName)) ∈ lw_all := lw_g (lw_at lw_m4 132 rfl) rfl
theorem q904 : (Jvm.Cond.selects "ScoreThreads" ({ cls := "ScoreThreads", name := "fault", desc := "(II)I" } : Jvm.MethodName) ({ cls := "ScoreThreads", name := "fault", desc := "(II)I" } : Jvm.MethodName)) ∈ lw_all := lw_g (lw_at lw_m4 133 rfl) rfl
theorem q905 : (Jvm.Cond.code ({ cls := "ScoreThreads", name := "fault", desc := "(II)I" } : Jvm.MethodName) prog_1_method_51_code (3 : Nat) (Option.some Jvm.ClassFile.FieldType.int)) ∈ lw_all := lw_g (lw_at lw_m4 134 rfl) rfl
theorem q906 : (Jvm.Cond.methodLink "ScoreThreads" (334 : Nat) ({ cls := "java/lang/Math", name := "min", desc := "(II)I" } : Jvm.MethodName)) ∈ lw_all := lw_g (lw_at lw_m4 135 rfl) rfl
theorem q910 : (Jvm.Cond.instanceMethod ({ cls := "ScoreThreads", name := "found", desc := "(I)I" } : Jvm.MethodName)) ∈ lw_all := lw_g (lw_at lw_m4 139 rfl) rfl
theorem q911 : (Jvm.Cond.selects "ScoreThreads" ({ cls := "ScoreThreads", name := "found", desc := "(I)I" } : Jvm.MethodName) ({ cls := "ScoreThreads", name := "found", desc := "(I)I" } : Jvm.MethodName)) ∈ lw_all := lw_g (lw_at lw_m4 140 rfl) rfl
theorem q912 : (Jvm.Cond.code ({ cls := "ScoreThreads", name := "found", desc := "(I)I" } : Jvm.MethodName) prog_1_method_52_code (2 : Nat) (Option.some Jvm.ClassFile.FieldType.int)) ∈ lw_all := lw_g (lw_at lw_m4 141 rfl) rfl
theorem q914 : (Jvm.Cond.instanceMethod ({ cls := "ScoreThreads", name := "about", desc := "(I)I" } : Jvm.MethodName)) ∈ lw_all := lw_g (lw_at lw_m4 143 rfl) rfl
theorem q915 : (Jvm.Cond.selects "ScoreThreads" ({ cls := "ScoreThreads", name := "about", desc := "(I)I" } : Jvm.MethodName) ({ cls := "ScoreThreads", name := "about", desc := "(I)I" } : Jvm.MethodName)) ∈ lw_all := lw_g (lw_at lw_m4 144 rfl) rfl
theorem q916 : (Jvm.Cond.code ({ cls := "ScoreThreads", name := "about", desc := "(I)I" } : Jvm.MethodName) prog_1_method_53_code (2 : Nat) (Option.some Jvm.ClassFile.FieldType.int)) ∈ lw_all := lw_g (lw_at lw_m4 145 rfl) rfl
theorem q918 : (Jvm.Cond.instanceMethod ({ cls := "ScoreThreads", name := "digest", desc := "()J" } : Jvm.MethodName)) ∈ lw_all := lw_g (lw_at lw_m4 147 rfl) rfl
theorem q919 : (Jvm.Cond.selects "ScoreThreads" ({ cls := "ScoreThreads", name := "digest", desc := "()J" } : Jvm.MethodName) ({ cls := "ScoreThreads", name := "digest", desc := "()J" } : Jvm.MethodName)) ∈ lw_all := lw_g (lw_at lw_m4 148 rfl) rfl
theorem q920 : (Jvm.Cond.code ({ cls := "ScoreThreads", name := "digest", desc := "()J" } : Jvm.MethodName) prog_1_method_55_code (5 : Nat) (Option.some Jvm.ClassFile.FieldType.long)) ∈ lw_all := lw_g (lw_at lw_m4 149 rfl) rfl
theorem q921 : (Jvm.Cond.constantLong "ScoreThreads" (341 : Nat) (17 : Int64)) ∈ lw_all := lw_g (lw_at lw_m4 150 rfl) rfl
theorem q922 : (Jvm.Cond.constantLong "ScoreThreads" (339 : Nat) (31 : Int64)) ∈ lw_all := lw_g (lw_at lw_m4 151 rfl) rfl
theorem q923 : (Jvm.Cond.methodLink "ScoreThreads" (343 : Nat) ({ cls := "ScoreThreads", name := "withPlug", desc := "(JLScoreThreads$Plug;)J" } : Jvm.MethodName)) ∈ lw_all := lw_g (lw_at lw_m4 152 rfl) rfl
theorem q924 : (Jvm.Cond.static ({ cls := "ScoreThreads", name := "withPlug", desc := "(JLScoreThreads$Plug;)J" } : Jvm.MethodName)) ∈ lw_all := lw_g (lw_at lw_m4 153 rfl) rfl
theorem q925 : (Jvm.Cond.code ({ cls := "ScoreThreads", name := "withPlug", desc := "(JLScoreThreads$Plug;)J" } : Jvm.MethodName) prog_1_method_54_code (7 : Nat) (Option.some Jvm.ClassFile.FieldType.long)) ∈ lw_all := lw_g (lw_at lw_m4 154 rfl) rfl
theorem in_X0 : ∀ w ∈ wsX00, w ∈ lw_all := lw_in wsX00 [174, 176, 178, 180, 182, 184, 186, 188, 190, 192, 194, 196, 198, 200, 202, 204, 206, 208, 210, 212] (by decide +kernel) (by decide +kernel)

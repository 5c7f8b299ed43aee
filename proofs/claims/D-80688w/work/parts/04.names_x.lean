/-! ScoreThreads$Track -/
set_option maxRecDepth 100000
def RX1 : String := "ScoreThreads$Track"
def TX1 : u_T := fun k => match k with
  | 0 => ("ScoreThreads$Track", "on", "Z", false)
  | 1 => ("ScoreThreads$Track", "clip", "I", false)
  | 2 => ("ScoreThreads$Track", "start", "I", false)
  | 3 => ("ScoreThreads$Track", "strict", "Z", false)
  | 4 => ("ScoreThreads$Track", "level", "F", false)
  | 5 => ("ScoreThreads$Track", "pure", "Z", false)
  | 6 => ("ScoreThreads$Track", "chain", "[LScoreThreads$Plug;", false)
  | 7 => ("ScoreThreads$Track", "state", "I", false)
  | 8 => ("ScoreThreads$Track", "place", "I", false)
  | 9 => ("ScoreThreads$Track", "row", "[F", false)
  | 10 => ("ScoreThreads$Track", "other", "[F", false)
  | 11 => ("ScoreThreads$Track", "fails", "I", false)
  | 12 => ("ScoreThreads$Track", "where", "[I", true)
  | _ => ("ScoreThreads$Track", "what", "[I", true)
def tyX1 : Nat → FieldType := fun k => match k with
  | 0 => .boolean
  | 1 => .int
  | 2 => .int
  | 3 => .boolean
  | 4 => .float
  | 5 => .boolean
  | 6 => .array (.object "ScoreThreads$Plug")
  | 7 => .int
  | 8 => .int
  | 9 => .array .float
  | 10 => .array .float
  | 11 => .int
  | 12 => .array .int
  | _ => .array .int
abbrev wsX10 : List Cond := u_ws RX1 TX1 14
set_option maxRecDepth 100000 in
theorem nmX1 : ∀ a, a < 14 → ∀ b, b < 14 → a ≠ b → (TX1 a).2.1 ≠ (TX1 b).2.1 := by decide +kernel
set_option maxRecDepth 100000 in
theorem tyX1_ok : ∀ k, k < 14 → parseFieldDescriptor (TX1 k).2.2.1 = some (tyX1 k) := by decide +kernel
abbrev cX1_init : ByteArray := prog_11_method_1_code
def yX1_init : MethodName := ⟨RX1, "<init>", "()V"⟩
def dkwX1_init_2 : List UInt8 := [188, 10, 181, 0, 36, 177]
abbrev dktX1_init_2 : List UInt8 := dkwX1_init_2 ++ []
def dkwX1_init_1 : List UInt8 := [16, 8, 188, 6, 181, 0, 25, 42, 16, 8, 188, 6, 181, 0, 29, 42, 5, 188, 10, 181, 0, 32, 42, 5]
abbrev dktX1_init_1 : List UInt8 := dkwX1_init_1 ++ dktX1_init_2
def dkwX1_init_0 : List UInt8 := [42, 183, 0, 3, 42, 2, 181, 0, 9, 42, 12, 181, 0, 15, 42, 7, 189, 0, 19, 181, 0, 21, 42]
abbrev dktX1_init_0 : List UInt8 := dkwX1_init_0 ++ dktX1_init_1
theorem dksX1_init_0 : cX1_init.data.toList.drop 0 = dktX1_init_0 := by decide +kernel
theorem dksX1_init_1 : cX1_init.data.toList.drop 23 = dktX1_init_1 := dk_seg dksX1_init_0 23 rfl rfl
theorem dksX1_init_2 : cX1_init.data.toList.drop 47 = dktX1_init_2 := dk_seg dksX1_init_1 24 rfl rfl
theorem dX1_init_0 : decode cX1_init 0 = .ok (.aload_n 0, 1) := dk_42 (dk_at dksX1_init_0 0 rfl rfl)
theorem dX1_init_1 : decode cX1_init 1 = .ok (.invokespecial 3, 3) := dk_183 0 3 (dk_at dksX1_init_0 1 rfl rfl)
theorem dX1_init_4 : decode cX1_init 4 = .ok (.aload_n 0, 1) := dk_42 (dk_at dksX1_init_0 4 rfl rfl)
theorem dX1_init_5 : decode cX1_init 5 = .ok (.iconst (-1), 1) := dk_2 (dk_at dksX1_init_0 5 rfl rfl)
theorem dX1_init_6 : decode cX1_init 6 = .ok (.putfield 9, 3) := dk_181 0 9 (dk_at dksX1_init_0 6 rfl rfl)
theorem dX1_init_9 : decode cX1_init 9 = .ok (.aload_n 0, 1) := dk_42 (dk_at dksX1_init_0 9 rfl rfl)
theorem dX1_init_10 : decode cX1_init 10 = .ok (.fconst 1, 1) := dk_12 (dk_at dksX1_init_0 10 rfl rfl)
theorem dX1_init_11 : decode cX1_init 11 = .ok (.putfield 15, 3) := dk_181 0 15 (dk_at dksX1_init_0 11 rfl rfl)
theorem dX1_init_14 : decode cX1_init 14 = .ok (.aload_n 0, 1) := dk_42 (dk_at dksX1_init_0 14 rfl rfl)
theorem dX1_init_15 : decode cX1_init 15 = .ok (.iconst 4, 1) := dk_7 (dk_at dksX1_init_0 15 rfl rfl)
theorem dX1_init_16 : decode cX1_init 16 = .ok (.anewarray 19, 3) := dk_189 0 19 (dk_at dksX1_init_0 16 rfl rfl)
theorem dX1_init_19 : decode cX1_init 19 = .ok (.putfield 21, 3) := dk_181 0 21 (dk_at dksX1_init_0 19 rfl rfl)
theorem dX1_init_22 : decode cX1_init 22 = .ok (.aload_n 0, 1) := dk_42 (dk_at dksX1_init_0 22 rfl rfl)
theorem dX1_init_23 : decode cX1_init 23 = .ok (.bipush 8, 2) := dk_16 8 (dk_at dksX1_init_1 0 rfl rfl)
theorem dX1_init_25 : decode cX1_init 25 = .ok (.newarray .float, 2) := dk_188_6 (dk_at dksX1_init_1 2 rfl rfl)
theorem dX1_init_27 : decode cX1_init 27 = .ok (.putfield 25, 3) := dk_181 0 25 (dk_at dksX1_init_1 4 rfl rfl)
theorem dX1_init_30 : decode cX1_init 30 = .ok (.aload_n 0, 1) := dk_42 (dk_at dksX1_init_1 7 rfl rfl)
theorem dX1_init_31 : decode cX1_init 31 = .ok (.bipush 8, 2) := dk_16 8 (dk_at dksX1_init_1 8 rfl rfl)
theorem dX1_init_33 : decode cX1_init 33 = .ok (.newarray .float, 2) := dk_188_6 (dk_at dksX1_init_1 10 rfl rfl)
theorem dX1_init_35 : decode cX1_init 35 = .ok (.putfield 29, 3) := dk_181 0 29 (dk_at dksX1_init_1 12 rfl rfl)
theorem dX1_init_38 : decode cX1_init 38 = .ok (.aload_n 0, 1) := dk_42 (dk_at dksX1_init_1 15 rfl rfl)
theorem dX1_init_39 : decode cX1_init 39 = .ok (.iconst 2, 1) := dk_5 (dk_at dksX1_init_1 16 rfl rfl)
theorem dX1_init_40 : decode cX1_init 40 = .ok (.newarray .int, 2) := dk_188_10 (dk_at dksX1_init_1 17 rfl rfl)
theorem dX1_init_42 : decode cX1_init 42 = .ok (.putfield 32, 3) := dk_181 0 32 (dk_at dksX1_init_1 19 rfl rfl)
theorem dX1_init_45 : decode cX1_init 45 = .ok (.aload_n 0, 1) := dk_42 (dk_at dksX1_init_1 22 rfl rfl)
theorem dX1_init_46 : decode cX1_init 46 = .ok (.iconst 2, 1) := dk_5 (dk_at dksX1_init_1 23 rfl rfl)
theorem dX1_init_47 : decode cX1_init 47 = .ok (.newarray .int, 2) := dk_188_10 (dk_at dksX1_init_2 0 rfl rfl)
theorem dX1_init_49 : decode cX1_init 49 = .ok (.putfield 36, 3) := dk_181 0 36 (dk_at dksX1_init_2 2 rfl rfl)
theorem dX1_init_52 : decode cX1_init 52 = .ok (.return_, 1) := dk_177 (dk_at dksX1_init_2 5 rfl rfl)
abbrev cX1_needs : ByteArray := prog_11_method_3_code
def yX1_needs : MethodName := ⟨RX1, "needs", "(LScoreThreads$Plug;)Z"⟩
def dkwX1_needs_1 : List UInt8 := [166, 0, 7, 4, 167, 0, 4, 3, 128, 61, 132, 3, 1, 167, 255, 230, 28, 172]
abbrev dktX1_needs_1 : List UInt8 := dkwX1_needs_1 ++ []
def dkwX1_needs_0 : List UInt8 := [3, 61, 42, 180, 0, 39, 3, 184, 0, 42, 62, 29, 7, 162, 0, 27, 28, 42, 180, 0, 21, 29, 50, 43]
abbrev dktX1_needs_0 : List UInt8 := dkwX1_needs_0 ++ dktX1_needs_1
theorem dksX1_needs_0 : cX1_needs.data.toList.drop 0 = dktX1_needs_0 := by decide +kernel
theorem dksX1_needs_1 : cX1_needs.data.toList.drop 24 = dktX1_needs_1 := dk_seg dksX1_needs_0 24 rfl rfl
theorem dX1_needs_0 : decode cX1_needs 0 = .ok (.iconst 0, 1) := dk_3 (dk_at dksX1_needs_0 0 rfl rfl)
theorem dX1_needs_1 : decode cX1_needs 1 = .ok (.istore_n 2, 1) := dk_61 (dk_at dksX1_needs_0 1 rfl rfl)
theorem dX1_needs_2 : decode cX1_needs 2 = .ok (.aload_n 0, 1) := dk_42 (dk_at dksX1_needs_0 2 rfl rfl)
theorem dX1_needs_3 : decode cX1_needs 3 = .ok (.getfield 39, 3) := dk_180 0 39 (dk_at dksX1_needs_0 3 rfl rfl)
theorem dX1_needs_6 : decode cX1_needs 6 = .ok (.iconst 0, 1) := dk_3 (dk_at dksX1_needs_0 6 rfl rfl)
theorem dX1_needs_7 : decode cX1_needs 7 = .ok (.invokestatic 42, 3) := dk_184 0 42 (dk_at dksX1_needs_0 7 rfl rfl)
theorem dX1_needs_10 : decode cX1_needs 10 = .ok (.istore_n 3, 1) := dk_62 (dk_at dksX1_needs_0 10 rfl rfl)
theorem dX1_needs_11 : decode cX1_needs 11 = .ok (.iload_n 3, 1) := dk_29 (dk_at dksX1_needs_0 11 rfl rfl)
theorem dX1_needs_12 : decode cX1_needs 12 = .ok (.iconst 4, 1) := dk_7 (dk_at dksX1_needs_0 12 rfl rfl)
theorem dX1_needs_13 : decode cX1_needs 13 = .ok (.if_icmp .ge 27, 3) := dk_162 0 27 (dk_at dksX1_needs_0 13 rfl rfl)
theorem dX1_needs_16 : decode cX1_needs 16 = .ok (.iload_n 2, 1) := dk_28 (dk_at dksX1_needs_0 16 rfl rfl)
theorem dX1_needs_17 : decode cX1_needs 17 = .ok (.aload_n 0, 1) := dk_42 (dk_at dksX1_needs_0 17 rfl rfl)
theorem dX1_needs_18 : decode cX1_needs 18 = .ok (.getfield 21, 3) := dk_180 0 21 (dk_at dksX1_needs_0 18 rfl rfl)
theorem dX1_needs_21 : decode cX1_needs 21 = .ok (.iload_n 3, 1) := dk_29 (dk_at dksX1_needs_0 21 rfl rfl)
theorem dX1_needs_22 : decode cX1_needs 22 = .ok (.aaload, 1) := dk_50 (dk_at dksX1_needs_0 22 rfl rfl)
theorem dX1_needs_23 : decode cX1_needs 23 = .ok (.aload_n 1, 1) := dk_43 (dk_at dksX1_needs_0 23 rfl rfl)
theorem dX1_needs_24 : decode cX1_needs 24 = .ok (.if_acmp .ne 7, 3) := dk_166 0 7 (dk_at dksX1_needs_1 0 rfl rfl)
theorem dX1_needs_27 : decode cX1_needs 27 = .ok (.iconst 1, 1) := dk_4 (dk_at dksX1_needs_1 3 rfl rfl)
theorem dX1_needs_28 : decode cX1_needs 28 = .ok (.goto 4, 3) := dk_167 0 4 (dk_at dksX1_needs_1 4 rfl rfl)
theorem dX1_needs_31 : decode cX1_needs 31 = .ok (.iconst 0, 1) := dk_3 (dk_at dksX1_needs_1 7 rfl rfl)
theorem dX1_needs_32 : decode cX1_needs 32 = .ok (.ior, 1) := dk_128 (dk_at dksX1_needs_1 8 rfl rfl)
theorem dX1_needs_33 : decode cX1_needs 33 = .ok (.istore_n 2, 1) := dk_61 (dk_at dksX1_needs_1 9 rfl rfl)
theorem dX1_needs_34 : decode cX1_needs 34 = .ok (.iinc 3 1, 3) := dk_132 3 1 (dk_at dksX1_needs_1 10 rfl rfl)
theorem dX1_needs_37 : decode cX1_needs 37 = .ok (.goto (-26), 3) := dk_167 255 230 (dk_at dksX1_needs_1 13 rfl rfl)
theorem dX1_needs_40 : decode cX1_needs 40 = .ok (.iload_n 2, 1) := dk_28 (dk_at dksX1_needs_1 16 rfl rfl)
theorem dX1_needs_41 : decode cX1_needs 41 = .ok (.ireturn, 1) := dk_172 (dk_at dksX1_needs_1 17 rfl rfl)
abbrev cX1_next : ByteArray := prog_11_method_2_code
def yX1_next : MethodName := ⟨RX1, "next", "(I)I"⟩
def dkwX1_next_0 : List UInt8 := [27, 61, 28, 7, 162, 0, 18, 42, 180, 0, 21, 28, 50, 199, 0, 9, 132, 2, 1, 167, 255, 239, 28, 172]
abbrev dktX1_next_0 : List UInt8 := dkwX1_next_0 ++ []
theorem dksX1_next_0 : cX1_next.data.toList.drop 0 = dktX1_next_0 := by decide +kernel
theorem dX1_next_0 : decode cX1_next 0 = .ok (.iload_n 1, 1) := dk_27 (dk_at dksX1_next_0 0 rfl rfl)
theorem dX1_next_1 : decode cX1_next 1 = .ok (.istore_n 2, 1) := dk_61 (dk_at dksX1_next_0 1 rfl rfl)
theorem dX1_next_2 : decode cX1_next 2 = .ok (.iload_n 2, 1) := dk_28 (dk_at dksX1_next_0 2 rfl rfl)
theorem dX1_next_3 : decode cX1_next 3 = .ok (.iconst 4, 1) := dk_7 (dk_at dksX1_next_0 3 rfl rfl)
theorem dX1_next_4 : decode cX1_next 4 = .ok (.if_icmp .ge 18, 3) := dk_162 0 18 (dk_at dksX1_next_0 4 rfl rfl)
theorem dX1_next_7 : decode cX1_next 7 = .ok (.aload_n 0, 1) := dk_42 (dk_at dksX1_next_0 7 rfl rfl)
theorem dX1_next_8 : decode cX1_next 8 = .ok (.getfield 21, 3) := dk_180 0 21 (dk_at dksX1_next_0 8 rfl rfl)
theorem dX1_next_11 : decode cX1_next 11 = .ok (.iload_n 2, 1) := dk_28 (dk_at dksX1_next_0 11 rfl rfl)
theorem dX1_next_12 : decode cX1_next 12 = .ok (.aaload, 1) := dk_50 (dk_at dksX1_next_0 12 rfl rfl)
theorem dX1_next_13 : decode cX1_next 13 = .ok (.ifnonnull 9, 3) := dk_199 0 9 (dk_at dksX1_next_0 13 rfl rfl)
theorem dX1_next_16 : decode cX1_next 16 = .ok (.iinc 2 1, 3) := dk_132 2 1 (dk_at dksX1_next_0 16 rfl rfl)
theorem dX1_next_19 : decode cX1_next 19 = .ok (.goto (-17), 3) := dk_167 255 239 (dk_at dksX1_next_0 19 rfl rfl)
theorem dX1_next_22 : decode cX1_next 22 = .ok (.iload_n 2, 1) := dk_28 (dk_at dksX1_next_0 22 rfl rfl)
theorem dX1_next_23 : decode cX1_next 23 = .ok (.ireturn, 1) := dk_172 (dk_at dksX1_next_0 23 rfl rfl)
abbrev cX1_silence : ByteArray := prog_11_method_4_code
def yX1_silence : MethodName := ⟨RX1, "silence", "()V"⟩
def dkwX1_silence_0 : List UInt8 := [3, 60, 27, 16, 8, 162, 0, 16, 42, 180, 0, 25, 27, 11, 81, 132, 1, 1, 167, 255, 240, 177]
abbrev dktX1_silence_0 : List UInt8 := dkwX1_silence_0 ++ []
theorem dksX1_silence_0 : cX1_silence.data.toList.drop 0 = dktX1_silence_0 := by decide +kernel
theorem dX1_silence_0 : decode cX1_silence 0 = .ok (.iconst 0, 1) := dk_3 (dk_at dksX1_silence_0 0 rfl rfl)
theorem dX1_silence_1 : decode cX1_silence 1 = .ok (.istore_n 1, 1) := dk_60 (dk_at dksX1_silence_0 1 rfl rfl)
theorem dX1_silence_2 : decode cX1_silence 2 = .ok (.iload_n 1, 1) := dk_27 (dk_at dksX1_silence_0 2 rfl rfl)
theorem dX1_silence_3 : decode cX1_silence 3 = .ok (.bipush 8, 2) := dk_16 8 (dk_at dksX1_silence_0 3 rfl rfl)
theorem dX1_silence_5 : decode cX1_silence 5 = .ok (.if_icmp .ge 16, 3) := dk_162 0 16 (dk_at dksX1_silence_0 5 rfl rfl)
theorem dX1_silence_8 : decode cX1_silence 8 = .ok (.aload_n 0, 1) := dk_42 (dk_at dksX1_silence_0 8 rfl rfl)
theorem dX1_silence_9 : decode cX1_silence 9 = .ok (.getfield 25, 3) := dk_180 0 25 (dk_at dksX1_silence_0 9 rfl rfl)
theorem dX1_silence_12 : decode cX1_silence 12 = .ok (.iload_n 1, 1) := dk_27 (dk_at dksX1_silence_0 12 rfl rfl)
theorem dX1_silence_13 : decode cX1_silence 13 = .ok (.fconst 0, 1) := dk_11 (dk_at dksX1_silence_0 13 rfl rfl)
theorem dX1_silence_14 : decode cX1_silence 14 = .ok (.fastore, 1) := dk_81 (dk_at dksX1_silence_0 14 rfl rfl)
theorem dX1_silence_15 : decode cX1_silence 15 = .ok (.iinc 1 1, 3) := dk_132 1 1 (dk_at dksX1_silence_0 15 rfl rfl)
theorem dX1_silence_18 : decode cX1_silence 18 = .ok (.goto (-16), 3) := dk_167 255 240 (dk_at dksX1_silence_0 18 rfl rfl)
theorem dX1_silence_21 : decode cX1_silence 21 = .ok (.return_, 1) := dk_177 (dk_at dksX1_silence_0 21 rfl rfl)
theorem q53 : (Jvm.Cond.initialized "ScoreThreads$Track") ∈ lw_all := lw_g (lw_at lw_m1 2 rfl) rfl
theorem q95 : (Jvm.Cond.instantiable "ScoreThreads$Track" (14 : Nat)) ∈ lw_all := lw_g (lw_at lw_m1 44 rfl) rfl
theorem q97 : (Jvm.Cond.instanceMethod ({ cls := "ScoreThreads$Track", name := "<init>", desc := "()V" } : Jvm.MethodName)) ∈ lw_all := lw_g (lw_at lw_m1 46 rfl) rfl
theorem q98 : (Jvm.Cond.code ({ cls := "ScoreThreads$Track", name := "<init>", desc := "()V" } : Jvm.MethodName) prog_11_method_1_code (1 : Nat) (Option.none : Option Jvm.ClassFile.FieldType)) ∈ lw_all := lw_g (lw_at lw_m1 47 rfl) rfl
theorem q99 : (Jvm.Cond.methodLink "ScoreThreads$Track" (3 : Nat) ({ cls := "java/lang/Object", name := "<init>", desc := "()V" } : Jvm.MethodName)) ∈ lw_all := lw_g (lw_at lw_m1 48 rfl) rfl
theorem q100 : (Jvm.Cond.classLink "ScoreThreads$Track" (19 : Nat) "ScoreThreads$Plug") ∈ lw_all := lw_g (lw_at lw_m1 49 rfl) rfl
theorem q102 : (Jvm.Cond.fieldLink "ScoreThreads$Track" (9 : Nat) "ScoreThreads$Track" "clip" "I") ∈ lw_all := lw_g (lw_at lw_m1 51 rfl) rfl
theorem q106 : (Jvm.Cond.fieldLink "ScoreThreads$Track" (15 : Nat) "ScoreThreads$Track" "level" "F") ∈ lw_all := lw_g (lw_at lw_m1 55 rfl) rfl
theorem q109 : (Jvm.Cond.fieldLink "ScoreThreads$Track" (21 : Nat) "ScoreThreads$Track" "chain" "[LScoreThreads$Plug;") ∈ lw_all := lw_g (lw_at lw_m1 58 rfl) rfl
theorem q112 : (Jvm.Cond.fieldLink "ScoreThreads$Track" (39 : Nat) "ScoreThreads$Track" "place" "I") ∈ lw_all := lw_g (lw_at lw_m1 61 rfl) rfl
theorem q114 : (Jvm.Cond.fieldLink "ScoreThreads$Track" (25 : Nat) "ScoreThreads$Track" "row" "[F") ∈ lw_all := lw_g (lw_at lw_m1 63 rfl) rfl
theorem q116 : (Jvm.Cond.fieldLink "ScoreThreads$Track" (29 : Nat) "ScoreThreads$Track" "other" "[F") ∈ lw_all := lw_g (lw_at lw_m1 65 rfl) rfl
theorem q119 : (Jvm.Cond.fieldLink "ScoreThreads$Track" (32 : Nat) "ScoreThreads$Track" "where" "[I") ∈ lw_all := lw_g (lw_at lw_m1 68 rfl) rfl
theorem q121 : (Jvm.Cond.fieldLink "ScoreThreads$Track" (36 : Nat) "ScoreThreads$Track" "what" "[I") ∈ lw_all := lw_g (lw_at lw_m1 70 rfl) rfl
theorem q123 : (Jvm.Cond.lays "ScoreThreads$Track" "ScoreThreads$Track" "on" "Z") ∈ lw_all := lw_g (lw_at lw_m1 72 rfl) rfl
theorem q124 : (Jvm.Cond.soleField "ScoreThreads$Track" "on") ∈ lw_all := lw_g (lw_at lw_m1 73 rfl) rfl
theorem q125 : (Jvm.Cond.lays "ScoreThreads$Track" "ScoreThreads$Track" "clip" "I") ∈ lw_all := lw_g (lw_at lw_m1 74 rfl) rfl
theorem q126 : (Jvm.Cond.soleField "ScoreThreads$Track" "clip") ∈ lw_all := lw_g (lw_at lw_m1 75 rfl) rfl
theorem q127 : (Jvm.Cond.lays "ScoreThreads$Track" "ScoreThreads$Track" "start" "I") ∈ lw_all := lw_g (lw_at lw_m1 76 rfl) rfl
theorem q128 : (Jvm.Cond.soleField "ScoreThreads$Track" "start") ∈ lw_all := lw_g (lw_at lw_m1 77 rfl) rfl
theorem q129 : (Jvm.Cond.lays "ScoreThreads$Track" "ScoreThreads$Track" "strict" "Z") ∈ lw_all := lw_g (lw_at lw_m1 78 rfl) rfl
theorem q130 : (Jvm.Cond.soleField "ScoreThreads$Track" "strict") ∈ lw_all := lw_g (lw_at lw_m1 79 rfl) rfl
theorem q131 : (Jvm.Cond.lays "ScoreThreads$Track" "ScoreThreads$Track" "level" "F") ∈ lw_all := lw_g (lw_at lw_m1 80 rfl) rfl
theorem q132 : (Jvm.Cond.soleField "ScoreThreads$Track" "level") ∈ lw_all := lw_g (lw_at lw_m1 81 rfl) rfl
theorem q133 : (Jvm.Cond.lays "ScoreThreads$Track" "ScoreThreads$Track" "pure" "Z") ∈ lw_all := lw_g (lw_at lw_m1 82 rfl) rfl
theorem q134 : (Jvm.Cond.soleField "ScoreThreads$Track" "pure") ∈ lw_all := lw_g (lw_at lw_m1 83 rfl) rfl
theorem q135 : (Jvm.Cond.lays "ScoreThreads$Track" "ScoreThreads$Track" "chain" "[LScoreThreads$Plug;") ∈ lw_all := lw_g (lw_at lw_m1 84 rfl) rfl
theorem q136 : (Jvm.Cond.soleField "ScoreThreads$Track" "chain") ∈ lw_all := lw_g (lw_at lw_m1 85 rfl) rfl
theorem q137 : (Jvm.Cond.lays "ScoreThreads$Track" "ScoreThreads$Track" "state" "I") ∈ lw_all := lw_g (lw_at lw_m1 86 rfl) rfl
theorem q138 : (Jvm.Cond.soleField "ScoreThreads$Track" "state") ∈ lw_all := lw_g (lw_at lw_m1 87 rfl) rfl
theorem q139 : (Jvm.Cond.lays "ScoreThreads$Track" "ScoreThreads$Track" "place" "I") ∈ lw_all := lw_g (lw_at lw_m1 88 rfl) rfl
theorem q140 : (Jvm.Cond.soleField "ScoreThreads$Track" "place") ∈ lw_all := lw_g (lw_at lw_m1 89 rfl) rfl
theorem q141 : (Jvm.Cond.lays "ScoreThreads$Track" "ScoreThreads$Track" "row" "[F") ∈ lw_all := lw_g (lw_at lw_m1 90 rfl) rfl
theorem q142 : (Jvm.Cond.soleField "ScoreThreads$Track" "row") ∈ lw_all := lw_g (lw_at lw_m1 91 rfl) rfl
theorem q143 : (Jvm.Cond.lays "ScoreThreads$Track" "ScoreThreads$Track" "other" "[F") ∈ lw_all := lw_g (lw_at lw_m1 92 rfl) rfl
theorem q144 : (Jvm.Cond.soleField "ScoreThreads$Track" "other") ∈ lw_all := lw_g (lw_at lw_m1 93 rfl) rfl
theorem q145 : (Jvm.Cond.lays "ScoreThreads$Track" "ScoreThreads$Track" "fails" "I") ∈ lw_all := lw_g (lw_at lw_m1 94 rfl) rfl
theorem q146 : (Jvm.Cond.soleField "ScoreThreads$Track" "fails") ∈ lw_all := lw_g (lw_at lw_m1 95 rfl) rfl
theorem q147 : (Jvm.Cond.laysFinal "ScoreThreads$Track" "ScoreThreads$Track" "where" "[I") ∈ lw_all := lw_g (lw_at lw_m1 96 rfl) rfl
theorem q148 : (Jvm.Cond.soleField "ScoreThreads$Track" "where") ∈ lw_all := lw_g (lw_at lw_m1 97 rfl) rfl
theorem q149 : (Jvm.Cond.laysFinal "ScoreThreads$Track" "ScoreThreads$Track" "what" "[I") ∈ lw_all := lw_g (lw_at lw_m1 98 rfl) rfl
theorem q150 : (Jvm.Cond.soleField "ScoreThreads$Track" "what") ∈ lw_all := lw_g (lw_at lw_m1 99 rfl) rfl
theorem q151 : (Jvm.Cond.superclass "ScoreThreads$Track" "java/lang/Object") ∈ lw_all := lw_g (lw_at lw_m1 100 rfl) rfl
theorem q724 : (Jvm.Cond.instanceMethod ({ cls := "ScoreThreads$Track", name := "needs", desc := "(LScoreThreads$Plug;)Z" } : Jvm.MethodName)) ∈ lw_all := lw_g (lw_at lw_m3 193 rfl) rfl
theorem q725 : (Jvm.Cond.selects "ScoreThreads$Track" ({ cls := "ScoreThreads$Track", name := "needs", desc := "(LScoreThreads$Plug;)Z" } : Jvm.MethodName) ({ cls := "ScoreThreads$Track", name := "needs", desc := "(LScoreThreads$Plug;)Z" } : Jvm.MethodName)) ∈ lw_all := lw_g (lw_at lw_m3 194 rfl) rfl
theorem q726 : (Jvm.Cond.code ({ cls := "ScoreThreads$Track", name := "needs", desc := "(LScoreThreads$Plug;)Z" } : Jvm.MethodName) prog_11_method_3_code (4 : Nat) (Option.some Jvm.ClassFile.FieldType.boolean)) ∈ lw_all := lw_g (lw_at lw_m3 195 rfl) rfl
theorem q727 : (Jvm.Cond.methodLink "ScoreThreads$Track" (42 : Nat) ({ cls := "java/lang/Math", name := "max", desc := "(II)I" } : Jvm.MethodName)) ∈ lw_all := lw_g (lw_at lw_m3 196 rfl) rfl
theorem q838 : (Jvm.Cond.instanceMethod ({ cls := "ScoreThreads$Track", name := "next", desc := "(I)I" } : Jvm.MethodName)) ∈ lw_all := lw_g (lw_at lw_m4 67 rfl) rfl
theorem q839 : (Jvm.Cond.selects "ScoreThreads$Track" ({ cls := "ScoreThreads$Track", name := "next", desc := "(I)I" } : Jvm.MethodName) ({ cls := "ScoreThreads$Track", name := "next", desc := "(I)I" } : Jvm.MethodName)) ∈ lw_all := lw_g (lw_at lw_m4 68 rfl) rfl
theorem q840 : (Jvm.Cond.code ({ cls := "ScoreThreads$Track", name := "next", desc := "(I)I" } : Jvm.MethodName) prog_11_method_2_code (3 : Nat) (Option.some Jvm.ClassFile.FieldType.int)) ∈ lw_all := lw_g (lw_at lw_m4 69 rfl) rfl
theorem q842 : (Jvm.Cond.instanceMethod ({ cls := "ScoreThreads$Track", name := "silence", desc := "()V" } : Jvm.MethodName)) ∈ lw_all := lw_g (lw_at lw_m4 71 rfl) rfl
theorem q843 : (Jvm.Cond.selects "ScoreThreads$Track" ({ cls := "ScoreThreads$Track", name := "silence", desc := "()V" } : Jvm.MethodName) ({ cls := "ScoreThreads$Track", name := "silence", desc := "()V" } : Jvm.MethodName)) ∈ lw_all := lw_g (lw_at lw_m4 72 rfl) rfl
theorem q844 : (Jvm.Cond.code ({ cls := "ScoreThreads$Track", name := "silence", desc := "()V" } : Jvm.MethodName) prog_11_method_4_code (2 : Nat) (Option.none : Option Jvm.ClassFile.FieldType)) ∈ lw_all := lw_g (lw_at lw_m4 73 rfl) rfl
theorem in_X1 : ∀ w ∈ wsX10, w ∈ lw_all := lw_in wsX10 [123, 125, 127, 129, 131, 133, 135, 137, 139, 141, 143, 145, 147, 149] (by decide +kernel) (by decide +kernel)

/-! ScoreThreads$Bell -/
set_option maxRecDepth 100000
def RX10 : String := "ScoreThreads$Bell"
def TX10 : u_T := fun k => match k with
  | 0 => ("ScoreThreads$Plug", "kind", "I", true)
  | 1 => ("ScoreThreads$Plug", "a", "F", true)
  | 2 => ("ScoreThreads$Plug", "n", "I", true)
  | 3 => ("ScoreThreads$Plug", "uses", "I", false)
  | 4 => ("ScoreThreads$Echo", "line", "[F", false)
  | _ => ("ScoreThreads$Echo", "at", "I", false)
def tyX10 : Nat → FieldType := fun k => match k with
  | 0 => .int
  | 1 => .float
  | 2 => .int
  | 3 => .int
  | 4 => .array .float
  | _ => .int
abbrev wsX100 : List Cond := u_ws RX10 TX10 6
theorem nmX10 : ∀ a, a < 6 → ∀ b, b < 6 → a ≠ b → (TX10 a).2.1 ≠ (TX10 b).2.1 := by decide +kernel
theorem tyX10_ok : ∀ k, k < 6 → parseFieldDescriptor (TX10 k).2.2.1 = some (tyX10 k) := by decide +kernel
abbrev cX10_init : ByteArray := prog_2_method_1_code
def yX10_init : MethodName := ⟨RX10, "<init>", "(IFI)V"⟩
def dkwX10_init_0 : List UInt8 := [42, 27, 36, 29, 183, 0, 1, 177]
abbrev dktX10_init_0 : List UInt8 := dkwX10_init_0 ++ []
theorem dksX10_init_0 : cX10_init.data.toList.drop 0 = dktX10_init_0 := by decide +kernel
theorem dX10_init_0 : decode cX10_init 0 = .ok (.aload_n 0, 1) := dk_42 (dk_at dksX10_init_0 0 rfl rfl)
theorem dX10_init_1 : decode cX10_init 1 = .ok (.iload_n 1, 1) := dk_27 (dk_at dksX10_init_0 1 rfl rfl)
theorem dX10_init_2 : decode cX10_init 2 = .ok (.fload_n 2, 1) := dk_36 (dk_at dksX10_init_0 2 rfl rfl)
theorem dX10_init_3 : decode cX10_init 3 = .ok (.iload_n 3, 1) := dk_29 (dk_at dksX10_init_0 3 rfl rfl)
theorem dX10_init_4 : decode cX10_init 4 = .ok (.invokespecial 1, 3) := dk_183 0 1 (dk_at dksX10_init_0 4 rfl rfl)
theorem dX10_init_7 : decode cX10_init 7 = .ok (.return_, 1) := dk_177 (dk_at dksX10_init_0 7 rfl rfl)
abbrev cX10_tail : ByteArray := prog_2_method_3_code
def yX10_tail : MethodName := ⟨RX10, "tail", "()I"⟩
def dkwX10_tail_0 : List UInt8 := [42, 183, 0, 23, 6, 96, 172]
abbrev dktX10_tail_0 : List UInt8 := dkwX10_tail_0 ++ []
theorem dksX10_tail_0 : cX10_tail.data.toList.drop 0 = dktX10_tail_0 := by decide +kernel
theorem dX10_tail_0 : decode cX10_tail 0 = .ok (.aload_n 0, 1) := dk_42 (dk_at dksX10_tail_0 0 rfl rfl)
theorem dX10_tail_1 : decode cX10_tail 1 = .ok (.invokespecial 23, 3) := dk_183 0 23 (dk_at dksX10_tail_0 1 rfl rfl)
theorem dX10_tail_4 : decode cX10_tail 4 = .ok (.iconst 3, 1) := dk_6 (dk_at dksX10_tail_0 4 rfl rfl)
theorem dX10_tail_5 : decode cX10_tail 5 = .ok (.iadd, 1) := dk_96 (dk_at dksX10_tail_0 5 rfl rfl)
theorem dX10_tail_6 : decode cX10_tail 6 = .ok (.ireturn, 1) := dk_172 (dk_at dksX10_tail_0 6 rfl rfl)
abbrev cX10_shape : ByteArray := prog_2_method_2_code
def yX10_shape : MethodName := ⟨RX10, "shape", "(F)F"⟩
def dkwX10_shape_0 : List UInt8 := [42, 35, 183, 0, 7, 42, 180, 0, 11, 184, 0, 17, 174]
abbrev dktX10_shape_0 : List UInt8 := dkwX10_shape_0 ++ []
theorem dksX10_shape_0 : cX10_shape.data.toList.drop 0 = dktX10_shape_0 := by decide +kernel
theorem dX10_shape_0 : decode cX10_shape 0 = .ok (.aload_n 0, 1) := dk_42 (dk_at dksX10_shape_0 0 rfl rfl)
theorem dX10_shape_1 : decode cX10_shape 1 = .ok (.fload_n 1, 1) := dk_35 (dk_at dksX10_shape_0 1 rfl rfl)
theorem dX10_shape_2 : decode cX10_shape 2 = .ok (.invokespecial 7, 3) := dk_183 0 7 (dk_at dksX10_shape_0 2 rfl rfl)
theorem dX10_shape_5 : decode cX10_shape 5 = .ok (.aload_n 0, 1) := dk_42 (dk_at dksX10_shape_0 5 rfl rfl)
theorem dX10_shape_6 : decode cX10_shape 6 = .ok (.getfield 11, 3) := dk_180 0 11 (dk_at dksX10_shape_0 6 rfl rfl)
theorem dX10_shape_9 : decode cX10_shape 9 = .ok (.invokestatic 17, 3) := dk_184 0 17 (dk_at dksX10_shape_0 9 rfl rfl)
theorem dX10_shape_12 : decode cX10_shape 12 = .ok (.freturn, 1) := dk_174 (dk_at dksX10_shape_0 12 rfl rfl)
theorem q73 : (Jvm.Cond.initialized "ScoreThreads$Bell") ∈ lw_all := lw_g (lw_at lw_m1 22 rfl) rfl
theorem q461 : (Jvm.Cond.fieldLink "ScoreThreads$Bell" (11 : Nat) "ScoreThreads$Bell" "a" "F") ∈ lw_all := lw_g (lw_at lw_m2 170 rfl) rfl
theorem q462 : (Jvm.Cond.sameField "ScoreThreads$Bell" "ScoreThreads$Plug" "a" "F") ∈ lw_all := lw_g (lw_at lw_m2 171 rfl) rfl
theorem q531 : (Jvm.Cond.instantiable "ScoreThreads$Bell" (6 : Nat)) ∈ lw_all := lw_g (lw_at lw_m3 0 rfl) rfl
theorem q533 : (Jvm.Cond.instanceMethod ({ cls := "ScoreThreads$Bell", name := "<init>", desc := "(IFI)V" } : Jvm.MethodName)) ∈ lw_all := lw_g (lw_at lw_m3 2 rfl) rfl
theorem q534 : (Jvm.Cond.code ({ cls := "ScoreThreads$Bell", name := "<init>", desc := "(IFI)V" } : Jvm.MethodName) prog_2_method_1_code (4 : Nat) (Option.none : Option Jvm.ClassFile.FieldType)) ∈ lw_all := lw_g (lw_at lw_m3 3 rfl) rfl
theorem q535 : (Jvm.Cond.methodLink "ScoreThreads$Bell" (1 : Nat) ({ cls := "ScoreThreads$Echo", name := "<init>", desc := "(IFI)V" } : Jvm.MethodName)) ∈ lw_all := lw_g (lw_at lw_m3 4 rfl) rfl
theorem q536 : (Jvm.Cond.lays "ScoreThreads$Bell" "ScoreThreads$Echo" "line" "[F") ∈ lw_all := lw_g (lw_at lw_m3 5 rfl) rfl
theorem q537 : (Jvm.Cond.lays "ScoreThreads$Bell" "ScoreThreads$Echo" "at" "I") ∈ lw_all := lw_g (lw_at lw_m3 6 rfl) rfl
theorem q538 : (Jvm.Cond.laysFinal "ScoreThreads$Bell" "ScoreThreads$Plug" "kind" "I") ∈ lw_all := lw_g (lw_at lw_m3 7 rfl) rfl
theorem q539 : (Jvm.Cond.laysFinal "ScoreThreads$Bell" "ScoreThreads$Plug" "a" "F") ∈ lw_all := lw_g (lw_at lw_m3 8 rfl) rfl
theorem q540 : (Jvm.Cond.laysFinal "ScoreThreads$Bell" "ScoreThreads$Plug" "n" "I") ∈ lw_all := lw_g (lw_at lw_m3 9 rfl) rfl
theorem q541 : (Jvm.Cond.lays "ScoreThreads$Bell" "ScoreThreads$Plug" "uses" "I") ∈ lw_all := lw_g (lw_at lw_m3 10 rfl) rfl
theorem q542 : (Jvm.Cond.superclass "ScoreThreads$Bell" "ScoreThreads$Echo") ∈ lw_all := lw_g (lw_at lw_m3 11 rfl) rfl
theorem q604 : (Jvm.Cond.selects "ScoreThreads$Bell" ({ cls := "ScoreThreads$Plug", name := "tail", desc := "()I" } : Jvm.MethodName) ({ cls := "ScoreThreads$Bell", name := "tail", desc := "()I" } : Jvm.MethodName)) ∈ lw_all := lw_g (lw_at lw_m3 73 rfl) rfl
theorem q605 : (Jvm.Cond.instanceMethod ({ cls := "ScoreThreads$Bell", name := "tail", desc := "()I" } : Jvm.MethodName)) ∈ lw_all := lw_g (lw_at lw_m3 74 rfl) rfl
theorem q606 : (Jvm.Cond.code ({ cls := "ScoreThreads$Bell", name := "tail", desc := "()I" } : Jvm.MethodName) prog_2_method_3_code (1 : Nat) (Option.some Jvm.ClassFile.FieldType.int)) ∈ lw_all := lw_g (lw_at lw_m3 75 rfl) rfl
theorem q607 : (Jvm.Cond.methodLink "ScoreThreads$Bell" (23 : Nat) ({ cls := "ScoreThreads$Echo", name := "tail", desc := "()I" } : Jvm.MethodName)) ∈ lw_all := lw_g (lw_at lw_m3 76 rfl) rfl
theorem q629 : (Jvm.Cond.selects "ScoreThreads$Bell" ({ cls := "ScoreThreads$Plug", name := "uses", desc := "()I" } : Jvm.MethodName) ({ cls := "ScoreThreads$Plug", name := "uses", desc := "()I" } : Jvm.MethodName)) ∈ lw_all := lw_g (lw_at lw_m3 98 rfl) rfl
theorem q759 : (Jvm.Cond.selects "ScoreThreads$Bell" ({ cls := "ScoreThreads$Plug", name := "pass", desc := "([F[F)V" } : Jvm.MethodName) ({ cls := "ScoreThreads$Plug", name := "pass", desc := "([F[F)V" } : Jvm.MethodName)) ∈ lw_all := lw_g (lw_at lw_m3 228 rfl) rfl
theorem q771 : (Jvm.Cond.selects "ScoreThreads$Bell" ({ cls := "ScoreThreads$Plug", name := "shape", desc := "(F)F" } : Jvm.MethodName) ({ cls := "ScoreThreads$Bell", name := "shape", desc := "(F)F" } : Jvm.MethodName)) ∈ lw_all := lw_g (lw_at lw_m4 0 rfl) rfl
theorem q772 : (Jvm.Cond.instanceMethod ({ cls := "ScoreThreads$Bell", name := "shape", desc := "(F)F" } : Jvm.MethodName)) ∈ lw_all := lw_g (lw_at lw_m4 1 rfl) rfl
theorem q773 : (Jvm.Cond.code ({ cls := "ScoreThreads$Bell", name := "shape", desc := "(F)F" } : Jvm.MethodName) prog_2_method_2_code (2 : Nat) (Option.some Jvm.ClassFile.FieldType.float)) ∈ lw_all := lw_g (lw_at lw_m4 2 rfl) rfl
theorem q774 : (Jvm.Cond.methodLink "ScoreThreads$Bell" (7 : Nat) ({ cls := "ScoreThreads$Echo", name := "shape", desc := "(F)F" } : Jvm.MethodName)) ∈ lw_all := lw_g (lw_at lw_m4 3 rfl) rfl
theorem q778 : (Jvm.Cond.methodLink "ScoreThreads$Bell" (17 : Nat) ({ cls := "java/lang/Math", name := "max", desc := "(FF)F" } : Jvm.MethodName)) ∈ lw_all := lw_g (lw_at lw_m4 7 rfl) rfl
theorem q1331 : (Jvm.Cond.castable "ScoreThreads$Bell" "ScoreThreads$Echo") ∈ lw_tbl := lw_at lw_m6 80 rfl
theorem q1337 : (Jvm.Cond.castable "ScoreThreads$Bell" "ScoreThreads$Plug") ∈ lw_tbl := lw_at lw_m6 86 rfl
theorem in_X10 : ∀ w ∈ wsX100, w ∈ lw_all := lw_in wsX100 [538, 539, 540, 541, 536, 537] (by decide +kernel) (by decide +kernel)

/-! ScoreThreads$Gate -/
set_option maxRecDepth 100000
def RX11 : String := "ScoreThreads$Gate"
def TX11 : u_T := fun k => match k with
  | 0 => ("ScoreThreads$Plug", "kind", "I", true)
  | 1 => ("ScoreThreads$Plug", "a", "F", true)
  | 2 => ("ScoreThreads$Plug", "n", "I", true)
  | _ => ("ScoreThreads$Plug", "uses", "I", false)
def tyX11 : Nat → FieldType := fun k => match k with
  | 0 => .int
  | 1 => .float
  | 2 => .int
  | _ => .int
abbrev wsX110 : List Cond := u_ws RX11 TX11 4
theorem nmX11 : ∀ a, a < 4 → ∀ b, b < 4 → a ≠ b → (TX11 a).2.1 ≠ (TX11 b).2.1 := by decide +kernel
theorem tyX11_ok : ∀ k, k < 4 → parseFieldDescriptor (TX11 k).2.2.1 = some (tyX11 k) := by decide +kernel
abbrev cX11_init : ByteArray := prog_7_method_1_code
def yX11_init : MethodName := ⟨RX11, "<init>", "(IFI)V"⟩
def dkwX11_init_0 : List UInt8 := [42, 27, 36, 29, 183, 0, 1, 177]
abbrev dktX11_init_0 : List UInt8 := dkwX11_init_0 ++ []
theorem dksX11_init_0 : cX11_init.data.toList.drop 0 = dktX11_init_0 := by decide +kernel
theorem dX11_init_0 : decode cX11_init 0 = .ok (.aload_n 0, 1) := dk_42 (dk_at dksX11_init_0 0 rfl rfl)
theorem dX11_init_1 : decode cX11_init 1 = .ok (.iload_n 1, 1) := dk_27 (dk_at dksX11_init_0 1 rfl rfl)
theorem dX11_init_2 : decode cX11_init 2 = .ok (.fload_n 2, 1) := dk_36 (dk_at dksX11_init_0 2 rfl rfl)
theorem dX11_init_3 : decode cX11_init 3 = .ok (.iload_n 3, 1) := dk_29 (dk_at dksX11_init_0 3 rfl rfl)
theorem dX11_init_4 : decode cX11_init 4 = .ok (.invokespecial 1, 3) := dk_183 0 1 (dk_at dksX11_init_0 4 rfl rfl)
theorem dX11_init_7 : decode cX11_init 7 = .ok (.return_, 1) := dk_177 (dk_at dksX11_init_0 7 rfl rfl)
abbrev cX11_shape : ByteArray := prog_7_method_2_code
def yX11_shape : MethodName := ⟨RX11, "shape", "(F)F"⟩
def dkwX11_shape_1 : List UInt8 := [174]
abbrev dktX11_shape_1 : List UInt8 := dkwX11_shape_1 ++ []
def dkwX11_shape_0 : List UInt8 := [35, 184, 0, 7, 42, 180, 0, 13, 184, 0, 7, 150, 156, 0, 11, 11, 35, 184, 0, 19, 167, 0, 4, 35]
abbrev dktX11_shape_0 : List UInt8 := dkwX11_shape_0 ++ dktX11_shape_1
theorem dksX11_shape_0 : cX11_shape.data.toList.drop 0 = dktX11_shape_0 := by decide +kernel
theorem dksX11_shape_1 : cX11_shape.data.toList.drop 24 = dktX11_shape_1 := dk_seg dksX11_shape_0 24 rfl rfl
theorem dX11_shape_0 : decode cX11_shape 0 = .ok (.fload_n 1, 1) := dk_35 (dk_at dksX11_shape_0 0 rfl rfl)
theorem dX11_shape_1 : decode cX11_shape 1 = .ok (.invokestatic 7, 3) := dk_184 0 7 (dk_at dksX11_shape_0 1 rfl rfl)
theorem dX11_shape_4 : decode cX11_shape 4 = .ok (.aload_n 0, 1) := dk_42 (dk_at dksX11_shape_0 4 rfl rfl)
theorem dX11_shape_5 : decode cX11_shape 5 = .ok (.getfield 13, 3) := dk_180 0 13 (dk_at dksX11_shape_0 5 rfl rfl)
theorem dX11_shape_8 : decode cX11_shape 8 = .ok (.invokestatic 7, 3) := dk_184 0 7 (dk_at dksX11_shape_0 8 rfl rfl)
theorem dX11_shape_11 : decode cX11_shape 11 = .ok (.fcmp .g, 1) := dk_150 (dk_at dksX11_shape_0 11 rfl rfl)
theorem dX11_shape_12 : decode cX11_shape 12 = .ok (.ifCond .ge 11, 3) := dk_156 0 11 (dk_at dksX11_shape_0 12 rfl rfl)
theorem dX11_shape_15 : decode cX11_shape 15 = .ok (.fconst 0, 1) := dk_11 (dk_at dksX11_shape_0 15 rfl rfl)
theorem dX11_shape_16 : decode cX11_shape 16 = .ok (.fload_n 1, 1) := dk_35 (dk_at dksX11_shape_0 16 rfl rfl)
theorem dX11_shape_17 : decode cX11_shape 17 = .ok (.invokestatic 19, 3) := dk_184 0 19 (dk_at dksX11_shape_0 17 rfl rfl)
theorem dX11_shape_20 : decode cX11_shape 20 = .ok (.goto 4, 3) := dk_167 0 4 (dk_at dksX11_shape_0 20 rfl rfl)
theorem dX11_shape_23 : decode cX11_shape 23 = .ok (.fload_n 1, 1) := dk_35 (dk_at dksX11_shape_0 23 rfl rfl)
theorem dX11_shape_24 : decode cX11_shape 24 = .ok (.freturn, 1) := dk_174 (dk_at dksX11_shape_1 0 rfl rfl)
theorem q74 : (Jvm.Cond.initialized "ScoreThreads$Gate") ∈ lw_all := lw_g (lw_at lw_m1 23 rfl) rfl
theorem q459 : (Jvm.Cond.fieldLink "ScoreThreads$Gate" (13 : Nat) "ScoreThreads$Gate" "a" "F") ∈ lw_all := lw_g (lw_at lw_m2 168 rfl) rfl
theorem q460 : (Jvm.Cond.sameField "ScoreThreads$Gate" "ScoreThreads$Plug" "a" "F") ∈ lw_all := lw_g (lw_at lw_m2 169 rfl) rfl
theorem q544 : (Jvm.Cond.instantiable "ScoreThreads$Gate" (4 : Nat)) ∈ lw_all := lw_g (lw_at lw_m3 13 rfl) rfl
theorem q546 : (Jvm.Cond.instanceMethod ({ cls := "ScoreThreads$Gate", name := "<init>", desc := "(IFI)V" } : Jvm.MethodName)) ∈ lw_all := lw_g (lw_at lw_m3 15 rfl) rfl
theorem q547 : (Jvm.Cond.code ({ cls := "ScoreThreads$Gate", name := "<init>", desc := "(IFI)V" } : Jvm.MethodName) prog_7_method_1_code (4 : Nat) (Option.none : Option Jvm.ClassFile.FieldType)) ∈ lw_all := lw_g (lw_at lw_m3 16 rfl) rfl
theorem q548 : (Jvm.Cond.methodLink "ScoreThreads$Gate" (1 : Nat) ({ cls := "ScoreThreads$Plug", name := "<init>", desc := "(IFI)V" } : Jvm.MethodName)) ∈ lw_all := lw_g (lw_at lw_m3 17 rfl) rfl
theorem q549 : (Jvm.Cond.laysFinal "ScoreThreads$Gate" "ScoreThreads$Plug" "kind" "I") ∈ lw_all := lw_g (lw_at lw_m3 18 rfl) rfl
theorem q550 : (Jvm.Cond.laysFinal "ScoreThreads$Gate" "ScoreThreads$Plug" "a" "F") ∈ lw_all := lw_g (lw_at lw_m3 19 rfl) rfl
theorem q551 : (Jvm.Cond.laysFinal "ScoreThreads$Gate" "ScoreThreads$Plug" "n" "I") ∈ lw_all := lw_g (lw_at lw_m3 20 rfl) rfl
theorem q552 : (Jvm.Cond.lays "ScoreThreads$Gate" "ScoreThreads$Plug" "uses" "I") ∈ lw_all := lw_g (lw_at lw_m3 21 rfl) rfl
theorem q553 : (Jvm.Cond.superclass "ScoreThreads$Gate" "ScoreThreads$Plug") ∈ lw_all := lw_g (lw_at lw_m3 22 rfl) rfl
theorem q621 : (Jvm.Cond.selects "ScoreThreads$Gate" ({ cls := "ScoreThreads$Plug", name := "tail", desc := "()I" } : Jvm.MethodName) ({ cls := "ScoreThreads$Plug", name := "tail", desc := "()I" } : Jvm.MethodName)) ∈ lw_all := lw_g (lw_at lw_m3 90 rfl) rfl
theorem q633 : (Jvm.Cond.selects "ScoreThreads$Gate" ({ cls := "ScoreThreads$Plug", name := "uses", desc := "()I" } : Jvm.MethodName) ({ cls := "ScoreThreads$Plug", name := "uses", desc := "()I" } : Jvm.MethodName)) ∈ lw_all := lw_g (lw_at lw_m3 102 rfl) rfl
theorem q763 : (Jvm.Cond.selects "ScoreThreads$Gate" ({ cls := "ScoreThreads$Plug", name := "pass", desc := "([F[F)V" } : Jvm.MethodName) ({ cls := "ScoreThreads$Plug", name := "pass", desc := "([F[F)V" } : Jvm.MethodName)) ∈ lw_all := lw_g (lw_at lw_m3 232 rfl) rfl
theorem q795 : (Jvm.Cond.selects "ScoreThreads$Gate" ({ cls := "ScoreThreads$Plug", name := "shape", desc := "(F)F" } : Jvm.MethodName) ({ cls := "ScoreThreads$Gate", name := "shape", desc := "(F)F" } : Jvm.MethodName)) ∈ lw_all := lw_g (lw_at lw_m4 24 rfl) rfl
theorem q796 : (Jvm.Cond.instanceMethod ({ cls := "ScoreThreads$Gate", name := "shape", desc := "(F)F" } : Jvm.MethodName)) ∈ lw_all := lw_g (lw_at lw_m4 25 rfl) rfl
theorem q797 : (Jvm.Cond.code ({ cls := "ScoreThreads$Gate", name := "shape", desc := "(F)F" } : Jvm.MethodName) prog_7_method_2_code (2 : Nat) (Option.some Jvm.ClassFile.FieldType.float)) ∈ lw_all := lw_g (lw_at lw_m4 26 rfl) rfl
theorem q798 : (Jvm.Cond.methodLink "ScoreThreads$Gate" (7 : Nat) ({ cls := "java/lang/Math", name := "abs", desc := "(F)F" } : Jvm.MethodName)) ∈ lw_all := lw_g (lw_at lw_m4 27 rfl) rfl
theorem q803 : (Jvm.Cond.methodLink "ScoreThreads$Gate" (19 : Nat) ({ cls := "java/lang/Math", name := "copySign", desc := "(FF)F" } : Jvm.MethodName)) ∈ lw_all := lw_g (lw_at lw_m4 32 rfl) rfl
theorem q1338 : (Jvm.Cond.castable "ScoreThreads$Gate" "ScoreThreads$Plug") ∈ lw_tbl := lw_at lw_m6 87 rfl
theorem in_X11 : ∀ w ∈ wsX110, w ∈ lw_all := lw_in wsX110 [549, 550, 551, 552] (by decide +kernel) (by decide +kernel)

/-! ScoreThreads$Table -/
set_option maxRecDepth 100000
def RX12 : String := "ScoreThreads$Table"
def TX12 : u_T := fun k => match k with
  | 0 => ("ScoreThreads$Plug", "kind", "I", true)
  | 1 => ("ScoreThreads$Plug", "a", "F", true)
  | 2 => ("ScoreThreads$Plug", "n", "I", true)
  | 3 => ("ScoreThreads$Plug", "uses", "I", false)
  | _ => ("ScoreThreads$Table", "table", "LScoreThreads$Clip;", true)
def tyX12 : Nat → FieldType := fun k => match k with
  | 0 => .int
  | 1 => .float
  | 2 => .int
  | 3 => .int
  | _ => .object "ScoreThreads$Clip"
abbrev wsX120 : List Cond := u_ws RX12 TX12 5
theorem nmX12 : ∀ a, a < 5 → ∀ b, b < 5 → a ≠ b → (TX12 a).2.1 ≠ (TX12 b).2.1 := by decide +kernel
theorem tyX12_ok : ∀ k, k < 5 → parseFieldDescriptor (TX12 k).2.2.1 = some (tyX12 k) := by decide +kernel
abbrev cX12_init : ByteArray := prog_10_method_1_code
def yX12_init : MethodName := ⟨RX12, "<init>", "(IFILScoreThreads$Clip;)V"⟩
def dkwX12_init_0 : List UInt8 := [42, 27, 36, 29, 183, 0, 1, 42, 25, 4, 181, 0, 7, 177]
abbrev dktX12_init_0 : List UInt8 := dkwX12_init_0 ++ []
theorem dksX12_init_0 : cX12_init.data.toList.drop 0 = dktX12_init_0 := by decide +kernel
theorem dX12_init_0 : decode cX12_init 0 = .ok (.aload_n 0, 1) := dk_42 (dk_at dksX12_init_0 0 rfl rfl)
theorem dX12_init_1 : decode cX12_init 1 = .ok (.iload_n 1, 1) := dk_27 (dk_at dksX12_init_0 1 rfl rfl)
theorem dX12_init_2 : decode cX12_init 2 = .ok (.fload_n 2, 1) := dk_36 (dk_at dksX12_init_0 2 rfl rfl)
theorem dX12_init_3 : decode cX12_init 3 = .ok (.iload_n 3, 1) := dk_29 (dk_at dksX12_init_0 3 rfl rfl)
theorem dX12_init_4 : decode cX12_init 4 = .ok (.invokespecial 1, 3) := dk_183 0 1 (dk_at dksX12_init_0 4 rfl rfl)
theorem dX12_init_7 : decode cX12_init 7 = .ok (.aload_n 0, 1) := dk_42 (dk_at dksX12_init_0 7 rfl rfl)
theorem dX12_init_8 : decode cX12_init 8 = .ok (.aload 4, 2) := dk_25 4 (dk_at dksX12_init_0 8 rfl rfl)
theorem dX12_init_10 : decode cX12_init 10 = .ok (.putfield 7, 3) := dk_181 0 7 (dk_at dksX12_init_0 10 rfl rfl)
theorem dX12_init_13 : decode cX12_init 13 = .ok (.return_, 1) := dk_177 (dk_at dksX12_init_0 13 rfl rfl)
abbrev cX12_shape : ByteArray := prog_10_method_2_code
def yX12_shape : MethodName := ⟨RX12, "shape", "(F)F"⟩
def dkwX12_shape_0 : List UInt8 := [42, 180, 0, 7, 35, 18, 13, 98, 18, 14, 106, 139, 182, 0, 15, 174]
abbrev dktX12_shape_0 : List UInt8 := dkwX12_shape_0 ++ []
theorem dksX12_shape_0 : cX12_shape.data.toList.drop 0 = dktX12_shape_0 := by decide +kernel
theorem dX12_shape_0 : decode cX12_shape 0 = .ok (.aload_n 0, 1) := dk_42 (dk_at dksX12_shape_0 0 rfl rfl)
theorem dX12_shape_1 : decode cX12_shape 1 = .ok (.getfield 7, 3) := dk_180 0 7 (dk_at dksX12_shape_0 1 rfl rfl)
theorem dX12_shape_4 : decode cX12_shape 4 = .ok (.fload_n 1, 1) := dk_35 (dk_at dksX12_shape_0 4 rfl rfl)
theorem dX12_shape_5 : decode cX12_shape 5 = .ok (.ldc 13, 2) := dk_18 13 (dk_at dksX12_shape_0 5 rfl rfl)
theorem dX12_shape_7 : decode cX12_shape 7 = .ok (.fadd, 1) := dk_98 (dk_at dksX12_shape_0 7 rfl rfl)
theorem dX12_shape_8 : decode cX12_shape 8 = .ok (.ldc 14, 2) := dk_18 14 (dk_at dksX12_shape_0 8 rfl rfl)
theorem dX12_shape_10 : decode cX12_shape 10 = .ok (.fmul, 1) := dk_106 (dk_at dksX12_shape_0 10 rfl rfl)
theorem dX12_shape_11 : decode cX12_shape 11 = .ok (.f2i, 1) := dk_139 (dk_at dksX12_shape_0 11 rfl rfl)
theorem dX12_shape_12 : decode cX12_shape 12 = .ok (.invokevirtual 15, 3) := dk_182 0 15 (dk_at dksX12_shape_0 12 rfl rfl)
theorem dX12_shape_15 : decode cX12_shape 15 = .ok (.freturn, 1) := dk_174 (dk_at dksX12_shape_0 15 rfl rfl)
theorem q75 : (Jvm.Cond.initialized "ScoreThreads$Table") ∈ lw_all := lw_g (lw_at lw_m1 24 rfl) rfl
theorem q555 : (Jvm.Cond.instantiable "ScoreThreads$Table" (5 : Nat)) ∈ lw_all := lw_g (lw_at lw_m3 24 rfl) rfl
theorem q557 : (Jvm.Cond.instanceMethod ({ cls := "ScoreThreads$Table", name := "<init>", desc := "(IFILScoreThreads$Clip;)V" } : Jvm.MethodName)) ∈ lw_all := lw_g (lw_at lw_m3 26 rfl) rfl
theorem q558 : (Jvm.Cond.code ({ cls := "ScoreThreads$Table", name := "<init>", desc := "(IFILScoreThreads$Clip;)V" } : Jvm.MethodName) prog_10_method_1_code (5 : Nat) (Option.none : Option Jvm.ClassFile.FieldType)) ∈ lw_all := lw_g (lw_at lw_m3 27 rfl) rfl
theorem q559 : (Jvm.Cond.methodLink "ScoreThreads$Table" (1 : Nat) ({ cls := "ScoreThreads$Plug", name := "<init>", desc := "(IFI)V" } : Jvm.MethodName)) ∈ lw_all := lw_g (lw_at lw_m3 28 rfl) rfl
theorem q560 : (Jvm.Cond.fieldLink "ScoreThreads$Table" (7 : Nat) "ScoreThreads$Table" "table" "LScoreThreads$Clip;") ∈ lw_all := lw_g (lw_at lw_m3 29 rfl) rfl
theorem q561 : (Jvm.Cond.laysFinal "ScoreThreads$Table" "ScoreThreads$Table" "table" "LScoreThreads$Clip;") ∈ lw_all := lw_g (lw_at lw_m3 30 rfl) rfl
theorem q562 : (Jvm.Cond.soleField "ScoreThreads$Table" "table") ∈ lw_all := lw_g (lw_at lw_m3 31 rfl) rfl
theorem q563 : (Jvm.Cond.laysFinal "ScoreThreads$Table" "ScoreThreads$Plug" "kind" "I") ∈ lw_all := lw_g (lw_at lw_m3 32 rfl) rfl
theorem q564 : (Jvm.Cond.laysFinal "ScoreThreads$Table" "ScoreThreads$Plug" "a" "F") ∈ lw_all := lw_g (lw_at lw_m3 33 rfl) rfl
theorem q565 : (Jvm.Cond.laysFinal "ScoreThreads$Table" "ScoreThreads$Plug" "n" "I") ∈ lw_all := lw_g (lw_at lw_m3 34 rfl) rfl
theorem q566 : (Jvm.Cond.lays "ScoreThreads$Table" "ScoreThreads$Plug" "uses" "I") ∈ lw_all := lw_g (lw_at lw_m3 35 rfl) rfl
theorem q567 : (Jvm.Cond.superclass "ScoreThreads$Table" "ScoreThreads$Plug") ∈ lw_all := lw_g (lw_at lw_m3 36 rfl) rfl
theorem q623 : (Jvm.Cond.selects "ScoreThreads$Table" ({ cls := "ScoreThreads$Plug", name := "tail", desc := "()I" } : Jvm.MethodName) ({ cls := "ScoreThreads$Plug", name := "tail", desc := "()I" } : Jvm.MethodName)) ∈ lw_all := lw_g (lw_at lw_m3 92 rfl) rfl
theorem q635 : (Jvm.Cond.selects "ScoreThreads$Table" ({ cls := "ScoreThreads$Plug", name := "uses", desc := "()I" } : Jvm.MethodName) ({ cls := "ScoreThreads$Plug", name := "uses", desc := "()I" } : Jvm.MethodName)) ∈ lw_all := lw_g (lw_at lw_m3 104 rfl) rfl
theorem q765 : (Jvm.Cond.selects "ScoreThreads$Table" ({ cls := "ScoreThreads$Plug", name := "pass", desc := "([F[F)V" } : Jvm.MethodName) ({ cls := "ScoreThreads$Plug", name := "pass", desc := "([F[F)V" } : Jvm.MethodName)) ∈ lw_all := lw_g (lw_at lw_m3 234 rfl) rfl
theorem q830 : (Jvm.Cond.selects "ScoreThreads$Table" ({ cls := "ScoreThreads$Plug", name := "shape", desc := "(F)F" } : Jvm.MethodName) ({ cls := "ScoreThreads$Table", name := "shape", desc := "(F)F" } : Jvm.MethodName)) ∈ lw_all := lw_g (lw_at lw_m4 59 rfl) rfl
theorem q831 : (Jvm.Cond.instanceMethod ({ cls := "ScoreThreads$Table", name := "shape", desc := "(F)F" } : Jvm.MethodName)) ∈ lw_all := lw_g (lw_at lw_m4 60 rfl) rfl
theorem q832 : (Jvm.Cond.code ({ cls := "ScoreThreads$Table", name := "shape", desc := "(F)F" } : Jvm.MethodName) prog_10_method_2_code (2 : Nat) (Option.some Jvm.ClassFile.FieldType.float)) ∈ lw_all := lw_g (lw_at lw_m4 61 rfl) rfl
theorem q833 : (Jvm.Cond.constantFloat "ScoreThreads$Table" (13 : Nat) (1090519040 : UInt32)) ∈ lw_all := lw_g (lw_at lw_m4 62 rfl) rfl
theorem q834 : (Jvm.Cond.constantFloat "ScoreThreads$Table" (14 : Nat) (1082130432 : UInt32)) ∈ lw_all := lw_g (lw_at lw_m4 63 rfl) rfl
theorem q835 : (Jvm.Cond.methodLink "ScoreThreads$Table" (15 : Nat) ({ cls := "ScoreThreads$Clip", name := "sample", desc := "(I)F" } : Jvm.MethodName)) ∈ lw_all := lw_g (lw_at lw_m4 64 rfl) rfl
theorem q1339 : (Jvm.Cond.castable "ScoreThreads$Table" "ScoreThreads$Plug") ∈ lw_tbl := lw_at lw_m6 88 rfl
theorem in_X12 : ∀ w ∈ wsX120, w ∈ lw_all := lw_in wsX120 [563, 564, 565, 566, 561] (by decide +kernel) (by decide +kernel)

/-! ScoreThreads$Clip -/
set_option maxRecDepth 100000
def RX3 : String := "ScoreThreads$Clip"
def TX3 : u_T := fun k => match k with
  | 0 => ("ScoreThreads$Clip", "lane", "I", true)
  | 1 => ("ScoreThreads$Clip", "size", "I", true)
  | _ => ("ScoreThreads$Clip", "row", "Ljava/lang/Object;", true)
def tyX3 : Nat → FieldType := fun k => match k with
  | 0 => .int
  | 1 => .int
  | _ => .object "java/lang/Object"
abbrev wsX30 : List Cond := u_ws RX3 TX3 3
theorem nmX3 : ∀ a, a < 3 → ∀ b, b < 3 → a ≠ b → (TX3 a).2.1 ≠ (TX3 b).2.1 := by decide +kernel
theorem tyX3_ok : ∀ k, k < 3 → parseFieldDescriptor (TX3 k).2.2.1 = some (tyX3 k) := by decide +kernel
abbrev cX3_init : ByteArray := prog_3_method_1_code
def yX3_init : MethodName := ⟨RX3, "<init>", "(II)V"⟩
def dkwX3_init_0 : List UInt8 := [42, 183, 0, 1, 42, 27, 181, 0, 7, 42, 28, 181, 0, 13, 42, 27, 28, 184, 0, 16, 181, 0, 20, 177]
abbrev dktX3_init_0 : List UInt8 := dkwX3_init_0 ++ []
theorem dksX3_init_0 : cX3_init.data.toList.drop 0 = dktX3_init_0 := by decide +kernel
theorem dX3_init_0 : decode cX3_init 0 = .ok (.aload_n 0, 1) := dk_42 (dk_at dksX3_init_0 0 rfl rfl)
theorem dX3_init_1 : decode cX3_init 1 = .ok (.invokespecial 1, 3) := dk_183 0 1 (dk_at dksX3_init_0 1 rfl rfl)
theorem dX3_init_4 : decode cX3_init 4 = .ok (.aload_n 0, 1) := dk_42 (dk_at dksX3_init_0 4 rfl rfl)
theorem dX3_init_5 : decode cX3_init 5 = .ok (.iload_n 1, 1) := dk_27 (dk_at dksX3_init_0 5 rfl rfl)
theorem dX3_init_6 : decode cX3_init 6 = .ok (.putfield 7, 3) := dk_181 0 7 (dk_at dksX3_init_0 6 rfl rfl)
theorem dX3_init_9 : decode cX3_init 9 = .ok (.aload_n 0, 1) := dk_42 (dk_at dksX3_init_0 9 rfl rfl)
theorem dX3_init_10 : decode cX3_init 10 = .ok (.iload_n 2, 1) := dk_28 (dk_at dksX3_init_0 10 rfl rfl)
theorem dX3_init_11 : decode cX3_init 11 = .ok (.putfield 13, 3) := dk_181 0 13 (dk_at dksX3_init_0 11 rfl rfl)
theorem dX3_init_14 : decode cX3_init 14 = .ok (.aload_n 0, 1) := dk_42 (dk_at dksX3_init_0 14 rfl rfl)
theorem dX3_init_15 : decode cX3_init 15 = .ok (.iload_n 1, 1) := dk_27 (dk_at dksX3_init_0 15 rfl rfl)
theorem dX3_init_16 : decode cX3_init 16 = .ok (.iload_n 2, 1) := dk_28 (dk_at dksX3_init_0 16 rfl rfl)
theorem dX3_init_17 : decode cX3_init 17 = .ok (.invokestatic 16, 3) := dk_184 0 16 (dk_at dksX3_init_0 17 rfl rfl)
theorem dX3_init_20 : decode cX3_init 20 = .ok (.putfield 20, 3) := dk_181 0 20 (dk_at dksX3_init_0 20 rfl rfl)
theorem dX3_init_23 : decode cX3_init 23 = .ok (.return_, 1) := dk_177 (dk_at dksX3_init_0 23 rfl rfl)
abbrev cX3_newRow : ByteArray := prog_3_method_2_code
def yX3_newRow : MethodName := ⟨RX3, "newRow", "(II)Ljava/lang/Object;"⟩
def dkwX3_newRow_2 : List UInt8 := [27, 188, 8, 176, 27, 188, 9, 176, 27, 188, 10, 176, 27, 188, 6, 176, 27, 188, 7, 176]
abbrev dktX3_newRow_2 : List UInt8 := dkwX3_newRow_2 ++ []
def dkwX3_newRow_1 : List UInt8 := [170, 0, 0, 0, 0, 0, 47, 0, 0, 0, 0, 0, 0, 0, 3, 0, 0, 0, 31, 0, 0, 0, 35, 0, 0, 0, 39, 0, 0, 0, 43]
abbrev dktX3_newRow_1 : List UInt8 := dkwX3_newRow_1 ++ dktX3_newRow_2
def dkwX3_newRow_0 : List UInt8 := [26]
abbrev dktX3_newRow_0 : List UInt8 := dkwX3_newRow_0 ++ dktX3_newRow_1
theorem dksX3_newRow_0 : cX3_newRow.data.toList.drop 0 = dktX3_newRow_0 := by decide +kernel
theorem dksX3_newRow_1 : cX3_newRow.data.toList.drop 1 = dktX3_newRow_1 := dk_seg dksX3_newRow_0 1 rfl rfl
theorem dksX3_newRow_2 : cX3_newRow.data.toList.drop 32 = dktX3_newRow_2 := dk_seg dksX3_newRow_1 31 rfl rfl
theorem dX3_newRow_0 : decode cX3_newRow 0 = .ok (.iload_n 0, 1) := dk_26 (dk_at dksX3_newRow_0 0 rfl rfl)
theorem dX3_newRow_1 : decode cX3_newRow 1 = .ok (.tableswitch 47 0 3 #[31, 35, 39, 43], 31) := by decide +kernel
theorem dX3_newRow_32 : decode cX3_newRow 32 = .ok (.iload_n 1, 1) := dk_27 (dk_at dksX3_newRow_2 0 rfl rfl)
theorem dX3_newRow_33 : decode cX3_newRow 33 = .ok (.newarray .byte, 2) := dk_188_8 (dk_at dksX3_newRow_2 1 rfl rfl)
theorem dX3_newRow_35 : decode cX3_newRow 35 = .ok (.areturn, 1) := dk_176 (dk_at dksX3_newRow_2 3 rfl rfl)
theorem dX3_newRow_36 : decode cX3_newRow 36 = .ok (.iload_n 1, 1) := dk_27 (dk_at dksX3_newRow_2 4 rfl rfl)
theorem dX3_newRow_37 : decode cX3_newRow 37 = .ok (.newarray .short, 2) := dk_188_9 (dk_at dksX3_newRow_2 5 rfl rfl)
theorem dX3_newRow_39 : decode cX3_newRow 39 = .ok (.areturn, 1) := dk_176 (dk_at dksX3_newRow_2 7 rfl rfl)
theorem dX3_newRow_40 : decode cX3_newRow 40 = .ok (.iload_n 1, 1) := dk_27 (dk_at dksX3_newRow_2 8 rfl rfl)
theorem dX3_newRow_41 : decode cX3_newRow 41 = .ok (.newarray .int, 2) := dk_188_10 (dk_at dksX3_newRow_2 9 rfl rfl)
theorem dX3_newRow_43 : decode cX3_newRow 43 = .ok (.areturn, 1) := dk_176 (dk_at dksX3_newRow_2 11 rfl rfl)
theorem dX3_newRow_44 : decode cX3_newRow 44 = .ok (.iload_n 1, 1) := dk_27 (dk_at dksX3_newRow_2 12 rfl rfl)
theorem dX3_newRow_45 : decode cX3_newRow 45 = .ok (.newarray .float, 2) := dk_188_6 (dk_at dksX3_newRow_2 13 rfl rfl)
theorem dX3_newRow_47 : decode cX3_newRow 47 = .ok (.areturn, 1) := dk_176 (dk_at dksX3_newRow_2 15 rfl rfl)
theorem dX3_newRow_48 : decode cX3_newRow 48 = .ok (.iload_n 1, 1) := dk_27 (dk_at dksX3_newRow_2 16 rfl rfl)
theorem dX3_newRow_49 : decode cX3_newRow 49 = .ok (.newarray .double, 2) := dk_188_7 (dk_at dksX3_newRow_2 17 rfl rfl)
theorem dX3_newRow_51 : decode cX3_newRow 51 = .ok (.areturn, 1) := dk_176 (dk_at dksX3_newRow_2 19 rfl rfl)
abbrev cX3_put : ByteArray := prog_3_method_3_code
def yX3_put : MethodName := ⟨RX3, "put", "(IIJ)V"⟩
def dkwX3_put_5 : List UInt8 := [184, 0, 40, 82, 177]
abbrev dktX3_put_5 : List UInt8 := dkwX3_put_5 ++ []
def dkwX3_put_4 : List UInt8 := [192, 0, 30, 28, 33, 136, 184, 0, 32, 81, 167, 0, 16, 42, 180, 0, 20, 192, 0, 38, 28, 33]
abbrev dktX3_put_4 : List UInt8 := dkwX3_put_4 ++ dktX3_put_5
def dkwX3_put_3 : List UInt8 := [136, 147, 86, 167, 0, 47, 42, 180, 0, 20, 192, 0, 28, 28, 33, 136, 79, 167, 0, 33, 42, 180, 0, 20]
abbrev dktX3_put_3 : List UInt8 := dkwX3_put_3 ++ dktX3_put_4
def dkwX3_put_2 : List UInt8 := [42, 180, 0, 20, 192, 0, 24, 28, 33, 136, 145, 84, 167, 0, 62, 42, 180, 0, 20, 192, 0, 26, 28, 33]
abbrev dktX3_put_2 : List UInt8 := dkwX3_put_2 ++ dktX3_put_3
def dkwX3_put_1 : List UInt8 := [170, 0, 0, 0, 0, 0, 92, 0, 0, 0, 0, 0, 0, 0, 3, 0, 0, 0, 31, 0, 0, 0, 46, 0, 0, 0, 61, 0, 0, 0, 75]
abbrev dktX3_put_1 : List UInt8 := dkwX3_put_1 ++ dktX3_put_2
def dkwX3_put_0 : List UInt8 := [27]
abbrev dktX3_put_0 : List UInt8 := dkwX3_put_0 ++ dktX3_put_1
theorem dksX3_put_0 : cX3_put.data.toList.drop 0 = dktX3_put_0 := by decide +kernel
theorem dksX3_put_1 : cX3_put.data.toList.drop 1 = dktX3_put_1 := dk_seg dksX3_put_0 1 rfl rfl
theorem dksX3_put_2 : cX3_put.data.toList.drop 32 = dktX3_put_2 := dk_seg dksX3_put_1 31 rfl rfl
theorem dksX3_put_3 : cX3_put.data.toList.drop 56 = dktX3_put_3 := dk_seg dksX3_put_2 24 rfl rfl
theorem dksX3_put_4 : cX3_put.data.toList.drop 80 = dktX3_put_4 := dk_seg dksX3_put_3 24 rfl rfl
theorem dksX3_put_5 : cX3_put.data.toList.drop 102 = dktX3_put_5 := dk_seg dksX3_put_4 22 rfl rfl
theorem dX3_put_0 : decode cX3_put 0 = .ok (.iload_n 1, 1) := dk_27 (dk_at dksX3_put_0 0 rfl rfl)
theorem dX3_put_1 : decode cX3_put 1 = .ok (.tableswitch 92 0 3 #[31, 46, 61, 75], 31) := by decide +kernel
theorem dX3_put_32 : decode cX3_put 32 = .ok (.aload_n 0, 1) := dk_42 (dk_at dksX3_put_2 0 rfl rfl)
theorem dX3_put_33 : decode cX3_put 33 = .ok (.getfield 20, 3) := dk_180 0 20 (dk_at dksX3_put_2 1 rfl rfl)
theorem dX3_put_36 : decode cX3_put 36 = .ok (.checkcast 24, 3) := dk_192 0 24 (dk_at dksX3_put_2 4 rfl rfl)
theorem dX3_put_39 : decode cX3_put 39 = .ok (.iload_n 2, 1) := dk_28 (dk_at dksX3_put_2 7 rfl rfl)
theorem dX3_put_40 : decode cX3_put 40 = .ok (.lload_n 3, 1) := dk_33 (dk_at dksX3_put_2 8 rfl rfl)
theorem dX3_put_41 : decode cX3_put 41 = .ok (.l2i, 1) := dk_136 (dk_at dksX3_put_2 9 rfl rfl)
theorem dX3_put_42 : decode cX3_put 42 = .ok (.i2b, 1) := dk_145 (dk_at dksX3_put_2 10 rfl rfl)
theorem dX3_put_43 : decode cX3_put 43 = .ok (.bastore, 1) := dk_84 (dk_at dksX3_put_2 11 rfl rfl)
theorem dX3_put_44 : decode cX3_put 44 = .ok (.goto 62, 3) := dk_167 0 62 (dk_at dksX3_put_2 12 rfl rfl)
theorem dX3_put_47 : decode cX3_put 47 = .ok (.aload_n 0, 1) := dk_42 (dk_at dksX3_put_2 15 rfl rfl)
theorem dX3_put_48 : decode cX3_put 48 = .ok (.getfield 20, 3) := dk_180 0 20 (dk_at dksX3_put_2 16 rfl rfl)
theorem dX3_put_51 : decode cX3_put 51 = .ok (.checkcast 26, 3) := dk_192 0 26 (dk_at dksX3_put_2 19 rfl rfl)
theorem dX3_put_54 : decode cX3_put 54 = .ok (.iload_n 2, 1) := dk_28 (dk_at dksX3_put_2 22 rfl rfl)
theorem dX3_put_55 : decode cX3_put 55 = .ok (.lload_n 3, 1) := dk_33 (dk_at dksX3_put_2 23 rfl rfl)
theorem dX3_put_56 : decode cX3_put 56 = .ok (.l2i, 1) := dk_136 (dk_at dksX3_put_3 0 rfl rfl)
theorem dX3_put_57 : decode cX3_put 57 = .ok (.i2s, 1) := dk_147 (dk_at dksX3_put_3 1 rfl rfl)
theorem dX3_put_58 : decode cX3_put 58 = .ok (.sastore, 1) := dk_86 (dk_at dksX3_put_3 2 rfl rfl)
theorem dX3_put_59 : decode cX3_put 59 = .ok (.goto 47, 3) := dk_167 0 47 (dk_at dksX3_put_3 3 rfl rfl)
theorem dX3_put_62 : decode cX3_put 62 = .ok (.aload_n 0, 1) := dk_42 (dk_at dksX3_put_3 6 rfl rfl)
theorem dX3_put_63 : decode cX3_put 63 = .ok (.getfield 20, 3) := dk_180 0 20 (dk_at dksX3_put_3 7 rfl rfl)
theorem dX3_put_66 : decode cX3_put 66 = .ok (.checkcast 28, 3) := dk_192 0 28 (dk_at dksX3_put_3 10 rfl rfl)
theorem dX3_put_69 : decode cX3_put 69 = .ok (.iload_n 2, 1) := dk_28 (dk_at dksX3_put_3 13 rfl rfl)
theorem dX3_put_70 : decode cX3_put 70 = .ok (.lload_n 3, 1) := dk_33 (dk_at dksX3_put_3 14 rfl rfl)
theorem dX3_put_71 : decode cX3_put 71 = .ok (.l2i, 1) := dk_136 (dk_at dksX3_put_3 15 rfl rfl)
theorem dX3_put_72 : decode cX3_put 72 = .ok (.iastore, 1) := dk_79 (dk_at dksX3_put_3 16 rfl rfl)
theorem dX3_put_73 : decode cX3_put 73 = .ok (.goto 33, 3) := dk_167 0 33 (dk_at dksX3_put_3 17 rfl rfl)
theorem dX3_put_76 : decode cX3_put 76 = .ok (.aload_n 0, 1) := dk_42 (dk_at dksX3_put_3 20 rfl rfl)
theorem dX3_put_77 : decode cX3_put 77 = .ok (.getfield 20, 3) := dk_180 0 20 (dk_at dksX3_put_3 21 rfl rfl)
theorem dX3_put_80 : decode cX3_put 80 = .ok (.checkcast 30, 3) := dk_192 0 30 (dk_at dksX3_put_4 0 rfl rfl)
theorem dX3_put_83 : decode cX3_put 83 = .ok (.iload_n 2, 1) := dk_28 (dk_at dksX3_put_4 3 rfl rfl)
theorem dX3_put_84 : decode cX3_put 84 = .ok (.lload_n 3, 1) := dk_33 (dk_at dksX3_put_4 4 rfl rfl)
theorem dX3_put_85 : decode cX3_put 85 = .ok (.l2i, 1) := dk_136 (dk_at dksX3_put_4 5 rfl rfl)
theorem dX3_put_86 : decode cX3_put 86 = .ok (.invokestatic 32, 3) := dk_184 0 32 (dk_at dksX3_put_4 6 rfl rfl)
theorem dX3_put_89 : decode cX3_put 89 = .ok (.fastore, 1) := dk_81 (dk_at dksX3_put_4 9 rfl rfl)
theorem dX3_put_90 : decode cX3_put 90 = .ok (.goto 16, 3) := dk_167 0 16 (dk_at dksX3_put_4 10 rfl rfl)
theorem dX3_put_93 : decode cX3_put 93 = .ok (.aload_n 0, 1) := dk_42 (dk_at dksX3_put_4 13 rfl rfl)
theorem dX3_put_94 : decode cX3_put 94 = .ok (.getfield 20, 3) := dk_180 0 20 (dk_at dksX3_put_4 14 rfl rfl)
theorem dX3_put_97 : decode cX3_put 97 = .ok (.checkcast 38, 3) := dk_192 0 38 (dk_at dksX3_put_4 17 rfl rfl)
theorem dX3_put_100 : decode cX3_put 100 = .ok (.iload_n 2, 1) := dk_28 (dk_at dksX3_put_4 20 rfl rfl)
theorem dX3_put_101 : decode cX3_put 101 = .ok (.lload_n 3, 1) := dk_33 (dk_at dksX3_put_4 21 rfl rfl)
theorem dX3_put_102 : decode cX3_put 102 = .ok (.invokestatic 40, 3) := dk_184 0 40 (dk_at dksX3_put_5 0 rfl rfl)
theorem dX3_put_105 : decode cX3_put 105 = .ok (.dastore, 1) := dk_82 (dk_at dksX3_put_5 3 rfl rfl)
theorem dX3_put_106 : decode cX3_put 106 = .ok (.return_, 1) := dk_177 (dk_at dksX3_put_5 4 rfl rfl)
abbrev cX3_has : ByteArray := prog_3_method_5_code
def yX3_has : MethodName := ⟨RX3, "has", "(I)Z"⟩
def dkwX3_has_0 : List UInt8 := [27, 155, 0, 15, 27, 42, 180, 0, 13, 162, 0, 7, 4, 167, 0, 4, 3, 172]
abbrev dktX3_has_0 : List UInt8 := dkwX3_has_0 ++ []
theorem dksX3_has_0 : cX3_has.data.toList.drop 0 = dktX3_has_0 := by decide +kernel
theorem dX3_has_0 : decode cX3_has 0 = .ok (.iload_n 1, 1) := dk_27 (dk_at dksX3_has_0 0 rfl rfl)
theorem dX3_has_1 : decode cX3_has 1 = .ok (.ifCond .lt 15, 3) := dk_155 0 15 (dk_at dksX3_has_0 1 rfl rfl)
theorem dX3_has_4 : decode cX3_has 4 = .ok (.iload_n 1, 1) := dk_27 (dk_at dksX3_has_0 4 rfl rfl)
theorem dX3_has_5 : decode cX3_has 5 = .ok (.aload_n 0, 1) := dk_42 (dk_at dksX3_has_0 5 rfl rfl)
theorem dX3_has_6 : decode cX3_has 6 = .ok (.getfield 13, 3) := dk_180 0 13 (dk_at dksX3_has_0 6 rfl rfl)
theorem dX3_has_9 : decode cX3_has 9 = .ok (.if_icmp .ge 7, 3) := dk_162 0 7 (dk_at dksX3_has_0 9 rfl rfl)
theorem dX3_has_12 : decode cX3_has 12 = .ok (.iconst 1, 1) := dk_4 (dk_at dksX3_has_0 12 rfl rfl)
theorem dX3_has_13 : decode cX3_has 13 = .ok (.goto 4, 3) := dk_167 0 4 (dk_at dksX3_has_0 13 rfl rfl)
theorem dX3_has_16 : decode cX3_has 16 = .ok (.iconst 0, 1) := dk_3 (dk_at dksX3_has_0 16 rfl rfl)
theorem dX3_has_17 : decode cX3_has 17 = .ok (.ireturn, 1) := dk_172 (dk_at dksX3_has_0 17 rfl rfl)
abbrev cX3_sample : ByteArray := prog_3_method_4_code
def yX3_sample : MethodName := ⟨RX3, "sample", "(I)F"⟩
def dkwX3_sample_5 : List UInt8 := [184, 0, 52, 174]
abbrev dktX3_sample_5 : List UInt8 := dkwX3_sample_5 ++ []
def dkwX3_sample_4 : List UInt8 := [42, 180, 0, 20, 192, 0, 30, 27, 48, 184, 0, 52, 174, 42, 180, 0, 20, 192, 0, 38, 27, 49, 144]
abbrev dktX3_sample_4 : List UInt8 := dkwX3_sample_4 ++ dktX3_sample_5
def dkwX3_sample_3 : List UInt8 := [53, 135, 20, 0, 48, 111, 144, 174, 42, 180, 0, 20, 192, 0, 28, 27, 46, 135, 20, 0, 50, 111, 144, 174]
abbrev dktX3_sample_3 : List UInt8 := dkwX3_sample_3 ++ dktX3_sample_4
def dkwX3_sample_2 : List UInt8 := [42, 180, 0, 20, 192, 0, 24, 27, 51, 135, 20, 0, 46, 111, 144, 174, 42, 180, 0, 20, 192, 0, 26, 27]
abbrev dktX3_sample_2 : List UInt8 := dkwX3_sample_2 ++ dktX3_sample_3
def dkwX3_sample_1 : List UInt8 := [170, 0, 0, 0, 0, 0, 0, 93, 0, 0, 0, 0, 0, 0, 0, 3, 0, 0, 0, 32, 0, 0, 0, 48, 0, 0, 0, 64, 0, 0, 0, 80]
abbrev dktX3_sample_1 : List UInt8 := dkwX3_sample_1 ++ dktX3_sample_2
def dkwX3_sample_0 : List UInt8 := [42, 180, 0, 7]
abbrev dktX3_sample_0 : List UInt8 := dkwX3_sample_0 ++ dktX3_sample_1
theorem dksX3_sample_0 : cX3_sample.data.toList.drop 0 = dktX3_sample_0 := by decide +kernel
theorem dksX3_sample_1 : cX3_sample.data.toList.drop 4 = dktX3_sample_1 := dk_seg dksX3_sample_0 4 rfl rfl
theorem dksX3_sample_2 : cX3_sample.data.toList.drop 36 = dktX3_sample_2 := dk_seg dksX3_sample_1 32 rfl rfl
theorem dksX3_sample_3 : cX3_sample.data.toList.drop 60 = dktX3_sample_3 := dk_seg dksX3_sample_2 24 rfl rfl
theorem dksX3_sample_4 : cX3_sample.data.toList.drop 84 = dktX3_sample_4 := dk_seg dksX3_sample_3 24 rfl rfl
theorem dksX3_sample_5 : cX3_sample.data.toList.drop 107 = dktX3_sample_5 := dk_seg dksX3_sample_4 23 rfl rfl
theorem dX3_sample_0 : decode cX3_sample 0 = .ok (.aload_n 0, 1) := dk_42 (dk_at dksX3_sample_0 0 rfl rfl)
theorem dX3_sample_1 : decode cX3_sample 1 = .ok (.getfield 7, 3) := dk_180 0 7 (dk_at dksX3_sample_0 1 rfl rfl)
theorem dX3_sample_4 : decode cX3_sample 4 = .ok (.tableswitch 93 0 3 #[32, 48, 64, 80], 32) := by decide +kernel
theorem dX3_sample_36 : decode cX3_sample 36 = .ok (.aload_n 0, 1) := dk_42 (dk_at dksX3_sample_2 0 rfl rfl)
theorem dX3_sample_37 : decode cX3_sample 37 = .ok (.getfield 20, 3) := dk_180 0 20 (dk_at dksX3_sample_2 1 rfl rfl)
theorem dX3_sample_40 : decode cX3_sample 40 = .ok (.checkcast 24, 3) := dk_192 0 24 (dk_at dksX3_sample_2 4 rfl rfl)
theorem dX3_sample_43 : decode cX3_sample 43 = .ok (.iload_n 1, 1) := dk_27 (dk_at dksX3_sample_2 7 rfl rfl)
theorem dX3_sample_44 : decode cX3_sample 44 = .ok (.baload, 1) := dk_51 (dk_at dksX3_sample_2 8 rfl rfl)
theorem dX3_sample_45 : decode cX3_sample 45 = .ok (.i2d, 1) := dk_135 (dk_at dksX3_sample_2 9 rfl rfl)
theorem dX3_sample_46 : decode cX3_sample 46 = .ok (.ldc2_w 46, 3) := dk_20 0 46 (dk_at dksX3_sample_2 10 rfl rfl)
theorem dX3_sample_49 : decode cX3_sample 49 = .ok (.ddiv, 1) := dk_111 (dk_at dksX3_sample_2 13 rfl rfl)
theorem dX3_sample_50 : decode cX3_sample 50 = .ok (.d2f, 1) := dk_144 (dk_at dksX3_sample_2 14 rfl rfl)
theorem dX3_sample_51 : decode cX3_sample 51 = .ok (.freturn, 1) := dk_174 (dk_at dksX3_sample_2 15 rfl rfl)
theorem dX3_sample_52 : decode cX3_sample 52 = .ok (.aload_n 0, 1) := dk_42 (dk_at dksX3_sample_2 16 rfl rfl)
theorem dX3_sample_53 : decode cX3_sample 53 = .ok (.getfield 20, 3) := dk_180 0 20 (dk_at dksX3_sample_2 17 rfl rfl)
theorem dX3_sample_56 : decode cX3_sample 56 = .ok (.checkcast 26, 3) := dk_192 0 26 (dk_at dksX3_sample_2 20 rfl rfl)
theorem dX3_sample_59 : decode cX3_sample 59 = .ok (.iload_n 1, 1) := dk_27 (dk_at dksX3_sample_2 23 rfl rfl)
theorem dX3_sample_60 : decode cX3_sample 60 = .ok (.saload, 1) := dk_53 (dk_at dksX3_sample_3 0 rfl rfl)
theorem dX3_sample_61 : decode cX3_sample 61 = .ok (.i2d, 1) := dk_135 (dk_at dksX3_sample_3 1 rfl rfl)
theorem dX3_sample_62 : decode cX3_sample 62 = .ok (.ldc2_w 48, 3) := dk_20 0 48 (dk_at dksX3_sample_3 2 rfl rfl)
theorem dX3_sample_65 : decode cX3_sample 65 = .ok (.ddiv, 1) := dk_111 (dk_at dksX3_sample_3 5 rfl rfl)
theorem dX3_sample_66 : decode cX3_sample 66 = .ok (.d2f, 1) := dk_144 (dk_at dksX3_sample_3 6 rfl rfl)
theorem dX3_sample_67 : decode cX3_sample 67 = .ok (.freturn, 1) := dk_174 (dk_at dksX3_sample_3 7 rfl rfl)
theorem dX3_sample_68 : decode cX3_sample 68 = .ok (.aload_n 0, 1) := dk_42 (dk_at dksX3_sample_3 8 rfl rfl)
theorem dX3_sample_69 : decode cX3_sample 69 = .ok (.getfield 20, 3) := dk_180 0 20 (dk_at dksX3_sample_3 9 rfl rfl)
theorem dX3_sample_72 : decode cX3_sample 72 = .ok (.checkcast 28, 3) := dk_192 0 28 (dk_at dksX3_sample_3 12 rfl rfl)
theorem dX3_sample_75 : decode cX3_sample 75 = .ok (.iload_n 1, 1) := dk_27 (dk_at dksX3_sample_3 15 rfl rfl)
theorem dX3_sample_76 : decode cX3_sample 76 = .ok (.iaload, 1) := dk_46 (dk_at dksX3_sample_3 16 rfl rfl)
theorem dX3_sample_77 : decode cX3_sample 77 = .ok (.i2d, 1) := dk_135 (dk_at dksX3_sample_3 17 rfl rfl)
theorem dX3_sample_78 : decode cX3_sample 78 = .ok (.ldc2_w 50, 3) := dk_20 0 50 (dk_at dksX3_sample_3 18 rfl rfl)
theorem dX3_sample_81 : decode cX3_sample 81 = .ok (.ddiv, 1) := dk_111 (dk_at dksX3_sample_3 21 rfl rfl)
theorem dX3_sample_82 : decode cX3_sample 82 = .ok (.d2f, 1) := dk_144 (dk_at dksX3_sample_3 22 rfl rfl)
theorem dX3_sample_83 : decode cX3_sample 83 = .ok (.freturn, 1) := dk_174 (dk_at dksX3_sample_3 23 rfl rfl)
theorem dX3_sample_84 : decode cX3_sample 84 = .ok (.aload_n 0, 1) := dk_42 (dk_at dksX3_sample_4 0 rfl rfl)
theorem dX3_sample_85 : decode cX3_sample 85 = .ok (.getfield 20, 3) := dk_180 0 20 (dk_at dksX3_sample_4 1 rfl rfl)
theorem dX3_sample_88 : decode cX3_sample 88 = .ok (.checkcast 30, 3) := dk_192 0 30 (dk_at dksX3_sample_4 4 rfl rfl)
theorem dX3_sample_91 : decode cX3_sample 91 = .ok (.iload_n 1, 1) := dk_27 (dk_at dksX3_sample_4 7 rfl rfl)
theorem dX3_sample_92 : decode cX3_sample 92 = .ok (.faload, 1) := dk_48 (dk_at dksX3_sample_4 8 rfl rfl)
theorem dX3_sample_93 : decode cX3_sample 93 = .ok (.invokestatic 52, 3) := dk_184 0 52 (dk_at dksX3_sample_4 9 rfl rfl)
theorem dX3_sample_96 : decode cX3_sample 96 = .ok (.freturn, 1) := dk_174 (dk_at dksX3_sample_4 12 rfl rfl)
theorem dX3_sample_97 : decode cX3_sample 97 = .ok (.aload_n 0, 1) := dk_42 (dk_at dksX3_sample_4 13 rfl rfl)
theorem dX3_sample_98 : decode cX3_sample 98 = .ok (.getfield 20, 3) := dk_180 0 20 (dk_at dksX3_sample_4 14 rfl rfl)
theorem dX3_sample_101 : decode cX3_sample 101 = .ok (.checkcast 38, 3) := dk_192 0 38 (dk_at dksX3_sample_4 17 rfl rfl)
theorem dX3_sample_104 : decode cX3_sample 104 = .ok (.iload_n 1, 1) := dk_27 (dk_at dksX3_sample_4 20 rfl rfl)
theorem dX3_sample_105 : decode cX3_sample 105 = .ok (.daload, 1) := dk_49 (dk_at dksX3_sample_4 21 rfl rfl)
theorem dX3_sample_106 : decode cX3_sample 106 = .ok (.d2f, 1) := dk_144 (dk_at dksX3_sample_4 22 rfl rfl)
theorem dX3_sample_107 : decode cX3_sample 107 = .ok (.invokestatic 52, 3) := dk_184 0 52 (dk_at dksX3_sample_5 0 rfl rfl)
theorem dX3_sample_110 : decode cX3_sample 110 = .ok (.freturn, 1) := dk_174 (dk_at dksX3_sample_5 3 rfl rfl)
theorem q60 : (Jvm.Cond.initialized "ScoreThreads$Clip") ∈ lw_all := lw_g (lw_at lw_m1 9 rfl) rfl
theorem q309 : (Jvm.Cond.instantiable "ScoreThreads$Clip" (3 : Nat)) ∈ lw_all := lw_g (lw_at lw_m2 18 rfl) rfl
theorem q311 : (Jvm.Cond.instanceMethod ({ cls := "ScoreThreads$Clip", name := "<init>", desc := "(II)V" } : Jvm.MethodName)) ∈ lw_all := lw_g (lw_at lw_m2 20 rfl) rfl
theorem q312 : (Jvm.Cond.code ({ cls := "ScoreThreads$Clip", name := "<init>", desc := "(II)V" } : Jvm.MethodName) prog_3_method_1_code (3 : Nat) (Option.none : Option Jvm.ClassFile.FieldType)) ∈ lw_all := lw_g (lw_at lw_m2 21 rfl) rfl
theorem q313 : (Jvm.Cond.methodLink "ScoreThreads$Clip" (1 : Nat) ({ cls := "java/lang/Object", name := "<init>", desc := "()V" } : Jvm.MethodName)) ∈ lw_all := lw_g (lw_at lw_m2 22 rfl) rfl
theorem q314 : (Jvm.Cond.methodLink "ScoreThreads$Clip" (16 : Nat) ({ cls := "ScoreThreads$Clip", name := "newRow", desc := "(II)Ljava/lang/Object;" } : Jvm.MethodName)) ∈ lw_all := lw_g (lw_at lw_m2 23 rfl) rfl
theorem q315 : (Jvm.Cond.static ({ cls := "ScoreThreads$Clip", name := "newRow", desc := "(II)Ljava/lang/Object;" } : Jvm.MethodName)) ∈ lw_all := lw_g (lw_at lw_m2 24 rfl) rfl
theorem q316 : (Jvm.Cond.code ({ cls := "ScoreThreads$Clip", name := "newRow", desc := "(II)Ljava/lang/Object;" } : Jvm.MethodName) prog_3_method_2_code (2 : Nat) (Option.some (Jvm.ClassFile.FieldType.object "java/lang/Object"))) ∈ lw_all := lw_g (lw_at lw_m2 25 rfl) rfl
theorem q317 : (Jvm.Cond.fieldLink "ScoreThreads$Clip" (7 : Nat) "ScoreThreads$Clip" "lane" "I") ∈ lw_all := lw_g (lw_at lw_m2 26 rfl) rfl
theorem q318 : (Jvm.Cond.fieldLink "ScoreThreads$Clip" (13 : Nat) "ScoreThreads$Clip" "size" "I") ∈ lw_all := lw_g (lw_at lw_m2 27 rfl) rfl
theorem q319 : (Jvm.Cond.fieldLink "ScoreThreads$Clip" (20 : Nat) "ScoreThreads$Clip" "row" "Ljava/lang/Object;") ∈ lw_all := lw_g (lw_at lw_m2 28 rfl) rfl
theorem q320 : (Jvm.Cond.laysFinal "ScoreThreads$Clip" "ScoreThreads$Clip" "lane" "I") ∈ lw_all := lw_g (lw_at lw_m2 29 rfl) rfl
theorem q321 : (Jvm.Cond.soleField "ScoreThreads$Clip" "lane") ∈ lw_all := lw_g (lw_at lw_m2 30 rfl) rfl
theorem q322 : (Jvm.Cond.laysFinal "ScoreThreads$Clip" "ScoreThreads$Clip" "size" "I") ∈ lw_all := lw_g (lw_at lw_m2 31 rfl) rfl
theorem q323 : (Jvm.Cond.soleField "ScoreThreads$Clip" "size") ∈ lw_all := lw_g (lw_at lw_m2 32 rfl) rfl
theorem q324 : (Jvm.Cond.laysFinal "ScoreThreads$Clip" "ScoreThreads$Clip" "row" "Ljava/lang/Object;") ∈ lw_all := lw_g (lw_at lw_m2 33 rfl) rfl
theorem q325 : (Jvm.Cond.soleField "ScoreThreads$Clip" "row") ∈ lw_all := lw_g (lw_at lw_m2 34 rfl) rfl
theorem q326 : (Jvm.Cond.superclass "ScoreThreads$Clip" "java/lang/Object") ∈ lw_all := lw_g (lw_at lw_m2 35 rfl) rfl
theorem q382 : (Jvm.Cond.instanceMethod ({ cls := "ScoreThreads$Clip", name := "put", desc := "(IIJ)V" } : Jvm.MethodName)) ∈ lw_all := lw_g (lw_at lw_m2 91 rfl) rfl
theorem q383 : (Jvm.Cond.selects "ScoreThreads$Clip" ({ cls := "ScoreThreads$Clip", name := "put", desc := "(IIJ)V" } : Jvm.MethodName) ({ cls := "ScoreThreads$Clip", name := "put", desc := "(IIJ)V" } : Jvm.MethodName)) ∈ lw_all := lw_g (lw_at lw_m2 92 rfl) rfl
theorem q384 : (Jvm.Cond.code ({ cls := "ScoreThreads$Clip", name := "put", desc := "(IIJ)V" } : Jvm.MethodName) prog_3_method_3_code (5 : Nat) (Option.none : Option Jvm.ClassFile.FieldType)) ∈ lw_all := lw_g (lw_at lw_m2 93 rfl) rfl
theorem q385 : (Jvm.Cond.classLink "ScoreThreads$Clip" (24 : Nat) "[B") ∈ lw_all := lw_g (lw_at lw_m2 94 rfl) rfl
theorem q386 : (Jvm.Cond.classLink "ScoreThreads$Clip" (26 : Nat) "[S") ∈ lw_all := lw_g (lw_at lw_m2 95 rfl) rfl
theorem q387 : (Jvm.Cond.classLink "ScoreThreads$Clip" (28 : Nat) "[I") ∈ lw_all := lw_g (lw_at lw_m2 96 rfl) rfl
theorem q388 : (Jvm.Cond.classLink "ScoreThreads$Clip" (30 : Nat) "[F") ∈ lw_all := lw_g (lw_at lw_m2 97 rfl) rfl
theorem q389 : (Jvm.Cond.methodLink "ScoreThreads$Clip" (32 : Nat) ({ cls := "java/lang/Float", name := "intBitsToFloat", desc := "(I)F" } : Jvm.MethodName)) ∈ lw_all := lw_g (lw_at lw_m2 98 rfl) rfl
theorem q392 : (Jvm.Cond.classLink "ScoreThreads$Clip" (38 : Nat) "[D") ∈ lw_all := lw_g (lw_at lw_m2 101 rfl) rfl
theorem q393 : (Jvm.Cond.methodLink "ScoreThreads$Clip" (40 : Nat) ({ cls := "java/lang/Double", name := "longBitsToDouble", desc := "(J)D" } : Jvm.MethodName)) ∈ lw_all := lw_g (lw_at lw_m2 102 rfl) rfl
theorem q401 : (Jvm.Cond.instanceMethod ({ cls := "ScoreThreads$Clip", name := "has", desc := "(I)Z" } : Jvm.MethodName)) ∈ lw_all := lw_g (lw_at lw_m2 110 rfl) rfl
theorem q402 : (Jvm.Cond.selects "ScoreThreads$Clip" ({ cls := "ScoreThreads$Clip", name := "has", desc := "(I)Z" } : Jvm.MethodName) ({ cls := "ScoreThreads$Clip", name := "has", desc := "(I)Z" } : Jvm.MethodName)) ∈ lw_all := lw_g (lw_at lw_m2 111 rfl) rfl
theorem q403 : (Jvm.Cond.code ({ cls := "ScoreThreads$Clip", name := "has", desc := "(I)Z" } : Jvm.MethodName) prog_3_method_5_code (2 : Nat) (Option.some Jvm.ClassFile.FieldType.boolean)) ∈ lw_all := lw_g (lw_at lw_m2 112 rfl) rfl
theorem q405 : (Jvm.Cond.instanceMethod ({ cls := "ScoreThreads$Clip", name := "sample", desc := "(I)F" } : Jvm.MethodName)) ∈ lw_all := lw_g (lw_at lw_m2 114 rfl) rfl
theorem q406 : (Jvm.Cond.selects "ScoreThreads$Clip" ({ cls := "ScoreThreads$Clip", name := "sample", desc := "(I)F" } : Jvm.MethodName) ({ cls := "ScoreThreads$Clip", name := "sample", desc := "(I)F" } : Jvm.MethodName)) ∈ lw_all := lw_g (lw_at lw_m2 115 rfl) rfl
theorem q407 : (Jvm.Cond.code ({ cls := "ScoreThreads$Clip", name := "sample", desc := "(I)F" } : Jvm.MethodName) prog_3_method_4_code (2 : Nat) (Option.some Jvm.ClassFile.FieldType.float)) ∈ lw_all := lw_g (lw_at lw_m2 116 rfl) rfl
theorem q408 : (Jvm.Cond.constantDouble "ScoreThreads$Clip" (46 : Nat) (4638707616191610880 : UInt64)) ∈ lw_all := lw_g (lw_at lw_m2 117 rfl) rfl
theorem q409 : (Jvm.Cond.constantDouble "ScoreThreads$Clip" (48 : Nat) (4674736413210574848 : UInt64)) ∈ lw_all := lw_g (lw_at lw_m2 118 rfl) rfl
theorem q410 : (Jvm.Cond.constantDouble "ScoreThreads$Clip" (50 : Nat) (4746794007248502784 : UInt64)) ∈ lw_all := lw_g (lw_at lw_m2 119 rfl) rfl
theorem q411 : (Jvm.Cond.methodLinkNest "ScoreThreads$Clip" (52 : Nat) ({ cls := "ScoreThreads", name := "clipped", desc := "(F)F" } : Jvm.MethodName) "ScoreThreads") ∈ lw_tbl := lw_at lw_m2 120 rfl
theorem in_X3 : ∀ w ∈ wsX30, w ∈ lw_all := lw_in wsX30 [320, 322, 324] (by decide +kernel) (by decide +kernel)

/-! ScoreThreads$Plug -/
set_option maxRecDepth 100000
def RX4 : String := "ScoreThreads$Plug"
abbrev cX4_init : ByteArray := prog_8_method_1_code
def yX4_init : MethodName := ⟨RX4, "<init>", "(IFI)V"⟩
def dkwX4_init_0 : List UInt8 := [42, 183, 0, 3, 42, 27, 181, 0, 9, 42, 36, 181, 0, 15, 42, 29, 181, 0, 19, 177]
abbrev dktX4_init_0 : List UInt8 := dkwX4_init_0 ++ []
theorem dksX4_init_0 : cX4_init.data.toList.drop 0 = dktX4_init_0 := by decide +kernel
theorem dX4_init_0 : decode cX4_init 0 = .ok (.aload_n 0, 1) := dk_42 (dk_at dksX4_init_0 0 rfl rfl)
theorem dX4_init_1 : decode cX4_init 1 = .ok (.invokespecial 3, 3) := dk_183 0 3 (dk_at dksX4_init_0 1 rfl rfl)
theorem dX4_init_4 : decode cX4_init 4 = .ok (.aload_n 0, 1) := dk_42 (dk_at dksX4_init_0 4 rfl rfl)
theorem dX4_init_5 : decode cX4_init 5 = .ok (.iload_n 1, 1) := dk_27 (dk_at dksX4_init_0 5 rfl rfl)
theorem dX4_init_6 : decode cX4_init 6 = .ok (.putfield 9, 3) := dk_181 0 9 (dk_at dksX4_init_0 6 rfl rfl)
theorem dX4_init_9 : decode cX4_init 9 = .ok (.aload_n 0, 1) := dk_42 (dk_at dksX4_init_0 9 rfl rfl)
theorem dX4_init_10 : decode cX4_init 10 = .ok (.fload_n 2, 1) := dk_36 (dk_at dksX4_init_0 10 rfl rfl)
theorem dX4_init_11 : decode cX4_init 11 = .ok (.putfield 15, 3) := dk_181 0 15 (dk_at dksX4_init_0 11 rfl rfl)
theorem dX4_init_14 : decode cX4_init 14 = .ok (.aload_n 0, 1) := dk_42 (dk_at dksX4_init_0 14 rfl rfl)
theorem dX4_init_15 : decode cX4_init 15 = .ok (.iload_n 3, 1) := dk_29 (dk_at dksX4_init_0 15 rfl rfl)
theorem dX4_init_16 : decode cX4_init 16 = .ok (.putfield 19, 3) := dk_181 0 19 (dk_at dksX4_init_0 16 rfl rfl)
theorem dX4_init_19 : decode cX4_init 19 = .ok (.return_, 1) := dk_177 (dk_at dksX4_init_0 19 rfl rfl)
abbrev cX4_tail : ByteArray := prog_8_method_3_code
def yX4_tail : MethodName := ⟨RX4, "tail", "()I"⟩
theorem dX4_tail_0 : decode cX4_tail 0 = .ok (.iconst 0, 1) := by decide +kernel
theorem dX4_tail_1 : decode cX4_tail 1 = .ok (.ireturn, 1) := by decide +kernel
theorem q67 : (Jvm.Cond.initialized "ScoreThreads$Plug") ∈ lw_all := lw_g (lw_at lw_m1 16 rfl) rfl
theorem q449 : (Jvm.Cond.instanceMethod ({ cls := "ScoreThreads$Plug", name := "<init>", desc := "(IFI)V" } : Jvm.MethodName)) ∈ lw_all := lw_g (lw_at lw_m2 158 rfl) rfl
theorem q450 : (Jvm.Cond.code ({ cls := "ScoreThreads$Plug", name := "<init>", desc := "(IFI)V" } : Jvm.MethodName) prog_8_method_1_code (4 : Nat) (Option.none : Option Jvm.ClassFile.FieldType)) ∈ lw_all := lw_g (lw_at lw_m2 159 rfl) rfl
theorem q451 : (Jvm.Cond.methodLink "ScoreThreads$Plug" (3 : Nat) ({ cls := "java/lang/Object", name := "<init>", desc := "()V" } : Jvm.MethodName)) ∈ lw_all := lw_g (lw_at lw_m2 160 rfl) rfl
theorem q452 : (Jvm.Cond.fieldLink "ScoreThreads$Plug" (9 : Nat) "ScoreThreads$Plug" "kind" "I") ∈ lw_all := lw_g (lw_at lw_m2 161 rfl) rfl
theorem q454 : (Jvm.Cond.fieldLink "ScoreThreads$Plug" (15 : Nat) "ScoreThreads$Plug" "a" "F") ∈ lw_all := lw_g (lw_at lw_m2 163 rfl) rfl
theorem q463 : (Jvm.Cond.fieldLink "ScoreThreads$Plug" (19 : Nat) "ScoreThreads$Plug" "n" "I") ∈ lw_all := lw_g (lw_at lw_m2 172 rfl) rfl
theorem q468 : (Jvm.Cond.fieldLink "ScoreThreads$Plug" (26 : Nat) "ScoreThreads$Plug" "uses" "I") ∈ lw_all := lw_g (lw_at lw_m2 177 rfl) rfl
theorem q470 : (Jvm.Cond.soleField "ScoreThreads$Plug" "kind") ∈ lw_all := lw_g (lw_at lw_m2 179 rfl) rfl
theorem q472 : (Jvm.Cond.soleField "ScoreThreads$Plug" "a") ∈ lw_all := lw_g (lw_at lw_m2 181 rfl) rfl
theorem q474 : (Jvm.Cond.soleField "ScoreThreads$Plug" "n") ∈ lw_all := lw_g (lw_at lw_m2 183 rfl) rfl
theorem q476 : (Jvm.Cond.soleField "ScoreThreads$Plug" "uses") ∈ lw_all := lw_g (lw_at lw_m2 185 rfl) rfl
theorem q602 : (Jvm.Cond.instanceMethod ({ cls := "ScoreThreads$Plug", name := "tail", desc := "()I" } : Jvm.MethodName)) ∈ lw_all := lw_g (lw_at lw_m3 71 rfl) rfl
theorem q603 : (Jvm.Cond.sameMethod "ScoreThreads$Plug" "ScoreThreads$Plug" "tail" "()I") ∈ lw_all := lw_g (lw_at lw_m3 72 rfl) rfl
theorem q619 : (Jvm.Cond.declares ({ cls := "ScoreThreads$Plug", name := "tail", desc := "()I" } : Jvm.MethodName)) ∈ lw_tbl := lw_at lw_m3 88 rfl
theorem q625 : (Jvm.Cond.code ({ cls := "ScoreThreads$Plug", name := "tail", desc := "()I" } : Jvm.MethodName) prog_8_method_3_code (1 : Nat) (Option.some Jvm.ClassFile.FieldType.int)) ∈ lw_all := lw_g (lw_at lw_m3 94 rfl) rfl
theorem q627 : (Jvm.Cond.instanceMethod ({ cls := "ScoreThreads$Plug", name := "uses", desc := "()I" } : Jvm.MethodName)) ∈ lw_all := lw_g (lw_at lw_m3 96 rfl) rfl
theorem q628 : (Jvm.Cond.sameMethod "ScoreThreads$Plug" "ScoreThreads$Plug" "uses" "()I") ∈ lw_all := lw_g (lw_at lw_m3 97 rfl) rfl
theorem q637 : (Jvm.Cond.codeSync ({ cls := "ScoreThreads$Plug", name := "uses", desc := "()I" } : Jvm.MethodName) prog_8_method_5_code (1 : Nat) (Option.some Jvm.ClassFile.FieldType.int)) ∈ lw_all := lw_g (lw_at lw_m3 106 rfl) rfl
theorem q757 : (Jvm.Cond.instanceMethod ({ cls := "ScoreThreads$Plug", name := "pass", desc := "([F[F)V" } : Jvm.MethodName)) ∈ lw_all := lw_g (lw_at lw_m3 226 rfl) rfl
theorem q758 : (Jvm.Cond.sameMethod "ScoreThreads$Plug" "ScoreThreads$Plug" "pass" "([F[F)V") ∈ lw_all := lw_g (lw_at lw_m3 227 rfl) rfl
theorem q767 : (Jvm.Cond.codeSync ({ cls := "ScoreThreads$Plug", name := "pass", desc := "([F[F)V" } : Jvm.MethodName) prog_8_method_4_code (4 : Nat) (Option.none : Option Jvm.ClassFile.FieldType)) ∈ lw_all := lw_g (lw_at lw_m3 236 rfl) rfl
theorem q768 : (Jvm.Cond.methodLink "ScoreThreads$Plug" (22 : Nat) ({ cls := "ScoreThreads$Plug", name := "shape", desc := "(F)F" } : Jvm.MethodName)) ∈ lw_all := lw_g (lw_at lw_m3 237 rfl) rfl
theorem q769 : (Jvm.Cond.declares ({ cls := "ScoreThreads$Plug", name := "shape", desc := "(F)F" } : Jvm.MethodName)) ∈ lw_tbl := lw_at lw_m3 238 rfl
theorem q770 : (Jvm.Cond.sameMethod "ScoreThreads$Plug" "ScoreThreads$Plug" "shape" "(F)F") ∈ lw_all := lw_g (lw_at lw_m3 239 rfl) rfl

/-! ScoreThreads$Gain -/
set_option maxRecDepth 100000
def RX5 : String := "ScoreThreads$Gain"
def TX5 : u_T := fun k => match k with
  | 0 => ("ScoreThreads$Plug", "kind", "I", true)
  | 1 => ("ScoreThreads$Plug", "a", "F", true)
  | 2 => ("ScoreThreads$Plug", "n", "I", true)
  | _ => ("ScoreThreads$Plug", "uses", "I", false)
def tyX5 : Nat → FieldType := fun k => match k with
  | 0 => .int
  | 1 => .float
  | 2 => .int
  | _ => .int
abbrev wsX50 : List Cond := u_ws RX5 TX5 4
theorem nmX5 : ∀ a, a < 4 → ∀ b, b < 4 → a ≠ b → (TX5 a).2.1 ≠ (TX5 b).2.1 := by decide +kernel
theorem tyX5_ok : ∀ k, k < 4 → parseFieldDescriptor (TX5 k).2.2.1 = some (tyX5 k) := by decide +kernel
abbrev cX5_init : ByteArray := prog_6_method_1_code
def yX5_init : MethodName := ⟨RX5, "<init>", "(IFI)V"⟩
def dkwX5_init_0 : List UInt8 := [42, 27, 36, 29, 183, 0, 1, 177]
abbrev dktX5_init_0 : List UInt8 := dkwX5_init_0 ++ []
theorem dksX5_init_0 : cX5_init.data.toList.drop 0 = dktX5_init_0 := by decide +kernel
theorem dX5_init_0 : decode cX5_init 0 = .ok (.aload_n 0, 1) := dk_42 (dk_at dksX5_init_0 0 rfl rfl)
theorem dX5_init_1 : decode cX5_init 1 = .ok (.iload_n 1, 1) := dk_27 (dk_at dksX5_init_0 1 rfl rfl)
theorem dX5_init_2 : decode cX5_init 2 = .ok (.fload_n 2, 1) := dk_36 (dk_at dksX5_init_0 2 rfl rfl)
theorem dX5_init_3 : decode cX5_init 3 = .ok (.iload_n 3, 1) := dk_29 (dk_at dksX5_init_0 3 rfl rfl)
theorem dX5_init_4 : decode cX5_init 4 = .ok (.invokespecial 1, 3) := dk_183 0 1 (dk_at dksX5_init_0 4 rfl rfl)
theorem dX5_init_7 : decode cX5_init 7 = .ok (.return_, 1) := dk_177 (dk_at dksX5_init_0 7 rfl rfl)
abbrev cX5_shape : ByteArray := prog_6_method_2_code
def yX5_shape : MethodName := ⟨RX5, "shape", "(F)F"⟩
def dkwX5_shape_0 : List UInt8 := [35, 42, 180, 0, 7, 106, 184, 0, 13, 174]
abbrev dktX5_shape_0 : List UInt8 := dkwX5_shape_0 ++ []
theorem dksX5_shape_0 : cX5_shape.data.toList.drop 0 = dktX5_shape_0 := by decide +kernel
theorem dX5_shape_0 : decode cX5_shape 0 = .ok (.fload_n 1, 1) := dk_35 (dk_at dksX5_shape_0 0 rfl rfl)
theorem dX5_shape_1 : decode cX5_shape 1 = .ok (.aload_n 0, 1) := dk_42 (dk_at dksX5_shape_0 1 rfl rfl)
theorem dX5_shape_2 : decode cX5_shape 2 = .ok (.getfield 7, 3) := dk_180 0 7 (dk_at dksX5_shape_0 2 rfl rfl)
theorem dX5_shape_5 : decode cX5_shape 5 = .ok (.fmul, 1) := dk_106 (dk_at dksX5_shape_0 5 rfl rfl)
theorem dX5_shape_6 : decode cX5_shape 6 = .ok (.invokestatic 13, 3) := dk_184 0 13 (dk_at dksX5_shape_0 6 rfl rfl)
theorem dX5_shape_9 : decode cX5_shape 9 = .ok (.freturn, 1) := dk_174 (dk_at dksX5_shape_0 9 rfl rfl)
theorem q68 : (Jvm.Cond.initialized "ScoreThreads$Gain") ∈ lw_all := lw_g (lw_at lw_m1 17 rfl) rfl
theorem q444 : (Jvm.Cond.instantiable "ScoreThreads$Gain" (4 : Nat)) ∈ lw_all := lw_g (lw_at lw_m2 153 rfl) rfl
theorem q446 : (Jvm.Cond.instanceMethod ({ cls := "ScoreThreads$Gain", name := "<init>", desc := "(IFI)V" } : Jvm.MethodName)) ∈ lw_all := lw_g (lw_at lw_m2 155 rfl) rfl
theorem q447 : (Jvm.Cond.code ({ cls := "ScoreThreads$Gain", name := "<init>", desc := "(IFI)V" } : Jvm.MethodName) prog_6_method_1_code (4 : Nat) (Option.none : Option Jvm.ClassFile.FieldType)) ∈ lw_all := lw_g (lw_at lw_m2 156 rfl) rfl
theorem q448 : (Jvm.Cond.methodLink "ScoreThreads$Gain" (1 : Nat) ({ cls := "ScoreThreads$Plug", name := "<init>", desc := "(IFI)V" } : Jvm.MethodName)) ∈ lw_all := lw_g (lw_at lw_m2 157 rfl) rfl
theorem q457 : (Jvm.Cond.fieldLink "ScoreThreads$Gain" (7 : Nat) "ScoreThreads$Gain" "a" "F") ∈ lw_all := lw_g (lw_at lw_m2 166 rfl) rfl
theorem q458 : (Jvm.Cond.sameField "ScoreThreads$Gain" "ScoreThreads$Plug" "a" "F") ∈ lw_all := lw_g (lw_at lw_m2 167 rfl) rfl
theorem q469 : (Jvm.Cond.laysFinal "ScoreThreads$Gain" "ScoreThreads$Plug" "kind" "I") ∈ lw_all := lw_g (lw_at lw_m2 178 rfl) rfl
theorem q471 : (Jvm.Cond.laysFinal "ScoreThreads$Gain" "ScoreThreads$Plug" "a" "F") ∈ lw_all := lw_g (lw_at lw_m2 180 rfl) rfl
theorem q473 : (Jvm.Cond.laysFinal "ScoreThreads$Gain" "ScoreThreads$Plug" "n" "I") ∈ lw_all := lw_g (lw_at lw_m2 182 rfl) rfl
theorem q475 : (Jvm.Cond.lays "ScoreThreads$Gain" "ScoreThreads$Plug" "uses" "I") ∈ lw_all := lw_g (lw_at lw_m2 184 rfl) rfl
theorem q477 : (Jvm.Cond.superclass "ScoreThreads$Gain" "ScoreThreads$Plug") ∈ lw_all := lw_g (lw_at lw_m2 186 rfl) rfl
theorem q618 : (Jvm.Cond.sameMethod "ScoreThreads$Gain" "ScoreThreads$Plug" "tail" "()I") ∈ lw_all := lw_g (lw_at lw_m3 87 rfl) rfl
theorem q620 : (Jvm.Cond.selects "ScoreThreads$Gain" ({ cls := "ScoreThreads$Plug", name := "tail", desc := "()I" } : Jvm.MethodName) ({ cls := "ScoreThreads$Plug", name := "tail", desc := "()I" } : Jvm.MethodName)) ∈ lw_all := lw_g (lw_at lw_m3 89 rfl) rfl
theorem q632 : (Jvm.Cond.selects "ScoreThreads$Gain" ({ cls := "ScoreThreads$Plug", name := "uses", desc := "()I" } : Jvm.MethodName) ({ cls := "ScoreThreads$Plug", name := "uses", desc := "()I" } : Jvm.MethodName)) ∈ lw_all := lw_g (lw_at lw_m3 101 rfl) rfl
theorem q762 : (Jvm.Cond.selects "ScoreThreads$Gain" ({ cls := "ScoreThreads$Plug", name := "pass", desc := "([F[F)V" } : Jvm.MethodName) ({ cls := "ScoreThreads$Plug", name := "pass", desc := "([F[F)V" } : Jvm.MethodName)) ∈ lw_all := lw_g (lw_at lw_m3 231 rfl) rfl
theorem q790 : (Jvm.Cond.declares ({ cls := "ScoreThreads$Gain", name := "shape", desc := "(F)F" } : Jvm.MethodName)) ∈ lw_tbl := lw_at lw_m4 19 rfl
theorem q791 : (Jvm.Cond.instanceMethod ({ cls := "ScoreThreads$Gain", name := "shape", desc := "(F)F" } : Jvm.MethodName)) ∈ lw_all := lw_g (lw_at lw_m4 20 rfl) rfl
theorem q792 : (Jvm.Cond.code ({ cls := "ScoreThreads$Gain", name := "shape", desc := "(F)F" } : Jvm.MethodName) prog_6_method_2_code (2 : Nat) (Option.some Jvm.ClassFile.FieldType.float)) ∈ lw_all := lw_g (lw_at lw_m4 21 rfl) rfl
theorem q793 : (Jvm.Cond.methodLinkNest "ScoreThreads$Gain" (13 : Nat) ({ cls := "ScoreThreads", name := "clipped", desc := "(F)F" } : Jvm.MethodName) "ScoreThreads") ∈ lw_tbl := lw_at lw_m4 22 rfl
theorem q794 : (Jvm.Cond.selects "ScoreThreads$Gain" ({ cls := "ScoreThreads$Plug", name := "shape", desc := "(F)F" } : Jvm.MethodName) ({ cls := "ScoreThreads$Gain", name := "shape", desc := "(F)F" } : Jvm.MethodName)) ∈ lw_all := lw_g (lw_at lw_m4 23 rfl) rfl
theorem q1332 : (Jvm.Cond.castable "ScoreThreads$Gain" "ScoreThreads$Plug") ∈ lw_tbl := lw_at lw_m6 81 rfl
theorem in_X5 : ∀ w ∈ wsX50, w ∈ lw_all := lw_in wsX50 [469, 471, 473, 475] (by decide +kernel) (by decide +kernel)

/-! ScoreThreads$Warm -/
set_option maxRecDepth 100000
def RX6 : String := "ScoreThreads$Warm"
def TX6 : u_T := fun k => match k with
  | 0 => ("ScoreThreads$Plug", "kind", "I", true)
  | 1 => ("ScoreThreads$Plug", "a", "F", true)
  | 2 => ("ScoreThreads$Plug", "n", "I", true)
  | _ => ("ScoreThreads$Plug", "uses", "I", false)
def tyX6 : Nat → FieldType := fun k => match k with
  | 0 => .int
  | 1 => .float
  | 2 => .int
  | _ => .int
abbrev wsX60 : List Cond := u_ws RX6 TX6 4
theorem nmX6 : ∀ a, a < 4 → ∀ b, b < 4 → a ≠ b → (TX6 a).2.1 ≠ (TX6 b).2.1 := by decide +kernel
theorem tyX6_ok : ∀ k, k < 4 → parseFieldDescriptor (TX6 k).2.2.1 = some (tyX6 k) := by decide +kernel
abbrev cX6_init : ByteArray := prog_12_method_1_code
def yX6_init : MethodName := ⟨RX6, "<init>", "(IFI)V"⟩
def dkwX6_init_0 : List UInt8 := [42, 27, 36, 29, 183, 0, 1, 177]
abbrev dktX6_init_0 : List UInt8 := dkwX6_init_0 ++ []
theorem dksX6_init_0 : cX6_init.data.toList.drop 0 = dktX6_init_0 := by decide +kernel
theorem dX6_init_0 : decode cX6_init 0 = .ok (.aload_n 0, 1) := dk_42 (dk_at dksX6_init_0 0 rfl rfl)
theorem dX6_init_1 : decode cX6_init 1 = .ok (.iload_n 1, 1) := dk_27 (dk_at dksX6_init_0 1 rfl rfl)
theorem dX6_init_2 : decode cX6_init 2 = .ok (.fload_n 2, 1) := dk_36 (dk_at dksX6_init_0 2 rfl rfl)
theorem dX6_init_3 : decode cX6_init 3 = .ok (.iload_n 3, 1) := dk_29 (dk_at dksX6_init_0 3 rfl rfl)
theorem dX6_init_4 : decode cX6_init 4 = .ok (.invokespecial 1, 3) := dk_183 0 1 (dk_at dksX6_init_0 4 rfl rfl)
theorem dX6_init_7 : decode cX6_init 7 = .ok (.return_, 1) := dk_177 (dk_at dksX6_init_0 7 rfl rfl)
abbrev cX6_tail : ByteArray := prog_12_method_2_code
def yX6_tail : MethodName := ⟨RX6, "tail", "()I"⟩
def dkwX6_tail_0 : List UInt8 := [42, 183, 0, 7, 4, 96, 172]
abbrev dktX6_tail_0 : List UInt8 := dkwX6_tail_0 ++ []
theorem dksX6_tail_0 : cX6_tail.data.toList.drop 0 = dktX6_tail_0 := by decide +kernel
theorem dX6_tail_0 : decode cX6_tail 0 = .ok (.aload_n 0, 1) := dk_42 (dk_at dksX6_tail_0 0 rfl rfl)
theorem dX6_tail_1 : decode cX6_tail 1 = .ok (.invokespecial 7, 3) := dk_183 0 7 (dk_at dksX6_tail_0 1 rfl rfl)
theorem dX6_tail_4 : decode cX6_tail 4 = .ok (.iconst 1, 1) := dk_4 (dk_at dksX6_tail_0 4 rfl rfl)
theorem dX6_tail_5 : decode cX6_tail 5 = .ok (.iadd, 1) := dk_96 (dk_at dksX6_tail_0 5 rfl rfl)
theorem dX6_tail_6 : decode cX6_tail 6 = .ok (.ireturn, 1) := dk_172 (dk_at dksX6_tail_0 6 rfl rfl)
theorem q69 : (Jvm.Cond.initialized "ScoreThreads$Warm") ∈ lw_all := lw_g (lw_at lw_m1 18 rfl) rfl
theorem q479 : (Jvm.Cond.instantiable "ScoreThreads$Warm" (4 : Nat)) ∈ lw_all := lw_g (lw_at lw_m2 188 rfl) rfl
theorem q481 : (Jvm.Cond.instanceMethod ({ cls := "ScoreThreads$Warm", name := "<init>", desc := "(IFI)V" } : Jvm.MethodName)) ∈ lw_all := lw_g (lw_at lw_m2 190 rfl) rfl
theorem q482 : (Jvm.Cond.code ({ cls := "ScoreThreads$Warm", name := "<init>", desc := "(IFI)V" } : Jvm.MethodName) prog_12_method_1_code (4 : Nat) (Option.none : Option Jvm.ClassFile.FieldType)) ∈ lw_all := lw_g (lw_at lw_m2 191 rfl) rfl
theorem q483 : (Jvm.Cond.methodLink "ScoreThreads$Warm" (1 : Nat) ({ cls := "ScoreThreads$Gain", name := "<init>", desc := "(IFI)V" } : Jvm.MethodName)) ∈ lw_all := lw_g (lw_at lw_m2 192 rfl) rfl
theorem q484 : (Jvm.Cond.laysFinal "ScoreThreads$Warm" "ScoreThreads$Plug" "kind" "I") ∈ lw_all := lw_g (lw_at lw_m2 193 rfl) rfl
theorem q485 : (Jvm.Cond.laysFinal "ScoreThreads$Warm" "ScoreThreads$Plug" "a" "F") ∈ lw_all := lw_g (lw_at lw_m2 194 rfl) rfl
theorem q486 : (Jvm.Cond.laysFinal "ScoreThreads$Warm" "ScoreThreads$Plug" "n" "I") ∈ lw_all := lw_g (lw_at lw_m2 195 rfl) rfl
theorem q487 : (Jvm.Cond.lays "ScoreThreads$Warm" "ScoreThreads$Plug" "uses" "I") ∈ lw_all := lw_g (lw_at lw_m2 196 rfl) rfl
theorem q488 : (Jvm.Cond.superclass "ScoreThreads$Warm" "ScoreThreads$Gain") ∈ lw_all := lw_g (lw_at lw_m2 197 rfl) rfl
theorem q615 : (Jvm.Cond.instanceMethod ({ cls := "ScoreThreads$Warm", name := "tail", desc := "()I" } : Jvm.MethodName)) ∈ lw_all := lw_g (lw_at lw_m3 84 rfl) rfl
theorem q616 : (Jvm.Cond.code ({ cls := "ScoreThreads$Warm", name := "tail", desc := "()I" } : Jvm.MethodName) prog_12_method_2_code (1 : Nat) (Option.some Jvm.ClassFile.FieldType.int)) ∈ lw_all := lw_g (lw_at lw_m3 85 rfl) rfl
theorem q617 : (Jvm.Cond.methodLink "ScoreThreads$Warm" (7 : Nat) ({ cls := "ScoreThreads$Gain", name := "tail", desc := "()I" } : Jvm.MethodName)) ∈ lw_all := lw_g (lw_at lw_m3 86 rfl) rfl
theorem q624 : (Jvm.Cond.selects "ScoreThreads$Warm" ({ cls := "ScoreThreads$Plug", name := "tail", desc := "()I" } : Jvm.MethodName) ({ cls := "ScoreThreads$Warm", name := "tail", desc := "()I" } : Jvm.MethodName)) ∈ lw_all := lw_g (lw_at lw_m3 93 rfl) rfl
theorem q636 : (Jvm.Cond.selects "ScoreThreads$Warm" ({ cls := "ScoreThreads$Plug", name := "uses", desc := "()I" } : Jvm.MethodName) ({ cls := "ScoreThreads$Plug", name := "uses", desc := "()I" } : Jvm.MethodName)) ∈ lw_all := lw_g (lw_at lw_m3 105 rfl) rfl
theorem q766 : (Jvm.Cond.selects "ScoreThreads$Warm" ({ cls := "ScoreThreads$Plug", name := "pass", desc := "([F[F)V" } : Jvm.MethodName) ({ cls := "ScoreThreads$Plug", name := "pass", desc := "([F[F)V" } : Jvm.MethodName)) ∈ lw_all := lw_g (lw_at lw_m3 235 rfl) rfl
theorem q789 : (Jvm.Cond.sameMethod "ScoreThreads$Warm" "ScoreThreads$Gain" "shape" "(F)F") ∈ lw_all := lw_g (lw_at lw_m4 18 rfl) rfl
theorem q836 : (Jvm.Cond.selects "ScoreThreads$Warm" ({ cls := "ScoreThreads$Plug", name := "shape", desc := "(F)F" } : Jvm.MethodName) ({ cls := "ScoreThreads$Gain", name := "shape", desc := "(F)F" } : Jvm.MethodName)) ∈ lw_all := lw_g (lw_at lw_m4 65 rfl) rfl
theorem q1329 : (Jvm.Cond.sameMethod "ScoreThreads$Warm" "ScoreThreads$Warm" "tail" "()I") ∈ lw_all := lw_g (lw_at lw_m6 78 rfl) rfl
theorem q1333 : (Jvm.Cond.castable "ScoreThreads$Warm" "ScoreThreads$Plug") ∈ lw_tbl := lw_at lw_m6 82 rfl
theorem q1340 : (Jvm.Cond.castable "ScoreThreads$Warm" "ScoreThreads$Gain") ∈ lw_tbl := lw_at lw_m6 89 rfl
theorem in_X6 : ∀ w ∈ wsX60, w ∈ lw_all := lw_in wsX60 [484, 485, 486, 487] (by decide +kernel) (by decide +kernel)

/-! ScoreThreads$Fold -/
set_option maxRecDepth 100000
def RX7 : String := "ScoreThreads$Fold"
def TX7 : u_T := fun k => match k with
  | 0 => ("ScoreThreads$Plug", "kind", "I", true)
  | 1 => ("ScoreThreads$Plug", "a", "F", true)
  | 2 => ("ScoreThreads$Plug", "n", "I", true)
  | _ => ("ScoreThreads$Plug", "uses", "I", false)
def tyX7 : Nat → FieldType := fun k => match k with
  | 0 => .int
  | 1 => .float
  | 2 => .int
  | _ => .int
abbrev wsX70 : List Cond := u_ws RX7 TX7 4
theorem nmX7 : ∀ a, a < 4 → ∀ b, b < 4 → a ≠ b → (TX7 a).2.1 ≠ (TX7 b).2.1 := by decide +kernel
theorem tyX7_ok : ∀ k, k < 4 → parseFieldDescriptor (TX7 k).2.2.1 = some (tyX7 k) := by decide +kernel
abbrev cX7_init : ByteArray := prog_5_method_1_code
def yX7_init : MethodName := ⟨RX7, "<init>", "(IFI)V"⟩
def dkwX7_init_0 : List UInt8 := [42, 27, 36, 29, 183, 0, 1, 177]
abbrev dktX7_init_0 : List UInt8 := dkwX7_init_0 ++ []
theorem dksX7_init_0 : cX7_init.data.toList.drop 0 = dktX7_init_0 := by decide +kernel
theorem dX7_init_0 : decode cX7_init 0 = .ok (.aload_n 0, 1) := dk_42 (dk_at dksX7_init_0 0 rfl rfl)
theorem dX7_init_1 : decode cX7_init 1 = .ok (.iload_n 1, 1) := dk_27 (dk_at dksX7_init_0 1 rfl rfl)
theorem dX7_init_2 : decode cX7_init 2 = .ok (.fload_n 2, 1) := dk_36 (dk_at dksX7_init_0 2 rfl rfl)
theorem dX7_init_3 : decode cX7_init 3 = .ok (.iload_n 3, 1) := dk_29 (dk_at dksX7_init_0 3 rfl rfl)
theorem dX7_init_4 : decode cX7_init 4 = .ok (.invokespecial 1, 3) := dk_183 0 1 (dk_at dksX7_init_0 4 rfl rfl)
theorem dX7_init_7 : decode cX7_init 7 = .ok (.return_, 1) := dk_177 (dk_at dksX7_init_0 7 rfl rfl)
abbrev cX7_tail : ByteArray := prog_5_method_3_code
def yX7_tail : MethodName := ⟨RX7, "tail", "()I"⟩
def dkwX7_tail_0 : List UInt8 := [42, 183, 0, 11, 5, 96, 172]
abbrev dktX7_tail_0 : List UInt8 := dkwX7_tail_0 ++ []
theorem dksX7_tail_0 : cX7_tail.data.toList.drop 0 = dktX7_tail_0 := by decide +kernel
theorem dX7_tail_0 : decode cX7_tail 0 = .ok (.aload_n 0, 1) := dk_42 (dk_at dksX7_tail_0 0 rfl rfl)
theorem dX7_tail_1 : decode cX7_tail 1 = .ok (.invokespecial 11, 3) := dk_183 0 11 (dk_at dksX7_tail_0 1 rfl rfl)
theorem dX7_tail_4 : decode cX7_tail 4 = .ok (.iconst 2, 1) := dk_5 (dk_at dksX7_tail_0 4 rfl rfl)
theorem dX7_tail_5 : decode cX7_tail 5 = .ok (.iadd, 1) := dk_96 (dk_at dksX7_tail_0 5 rfl rfl)
theorem dX7_tail_6 : decode cX7_tail 6 = .ok (.ireturn, 1) := dk_172 (dk_at dksX7_tail_0 6 rfl rfl)
abbrev cX7_shape : ByteArray := prog_5_method_2_code
def yX7_shape : MethodName := ⟨RX7, "shape", "(F)F"⟩
def dkwX7_shape_0 : List UInt8 := [42, 35, 183, 0, 7, 12, 114, 174]
abbrev dktX7_shape_0 : List UInt8 := dkwX7_shape_0 ++ []
theorem dksX7_shape_0 : cX7_shape.data.toList.drop 0 = dktX7_shape_0 := by decide +kernel
theorem dX7_shape_0 : decode cX7_shape 0 = .ok (.aload_n 0, 1) := dk_42 (dk_at dksX7_shape_0 0 rfl rfl)
theorem dX7_shape_1 : decode cX7_shape 1 = .ok (.fload_n 1, 1) := dk_35 (dk_at dksX7_shape_0 1 rfl rfl)
theorem dX7_shape_2 : decode cX7_shape 2 = .ok (.invokespecial 7, 3) := dk_183 0 7 (dk_at dksX7_shape_0 2 rfl rfl)
theorem dX7_shape_5 : decode cX7_shape 5 = .ok (.fconst 1, 1) := dk_12 (dk_at dksX7_shape_0 5 rfl rfl)
theorem dX7_shape_6 : decode cX7_shape 6 = .ok (.frem, 1) := dk_114 (dk_at dksX7_shape_0 6 rfl rfl)
theorem dX7_shape_7 : decode cX7_shape 7 = .ok (.freturn, 1) := dk_174 (dk_at dksX7_shape_0 7 rfl rfl)
theorem q70 : (Jvm.Cond.initialized "ScoreThreads$Fold") ∈ lw_all := lw_g (lw_at lw_m1 19 rfl) rfl
theorem q490 : (Jvm.Cond.instantiable "ScoreThreads$Fold" (4 : Nat)) ∈ lw_all := lw_g (lw_at lw_m2 199 rfl) rfl
theorem q492 : (Jvm.Cond.instanceMethod ({ cls := "ScoreThreads$Fold", name := "<init>", desc := "(IFI)V" } : Jvm.MethodName)) ∈ lw_all := lw_g (lw_at lw_m2 201 rfl) rfl
theorem q493 : (Jvm.Cond.code ({ cls := "ScoreThreads$Fold", name := "<init>", desc := "(IFI)V" } : Jvm.MethodName) prog_5_method_1_code (4 : Nat) (Option.none : Option Jvm.ClassFile.FieldType)) ∈ lw_all := lw_g (lw_at lw_m2 202 rfl) rfl
theorem q494 : (Jvm.Cond.methodLink "ScoreThreads$Fold" (1 : Nat) ({ cls := "ScoreThreads$Warm", name := "<init>", desc := "(IFI)V" } : Jvm.MethodName)) ∈ lw_all := lw_g (lw_at lw_m2 203 rfl) rfl
theorem q495 : (Jvm.Cond.laysFinal "ScoreThreads$Fold" "ScoreThreads$Plug" "kind" "I") ∈ lw_all := lw_g (lw_at lw_m2 204 rfl) rfl
theorem q496 : (Jvm.Cond.laysFinal "ScoreThreads$Fold" "ScoreThreads$Plug" "a" "F") ∈ lw_all := lw_g (lw_at lw_m2 205 rfl) rfl
theorem q497 : (Jvm.Cond.laysFinal "ScoreThreads$Fold" "ScoreThreads$Plug" "n" "I") ∈ lw_all := lw_g (lw_at lw_m2 206 rfl) rfl
theorem q498 : (Jvm.Cond.lays "ScoreThreads$Fold" "ScoreThreads$Plug" "uses" "I") ∈ lw_all := lw_g (lw_at lw_m2 207 rfl) rfl
theorem q499 : (Jvm.Cond.superclass "ScoreThreads$Fold" "ScoreThreads$Warm") ∈ lw_all := lw_g (lw_at lw_m2 208 rfl) rfl
theorem q611 : (Jvm.Cond.selects "ScoreThreads$Fold" ({ cls := "ScoreThreads$Plug", name := "tail", desc := "()I" } : Jvm.MethodName) ({ cls := "ScoreThreads$Fold", name := "tail", desc := "()I" } : Jvm.MethodName)) ∈ lw_all := lw_g (lw_at lw_m3 80 rfl) rfl
theorem q612 : (Jvm.Cond.instanceMethod ({ cls := "ScoreThreads$Fold", name := "tail", desc := "()I" } : Jvm.MethodName)) ∈ lw_all := lw_g (lw_at lw_m3 81 rfl) rfl
theorem q613 : (Jvm.Cond.code ({ cls := "ScoreThreads$Fold", name := "tail", desc := "()I" } : Jvm.MethodName) prog_5_method_3_code (1 : Nat) (Option.some Jvm.ClassFile.FieldType.int)) ∈ lw_all := lw_g (lw_at lw_m3 82 rfl) rfl
theorem q614 : (Jvm.Cond.methodLink "ScoreThreads$Fold" (11 : Nat) ({ cls := "ScoreThreads$Warm", name := "tail", desc := "()I" } : Jvm.MethodName)) ∈ lw_all := lw_g (lw_at lw_m3 83 rfl) rfl
theorem q631 : (Jvm.Cond.selects "ScoreThreads$Fold" ({ cls := "ScoreThreads$Plug", name := "uses", desc := "()I" } : Jvm.MethodName) ({ cls := "ScoreThreads$Plug", name := "uses", desc := "()I" } : Jvm.MethodName)) ∈ lw_all := lw_g (lw_at lw_m3 100 rfl) rfl
theorem q761 : (Jvm.Cond.selects "ScoreThreads$Fold" ({ cls := "ScoreThreads$Plug", name := "pass", desc := "([F[F)V" } : Jvm.MethodName) ({ cls := "ScoreThreads$Plug", name := "pass", desc := "([F[F)V" } : Jvm.MethodName)) ∈ lw_all := lw_g (lw_at lw_m3 230 rfl) rfl
theorem q785 : (Jvm.Cond.selects "ScoreThreads$Fold" ({ cls := "ScoreThreads$Plug", name := "shape", desc := "(F)F" } : Jvm.MethodName) ({ cls := "ScoreThreads$Fold", name := "shape", desc := "(F)F" } : Jvm.MethodName)) ∈ lw_all := lw_g (lw_at lw_m4 14 rfl) rfl
theorem q786 : (Jvm.Cond.instanceMethod ({ cls := "ScoreThreads$Fold", name := "shape", desc := "(F)F" } : Jvm.MethodName)) ∈ lw_all := lw_g (lw_at lw_m4 15 rfl) rfl
theorem q787 : (Jvm.Cond.code ({ cls := "ScoreThreads$Fold", name := "shape", desc := "(F)F" } : Jvm.MethodName) prog_5_method_2_code (2 : Nat) (Option.some Jvm.ClassFile.FieldType.float)) ∈ lw_all := lw_g (lw_at lw_m4 16 rfl) rfl
theorem q788 : (Jvm.Cond.methodLink "ScoreThreads$Fold" (7 : Nat) ({ cls := "ScoreThreads$Warm", name := "shape", desc := "(F)F" } : Jvm.MethodName)) ∈ lw_all := lw_g (lw_at lw_m4 17 rfl) rfl
theorem q1334 : (Jvm.Cond.castable "ScoreThreads$Fold" "ScoreThreads$Plug") ∈ lw_tbl := lw_at lw_m6 83 rfl
theorem q1341 : (Jvm.Cond.castable "ScoreThreads$Fold" "ScoreThreads$Gain") ∈ lw_tbl := lw_at lw_m6 90 rfl
theorem in_X7 : ∀ w ∈ wsX70, w ∈ lw_all := lw_in wsX70 [495, 496, 497, 498] (by decide +kernel) (by decide +kernel)

/-! ScoreThreads$Steps -/
set_option maxRecDepth 100000
def RX8 : String := "ScoreThreads$Steps"
def TX8 : u_T := fun k => match k with
  | 0 => ("ScoreThreads$Plug", "kind", "I", true)
  | 1 => ("ScoreThreads$Plug", "a", "F", true)
  | 2 => ("ScoreThreads$Plug", "n", "I", true)
  | _ => ("ScoreThreads$Plug", "uses", "I", false)
def tyX8 : Nat → FieldType := fun k => match k with
  | 0 => .int
  | 1 => .float
  | 2 => .int
  | _ => .int
abbrev wsX80 : List Cond := u_ws RX8 TX8 4
theorem nmX8 : ∀ a, a < 4 → ∀ b, b < 4 → a ≠ b → (TX8 a).2.1 ≠ (TX8 b).2.1 := by decide +kernel
theorem tyX8_ok : ∀ k, k < 4 → parseFieldDescriptor (TX8 k).2.2.1 = some (tyX8 k) := by decide +kernel
abbrev cX8_init : ByteArray := prog_9_method_1_code
def yX8_init : MethodName := ⟨RX8, "<init>", "(IFI)V"⟩
def dkwX8_init_0 : List UInt8 := [42, 27, 36, 29, 183, 0, 1, 177]
abbrev dktX8_init_0 : List UInt8 := dkwX8_init_0 ++ []
theorem dksX8_init_0 : cX8_init.data.toList.drop 0 = dktX8_init_0 := by decide +kernel
theorem dX8_init_0 : decode cX8_init 0 = .ok (.aload_n 0, 1) := dk_42 (dk_at dksX8_init_0 0 rfl rfl)
theorem dX8_init_1 : decode cX8_init 1 = .ok (.iload_n 1, 1) := dk_27 (dk_at dksX8_init_0 1 rfl rfl)
theorem dX8_init_2 : decode cX8_init 2 = .ok (.fload_n 2, 1) := dk_36 (dk_at dksX8_init_0 2 rfl rfl)
theorem dX8_init_3 : decode cX8_init 3 = .ok (.iload_n 3, 1) := dk_29 (dk_at dksX8_init_0 3 rfl rfl)
theorem dX8_init_4 : decode cX8_init 4 = .ok (.invokespecial 1, 3) := dk_183 0 1 (dk_at dksX8_init_0 4 rfl rfl)
theorem dX8_init_7 : decode cX8_init 7 = .ok (.return_, 1) := dk_177 (dk_at dksX8_init_0 7 rfl rfl)
abbrev cX8_shape : ByteArray := prog_9_method_2_code
def yX8_shape : MethodName := ⟨RX8, "shape", "(F)F"⟩
def dkwX8_shape_0 : List UInt8 := [16, 64, 42, 180, 0, 7, 108, 61, 35, 28, 134, 106, 141, 184, 0, 13, 144, 28, 134, 110, 184, 0, 19, 174]
abbrev dktX8_shape_0 : List UInt8 := dkwX8_shape_0 ++ []
theorem dksX8_shape_0 : cX8_shape.data.toList.drop 0 = dktX8_shape_0 := by decide +kernel
theorem dX8_shape_0 : decode cX8_shape 0 = .ok (.bipush 64, 2) := dk_16 64 (dk_at dksX8_shape_0 0 rfl rfl)
theorem dX8_shape_2 : decode cX8_shape 2 = .ok (.aload_n 0, 1) := dk_42 (dk_at dksX8_shape_0 2 rfl rfl)
theorem dX8_shape_3 : decode cX8_shape 3 = .ok (.getfield 7, 3) := dk_180 0 7 (dk_at dksX8_shape_0 3 rfl rfl)
theorem dX8_shape_6 : decode cX8_shape 6 = .ok (.idiv, 1) := dk_108 (dk_at dksX8_shape_0 6 rfl rfl)
theorem dX8_shape_7 : decode cX8_shape 7 = .ok (.istore_n 2, 1) := dk_61 (dk_at dksX8_shape_0 7 rfl rfl)
theorem dX8_shape_8 : decode cX8_shape 8 = .ok (.fload_n 1, 1) := dk_35 (dk_at dksX8_shape_0 8 rfl rfl)
theorem dX8_shape_9 : decode cX8_shape 9 = .ok (.iload_n 2, 1) := dk_28 (dk_at dksX8_shape_0 9 rfl rfl)
theorem dX8_shape_10 : decode cX8_shape 10 = .ok (.i2f, 1) := dk_134 (dk_at dksX8_shape_0 10 rfl rfl)
theorem dX8_shape_11 : decode cX8_shape 11 = .ok (.fmul, 1) := dk_106 (dk_at dksX8_shape_0 11 rfl rfl)
theorem dX8_shape_12 : decode cX8_shape 12 = .ok (.f2d, 1) := dk_141 (dk_at dksX8_shape_0 12 rfl rfl)
theorem dX8_shape_13 : decode cX8_shape 13 = .ok (.invokestatic 13, 3) := dk_184 0 13 (dk_at dksX8_shape_0 13 rfl rfl)
theorem dX8_shape_16 : decode cX8_shape 16 = .ok (.d2f, 1) := dk_144 (dk_at dksX8_shape_0 16 rfl rfl)
theorem dX8_shape_17 : decode cX8_shape 17 = .ok (.iload_n 2, 1) := dk_28 (dk_at dksX8_shape_0 17 rfl rfl)
theorem dX8_shape_18 : decode cX8_shape 18 = .ok (.i2f, 1) := dk_134 (dk_at dksX8_shape_0 18 rfl rfl)
theorem dX8_shape_19 : decode cX8_shape 19 = .ok (.fdiv, 1) := dk_110 (dk_at dksX8_shape_0 19 rfl rfl)
theorem dX8_shape_20 : decode cX8_shape 20 = .ok (.invokestatic 19, 3) := dk_184 0 19 (dk_at dksX8_shape_0 20 rfl rfl)
theorem dX8_shape_23 : decode cX8_shape 23 = .ok (.freturn, 1) := dk_174 (dk_at dksX8_shape_0 23 rfl rfl)
theorem q71 : (Jvm.Cond.initialized "ScoreThreads$Steps") ∈ lw_all := lw_g (lw_at lw_m1 20 rfl) rfl
theorem q464 : (Jvm.Cond.fieldLink "ScoreThreads$Steps" (7 : Nat) "ScoreThreads$Steps" "n" "I") ∈ lw_all := lw_g (lw_at lw_m2 173 rfl) rfl
theorem q465 : (Jvm.Cond.sameField "ScoreThreads$Steps" "ScoreThreads$Plug" "n" "I") ∈ lw_all := lw_g (lw_at lw_m2 174 rfl) rfl
theorem q501 : (Jvm.Cond.instantiable "ScoreThreads$Steps" (4 : Nat)) ∈ lw_all := lw_g (lw_at lw_m2 210 rfl) rfl
theorem q503 : (Jvm.Cond.instanceMethod ({ cls := "ScoreThreads$Steps", name := "<init>", desc := "(IFI)V" } : Jvm.MethodName)) ∈ lw_all := lw_g (lw_at lw_m2 212 rfl) rfl
theorem q504 : (Jvm.Cond.code ({ cls := "ScoreThreads$Steps", name := "<init>", desc := "(IFI)V" } : Jvm.MethodName) prog_9_method_1_code (4 : Nat) (Option.none : Option Jvm.ClassFile.FieldType)) ∈ lw_all := lw_g (lw_at lw_m2 213 rfl) rfl
theorem q505 : (Jvm.Cond.methodLink "ScoreThreads$Steps" (1 : Nat) ({ cls := "ScoreThreads$Plug", name := "<init>", desc := "(IFI)V" } : Jvm.MethodName)) ∈ lw_all := lw_g (lw_at lw_m2 214 rfl) rfl
theorem q506 : (Jvm.Cond.laysFinal "ScoreThreads$Steps" "ScoreThreads$Plug" "kind" "I") ∈ lw_all := lw_g (lw_at lw_m2 215 rfl) rfl
theorem q507 : (Jvm.Cond.laysFinal "ScoreThreads$Steps" "ScoreThreads$Plug" "a" "F") ∈ lw_all := lw_g (lw_at lw_m2 216 rfl) rfl
theorem q508 : (Jvm.Cond.laysFinal "ScoreThreads$Steps" "ScoreThreads$Plug" "n" "I") ∈ lw_all := lw_g (lw_at lw_m2 217 rfl) rfl
theorem q509 : (Jvm.Cond.lays "ScoreThreads$Steps" "ScoreThreads$Plug" "uses" "I") ∈ lw_all := lw_g (lw_at lw_m2 218 rfl) rfl
theorem q510 : (Jvm.Cond.superclass "ScoreThreads$Steps" "ScoreThreads$Plug") ∈ lw_all := lw_g (lw_at lw_m2 219 rfl) rfl
theorem q622 : (Jvm.Cond.selects "ScoreThreads$Steps" ({ cls := "ScoreThreads$Plug", name := "tail", desc := "()I" } : Jvm.MethodName) ({ cls := "ScoreThreads$Plug", name := "tail", desc := "()I" } : Jvm.MethodName)) ∈ lw_all := lw_g (lw_at lw_m3 91 rfl) rfl
theorem q634 : (Jvm.Cond.selects "ScoreThreads$Steps" ({ cls := "ScoreThreads$Plug", name := "uses", desc := "()I" } : Jvm.MethodName) ({ cls := "ScoreThreads$Plug", name := "uses", desc := "()I" } : Jvm.MethodName)) ∈ lw_all := lw_g (lw_at lw_m3 103 rfl) rfl
theorem q764 : (Jvm.Cond.selects "ScoreThreads$Steps" ({ cls := "ScoreThreads$Plug", name := "pass", desc := "([F[F)V" } : Jvm.MethodName) ({ cls := "ScoreThreads$Plug", name := "pass", desc := "([F[F)V" } : Jvm.MethodName)) ∈ lw_all := lw_g (lw_at lw_m3 233 rfl) rfl
theorem q807 : (Jvm.Cond.selects "ScoreThreads$Steps" ({ cls := "ScoreThreads$Plug", name := "shape", desc := "(F)F" } : Jvm.MethodName) ({ cls := "ScoreThreads$Steps", name := "shape", desc := "(F)F" } : Jvm.MethodName)) ∈ lw_all := lw_g (lw_at lw_m4 36 rfl) rfl
theorem q808 : (Jvm.Cond.instanceMethod ({ cls := "ScoreThreads$Steps", name := "shape", desc := "(F)F" } : Jvm.MethodName)) ∈ lw_all := lw_g (lw_at lw_m4 37 rfl) rfl
theorem q809 : (Jvm.Cond.code ({ cls := "ScoreThreads$Steps", name := "shape", desc := "(F)F" } : Jvm.MethodName) prog_9_method_2_code (3 : Nat) (Option.some Jvm.ClassFile.FieldType.float)) ∈ lw_all := lw_g (lw_at lw_m4 38 rfl) rfl
theorem q810 : (Jvm.Cond.methodLink "ScoreThreads$Steps" (13 : Nat) ({ cls := "java/lang/Math", name := "rint", desc := "(D)D" } : Jvm.MethodName)) ∈ lw_all := lw_g (lw_at lw_m4 39 rfl) rfl
theorem q829 : (Jvm.Cond.methodLinkNest "ScoreThreads$Steps" (19 : Nat) ({ cls := "ScoreThreads", name := "clipped", desc := "(F)F" } : Jvm.MethodName) "ScoreThreads") ∈ lw_tbl := lw_at lw_m4 58 rfl
theorem q1335 : (Jvm.Cond.castable "ScoreThreads$Steps" "ScoreThreads$Plug") ∈ lw_tbl := lw_at lw_m6 84 rfl
theorem in_X8 : ∀ w ∈ wsX80, w ∈ lw_all := lw_in wsX80 [506, 507, 508, 509] (by decide +kernel) (by decide +kernel)

/-! ScoreThreads$Echo -/
set_option maxRecDepth 100000
def RX9 : String := "ScoreThreads$Echo"
def TX9 : u_T := fun k => match k with
  | 0 => ("ScoreThreads$Plug", "kind", "I", true)
  | 1 => ("ScoreThreads$Plug", "a", "F", true)
  | 2 => ("ScoreThreads$Plug", "n", "I", true)
  | 3 => ("ScoreThreads$Plug", "uses", "I", false)
  | 4 => ("ScoreThreads$Echo", "line", "[F", false)
  | _ => ("ScoreThreads$Echo", "at", "I", false)
def tyX9 : Nat → FieldType := fun k => match k with
  | 0 => .int
  | 1 => .float
  | 2 => .int
  | 3 => .int
  | 4 => .array .float
  | _ => .int
abbrev wsX90 : List Cond := u_ws RX9 TX9 6
theorem nmX9 : ∀ a, a < 6 → ∀ b, b < 6 → a ≠ b → (TX9 a).2.1 ≠ (TX9 b).2.1 := by decide +kernel
theorem tyX9_ok : ∀ k, k < 6 → parseFieldDescriptor (TX9 k).2.2.1 = some (tyX9 k) := by decide +kernel
abbrev cX9_init : ByteArray := prog_4_method_1_code
def yX9_init : MethodName := ⟨RX9, "<init>", "(IFI)V"⟩
def dkwX9_init_0 : List UInt8 := [42, 27, 36, 29, 183, 0, 1, 42, 29, 188, 6, 181, 0, 7, 177]
abbrev dktX9_init_0 : List UInt8 := dkwX9_init_0 ++ []
theorem dksX9_init_0 : cX9_init.data.toList.drop 0 = dktX9_init_0 := by decide +kernel
theorem dX9_init_0 : decode cX9_init 0 = .ok (.aload_n 0, 1) := dk_42 (dk_at dksX9_init_0 0 rfl rfl)
theorem dX9_init_1 : decode cX9_init 1 = .ok (.iload_n 1, 1) := dk_27 (dk_at dksX9_init_0 1 rfl rfl)
theorem dX9_init_2 : decode cX9_init 2 = .ok (.fload_n 2, 1) := dk_36 (dk_at dksX9_init_0 2 rfl rfl)
theorem dX9_init_3 : decode cX9_init 3 = .ok (.iload_n 3, 1) := dk_29 (dk_at dksX9_init_0 3 rfl rfl)
theorem dX9_init_4 : decode cX9_init 4 = .ok (.invokespecial 1, 3) := dk_183 0 1 (dk_at dksX9_init_0 4 rfl rfl)
theorem dX9_init_7 : decode cX9_init 7 = .ok (.aload_n 0, 1) := dk_42 (dk_at dksX9_init_0 7 rfl rfl)
theorem dX9_init_8 : decode cX9_init 8 = .ok (.iload_n 3, 1) := dk_29 (dk_at dksX9_init_0 8 rfl rfl)
theorem dX9_init_9 : decode cX9_init 9 = .ok (.newarray .float, 2) := dk_188_6 (dk_at dksX9_init_0 9 rfl rfl)
theorem dX9_init_11 : decode cX9_init 11 = .ok (.putfield 7, 3) := dk_181 0 7 (dk_at dksX9_init_0 11 rfl rfl)
theorem dX9_init_14 : decode cX9_init 14 = .ok (.return_, 1) := dk_177 (dk_at dksX9_init_0 14 rfl rfl)
abbrev cX9_tail : ByteArray := prog_4_method_3_code
def yX9_tail : MethodName := ⟨RX9, "tail", "()I"⟩
theorem dX9_tail_0 : decode cX9_tail 0 = .ok (.aload_n 0, 1) := by decide +kernel
theorem dX9_tail_1 : decode cX9_tail 1 = .ok (.getfield 27, 3) := by decide +kernel
theorem dX9_tail_4 : decode cX9_tail 4 = .ok (.ireturn, 1) := by decide +kernel
abbrev cX9_shape : ByteArray := prog_4_method_2_code
def yX9_shape : MethodName := ⟨RX9, "shape", "(F)F"⟩
def dkwX9_shape_2 : List UInt8 := [167, 0, 9, 42, 180, 0, 17, 4, 96, 181, 0, 17, 36, 174]
abbrev dktX9_shape_2 : List UInt8 := dkwX9_shape_2 ++ []
def dkwX9_shape_1 : List UInt8 := [42, 180, 0, 17, 36, 81, 42, 42, 180, 0, 17, 4, 96, 42, 180, 0, 7, 190, 160, 0, 7, 3]
abbrev dktX9_shape_1 : List UInt8 := dkwX9_shape_1 ++ dktX9_shape_2
def dkwX9_shape_0 : List UInt8 := [35, 42, 180, 0, 13, 42, 180, 0, 7, 42, 180, 0, 17, 48, 106, 98, 184, 0, 21, 69, 42, 180, 0, 7]
abbrev dktX9_shape_0 : List UInt8 := dkwX9_shape_0 ++ dktX9_shape_1
theorem dksX9_shape_0 : cX9_shape.data.toList.drop 0 = dktX9_shape_0 := by decide +kernel
theorem dksX9_shape_1 : cX9_shape.data.toList.drop 24 = dktX9_shape_1 := dk_seg dksX9_shape_0 24 rfl rfl
theorem dksX9_shape_2 : cX9_shape.data.toList.drop 46 = dktX9_shape_2 := dk_seg dksX9_shape_1 22 rfl rfl
theorem dX9_shape_0 : decode cX9_shape 0 = .ok (.fload_n 1, 1) := dk_35 (dk_at dksX9_shape_0 0 rfl rfl)
theorem dX9_shape_1 : decode cX9_shape 1 = .ok (.aload_n 0, 1) := dk_42 (dk_at dksX9_shape_0 1 rfl rfl)
theorem dX9_shape_2 : decode cX9_shape 2 = .ok (.getfield 13, 3) := dk_180 0 13 (dk_at dksX9_shape_0 2 rfl rfl)
theorem dX9_shape_5 : decode cX9_shape 5 = .ok (.aload_n 0, 1) := dk_42 (dk_at dksX9_shape_0 5 rfl rfl)
theorem dX9_shape_6 : decode cX9_shape 6 = .ok (.getfield 7, 3) := dk_180 0 7 (dk_at dksX9_shape_0 6 rfl rfl)
theorem dX9_shape_9 : decode cX9_shape 9 = .ok (.aload_n 0, 1) := dk_42 (dk_at dksX9_shape_0 9 rfl rfl)
theorem dX9_shape_10 : decode cX9_shape 10 = .ok (.getfield 17, 3) := dk_180 0 17 (dk_at dksX9_shape_0 10 rfl rfl)
theorem dX9_shape_13 : decode cX9_shape 13 = .ok (.faload, 1) := dk_48 (dk_at dksX9_shape_0 13 rfl rfl)
theorem dX9_shape_14 : decode cX9_shape 14 = .ok (.fmul, 1) := dk_106 (dk_at dksX9_shape_0 14 rfl rfl)
theorem dX9_shape_15 : decode cX9_shape 15 = .ok (.fadd, 1) := dk_98 (dk_at dksX9_shape_0 15 rfl rfl)
theorem dX9_shape_16 : decode cX9_shape 16 = .ok (.invokestatic 21, 3) := dk_184 0 21 (dk_at dksX9_shape_0 16 rfl rfl)
theorem dX9_shape_19 : decode cX9_shape 19 = .ok (.fstore_n 2, 1) := dk_69 (dk_at dksX9_shape_0 19 rfl rfl)
theorem dX9_shape_20 : decode cX9_shape 20 = .ok (.aload_n 0, 1) := dk_42 (dk_at dksX9_shape_0 20 rfl rfl)
theorem dX9_shape_21 : decode cX9_shape 21 = .ok (.getfield 7, 3) := dk_180 0 7 (dk_at dksX9_shape_0 21 rfl rfl)
theorem dX9_shape_24 : decode cX9_shape 24 = .ok (.aload_n 0, 1) := dk_42 (dk_at dksX9_shape_1 0 rfl rfl)
theorem dX9_shape_25 : decode cX9_shape 25 = .ok (.getfield 17, 3) := dk_180 0 17 (dk_at dksX9_shape_1 1 rfl rfl)
theorem dX9_shape_28 : decode cX9_shape 28 = .ok (.fload_n 2, 1) := dk_36 (dk_at dksX9_shape_1 4 rfl rfl)
theorem dX9_shape_29 : decode cX9_shape 29 = .ok (.fastore, 1) := dk_81 (dk_at dksX9_shape_1 5 rfl rfl)
theorem dX9_shape_30 : decode cX9_shape 30 = .ok (.aload_n 0, 1) := dk_42 (dk_at dksX9_shape_1 6 rfl rfl)
theorem dX9_shape_31 : decode cX9_shape 31 = .ok (.aload_n 0, 1) := dk_42 (dk_at dksX9_shape_1 7 rfl rfl)
theorem dX9_shape_32 : decode cX9_shape 32 = .ok (.getfield 17, 3) := dk_180 0 17 (dk_at dksX9_shape_1 8 rfl rfl)
theorem dX9_shape_35 : decode cX9_shape 35 = .ok (.iconst 1, 1) := dk_4 (dk_at dksX9_shape_1 11 rfl rfl)
theorem dX9_shape_36 : decode cX9_shape 36 = .ok (.iadd, 1) := dk_96 (dk_at dksX9_shape_1 12 rfl rfl)
theorem dX9_shape_37 : decode cX9_shape 37 = .ok (.aload_n 0, 1) := dk_42 (dk_at dksX9_shape_1 13 rfl rfl)
theorem dX9_shape_38 : decode cX9_shape 38 = .ok (.getfield 7, 3) := dk_180 0 7 (dk_at dksX9_shape_1 14 rfl rfl)
theorem dX9_shape_41 : decode cX9_shape 41 = .ok (.arraylength, 1) := dk_190 (dk_at dksX9_shape_1 17 rfl rfl)
theorem dX9_shape_42 : decode cX9_shape 42 = .ok (.if_icmp .ne 7, 3) := dk_160 0 7 (dk_at dksX9_shape_1 18 rfl rfl)
theorem dX9_shape_45 : decode cX9_shape 45 = .ok (.iconst 0, 1) := dk_3 (dk_at dksX9_shape_1 21 rfl rfl)
theorem dX9_shape_46 : decode cX9_shape 46 = .ok (.goto 9, 3) := dk_167 0 9 (dk_at dksX9_shape_2 0 rfl rfl)
theorem dX9_shape_49 : decode cX9_shape 49 = .ok (.aload_n 0, 1) := dk_42 (dk_at dksX9_shape_2 3 rfl rfl)
theorem dX9_shape_50 : decode cX9_shape 50 = .ok (.getfield 17, 3) := dk_180 0 17 (dk_at dksX9_shape_2 4 rfl rfl)
theorem dX9_shape_53 : decode cX9_shape 53 = .ok (.iconst 1, 1) := dk_4 (dk_at dksX9_shape_2 7 rfl rfl)
theorem dX9_shape_54 : decode cX9_shape 54 = .ok (.iadd, 1) := dk_96 (dk_at dksX9_shape_2 8 rfl rfl)
theorem dX9_shape_55 : decode cX9_shape 55 = .ok (.putfield 17, 3) := dk_181 0 17 (dk_at dksX9_shape_2 9 rfl rfl)
theorem dX9_shape_58 : decode cX9_shape 58 = .ok (.fload_n 2, 1) := dk_36 (dk_at dksX9_shape_2 12 rfl rfl)
theorem dX9_shape_59 : decode cX9_shape 59 = .ok (.freturn, 1) := dk_174 (dk_at dksX9_shape_2 13 rfl rfl)
theorem q72 : (Jvm.Cond.initialized "ScoreThreads$Echo") ∈ lw_all := lw_g (lw_at lw_m1 21 rfl) rfl
theorem q455 : (Jvm.Cond.fieldLink "ScoreThreads$Echo" (13 : Nat) "ScoreThreads$Echo" "a" "F") ∈ lw_all := lw_g (lw_at lw_m2 164 rfl) rfl
theorem q456 : (Jvm.Cond.sameField "ScoreThreads$Echo" "ScoreThreads$Plug" "a" "F") ∈ lw_all := lw_g (lw_at lw_m2 165 rfl) rfl
theorem q466 : (Jvm.Cond.fieldLink "ScoreThreads$Echo" (27 : Nat) "ScoreThreads$Echo" "n" "I") ∈ lw_all := lw_g (lw_at lw_m2 175 rfl) rfl
theorem q467 : (Jvm.Cond.sameField "ScoreThreads$Echo" "ScoreThreads$Plug" "n" "I") ∈ lw_all := lw_g (lw_at lw_m2 176 rfl) rfl
theorem q512 : (Jvm.Cond.instantiable "ScoreThreads$Echo" (6 : Nat)) ∈ lw_all := lw_g (lw_at lw_m2 221 rfl) rfl
theorem q514 : (Jvm.Cond.instanceMethod ({ cls := "ScoreThreads$Echo", name := "<init>", desc := "(IFI)V" } : Jvm.MethodName)) ∈ lw_all := lw_g (lw_at lw_m2 223 rfl) rfl
theorem q515 : (Jvm.Cond.code ({ cls := "ScoreThreads$Echo", name := "<init>", desc := "(IFI)V" } : Jvm.MethodName) prog_4_method_1_code (4 : Nat) (Option.none : Option Jvm.ClassFile.FieldType)) ∈ lw_all := lw_g (lw_at lw_m2 224 rfl) rfl
theorem q516 : (Jvm.Cond.methodLink "ScoreThreads$Echo" (1 : Nat) ({ cls := "ScoreThreads$Plug", name := "<init>", desc := "(IFI)V" } : Jvm.MethodName)) ∈ lw_all := lw_g (lw_at lw_m2 225 rfl) rfl
theorem q517 : (Jvm.Cond.fieldLink "ScoreThreads$Echo" (7 : Nat) "ScoreThreads$Echo" "line" "[F") ∈ lw_all := lw_g (lw_at lw_m2 226 rfl) rfl
theorem q519 : (Jvm.Cond.fieldLink "ScoreThreads$Echo" (17 : Nat) "ScoreThreads$Echo" "at" "I") ∈ lw_all := lw_g (lw_at lw_m2 228 rfl) rfl
theorem q521 : (Jvm.Cond.lays "ScoreThreads$Echo" "ScoreThreads$Echo" "line" "[F") ∈ lw_all := lw_g (lw_at lw_m2 230 rfl) rfl
theorem q522 : (Jvm.Cond.soleField "ScoreThreads$Echo" "line") ∈ lw_all := lw_g (lw_at lw_m2 231 rfl) rfl
theorem q523 : (Jvm.Cond.lays "ScoreThreads$Echo" "ScoreThreads$Echo" "at" "I") ∈ lw_all := lw_g (lw_at lw_m2 232 rfl) rfl
theorem q524 : (Jvm.Cond.soleField "ScoreThreads$Echo" "at") ∈ lw_all := lw_g (lw_at lw_m2 233 rfl) rfl
theorem q525 : (Jvm.Cond.laysFinal "ScoreThreads$Echo" "ScoreThreads$Plug" "kind" "I") ∈ lw_all := lw_g (lw_at lw_m2 234 rfl) rfl
theorem q526 : (Jvm.Cond.laysFinal "ScoreThreads$Echo" "ScoreThreads$Plug" "a" "F") ∈ lw_all := lw_g (lw_at lw_m2 235 rfl) rfl
theorem q527 : (Jvm.Cond.laysFinal "ScoreThreads$Echo" "ScoreThreads$Plug" "n" "I") ∈ lw_all := lw_g (lw_at lw_m2 236 rfl) rfl
theorem q528 : (Jvm.Cond.lays "ScoreThreads$Echo" "ScoreThreads$Plug" "uses" "I") ∈ lw_all := lw_g (lw_at lw_m2 237 rfl) rfl
theorem q529 : (Jvm.Cond.superclass "ScoreThreads$Echo" "ScoreThreads$Plug") ∈ lw_all := lw_g (lw_at lw_m2 238 rfl) rfl
theorem q608 : (Jvm.Cond.instanceMethod ({ cls := "ScoreThreads$Echo", name := "tail", desc := "()I" } : Jvm.MethodName)) ∈ lw_all := lw_g (lw_at lw_m3 77 rfl) rfl
theorem q609 : (Jvm.Cond.code ({ cls := "ScoreThreads$Echo", name := "tail", desc := "()I" } : Jvm.MethodName) prog_4_method_3_code (1 : Nat) (Option.some Jvm.ClassFile.FieldType.int)) ∈ lw_all := lw_g (lw_at lw_m3 78 rfl) rfl
theorem q610 : (Jvm.Cond.selects "ScoreThreads$Echo" ({ cls := "ScoreThreads$Plug", name := "tail", desc := "()I" } : Jvm.MethodName) ({ cls := "ScoreThreads$Echo", name := "tail", desc := "()I" } : Jvm.MethodName)) ∈ lw_all := lw_g (lw_at lw_m3 79 rfl) rfl
theorem q630 : (Jvm.Cond.selects "ScoreThreads$Echo" ({ cls := "ScoreThreads$Plug", name := "uses", desc := "()I" } : Jvm.MethodName) ({ cls := "ScoreThreads$Plug", name := "uses", desc := "()I" } : Jvm.MethodName)) ∈ lw_all := lw_g (lw_at lw_m3 99 rfl) rfl
theorem q760 : (Jvm.Cond.selects "ScoreThreads$Echo" ({ cls := "ScoreThreads$Plug", name := "pass", desc := "([F[F)V" } : Jvm.MethodName) ({ cls := "ScoreThreads$Plug", name := "pass", desc := "([F[F)V" } : Jvm.MethodName)) ∈ lw_all := lw_g (lw_at lw_m3 229 rfl) rfl
theorem q775 : (Jvm.Cond.instanceMethod ({ cls := "ScoreThreads$Echo", name := "shape", desc := "(F)F" } : Jvm.MethodName)) ∈ lw_all := lw_g (lw_at lw_m4 4 rfl) rfl
theorem q776 : (Jvm.Cond.code ({ cls := "ScoreThreads$Echo", name := "shape", desc := "(F)F" } : Jvm.MethodName) prog_4_method_2_code (3 : Nat) (Option.some Jvm.ClassFile.FieldType.float)) ∈ lw_all := lw_g (lw_at lw_m4 5 rfl) rfl
theorem q777 : (Jvm.Cond.methodLinkNest "ScoreThreads$Echo" (21 : Nat) ({ cls := "ScoreThreads", name := "clipped", desc := "(F)F" } : Jvm.MethodName) "ScoreThreads") ∈ lw_tbl := lw_at lw_m4 6 rfl
theorem q784 : (Jvm.Cond.selects "ScoreThreads$Echo" ({ cls := "ScoreThreads$Plug", name := "shape", desc := "(F)F" } : Jvm.MethodName) ({ cls := "ScoreThreads$Echo", name := "shape", desc := "(F)F" } : Jvm.MethodName)) ∈ lw_all := lw_g (lw_at lw_m4 13 rfl) rfl
theorem q1328 : (Jvm.Cond.sameMethod "ScoreThreads$Echo" "ScoreThreads$Echo" "tail" "()I") ∈ lw_all := lw_g (lw_at lw_m6 77 rfl) rfl
theorem q1330 : (Jvm.Cond.sameMethod "ScoreThreads$Echo" "ScoreThreads$Echo" "shape" "(F)F") ∈ lw_all := lw_g (lw_at lw_m6 79 rfl) rfl
theorem q1336 : (Jvm.Cond.castable "ScoreThreads$Echo" "ScoreThreads$Plug") ∈ lw_tbl := lw_at lw_m6 85 rfl
theorem in_X9 : ∀ w ∈ wsX90, w ∈ lw_all := lw_in wsX90 [525, 526, 527, 528, 521, 523] (by decide +kernel) (by decide +kernel)

/-! the Model: methods, walked, 3 -/
set_option maxRecDepth 100000

def YX2_stop : zM := (yX2_stop, cX2_stop, 2, (Option.some Jvm.ClassFile.FieldType.int), [], false)
theorem zkX2_stop : zMok YX2_stop := ⟨rfl, q1279, by decide +kernel, by decide +kernel⟩
theorem znX2_stop : (parseMethodDescriptor YX2_stop.nm.desc).map (fun d => d.parameters.length) = some 0 := by decide +kernel
noncomputable def fX2_stop (M : MS) : Option (Int32 × MS) := if (M.I 28) = 0 then some ((-103 : Int32), M) else if (M.I 29) = 0 then zlet (mI M 29 (1 : Int32)) (fun M1 => some ((1 : Int32), M1)) else zlet (mI M 29 (1 : Int32)) (fun M2 => some ((0 : Int32), M2))
theorem wX2_stop {G : zG} {d : Nat} {K : List Nat} {Q : zO → zS → Prop} {a0 : Nat} {g0 : zS} {M : MS} {p : Int32 × MS} (h : fX2_stop M = some p) (kq : Q (.inl (some (.int p.1))) (zm a0 g0 p.2)) : zEM G (d + 0) K YX2_stop [.ref a0] (zm a0 g0 M) Q := by
  show zEF G (d + 0) K YX2_stop 0 [some (.ref a0), none] [] (zm a0 g0 M) Q
  unfold fX2_stop at h
  refine ez_aload_n (i := 0) (v := .ref a0) dX2_stop_0 rfl rfl rfl ?_
  refine gM_159 dX2_stop_1 rfl ?_
  refine ez_if_ne (tgt := 10) dX2_stop_4 (by decide) (fun hc => ?_) (fun hc => ?_)
  · replace h := zif_f hc h
    refine ez_aload_n (i := 0) (v := .ref a0) dX2_stop_10 rfl rfl rfl ?_
    refine gM_241 dX2_stop_11 rfl ?_
    refine ez_if_eq (tgt := 21) dX2_stop_14 (by decide) (fun hc => ?_) (fun hc => ?_)
    · replace h := zif_t hc h
      refine ez_iconst (v := 1) dX2_stop_21 (by decide) ?_
      refine ez_istore_n (i := 1) dX2_stop_22 rfl (show 1 < 2 by decide) ?_
      show zEF G (d + 0) K YX2_stop 23 [some (.ref a0), some (.int (1 : Int32))] [] (zm a0 g0 M) Q
      refine ez_aload_n (i := 0) (v := .ref a0) dX2_stop_23 rfl rfl rfl ?_
      refine ez_iconst (v := 1) dX2_stop_24 (by decide) ?_
      refine pM_241 dX2_stop_25 rfl ⟨rfl, rfl⟩ ?_
      refine zlet_use (fun M1 => zEF G (d + 0) K YX2_stop 28 [some (.ref a0), some (.int (1 : Int32))] [] (zm a0 g0 M1) Q) h (fun M1 h => ?_)
      refine ez_iload_n (i := 1) (x := (1 : Int32)) dX2_stop_28 rfl rfl ?_
      obtain rfl := Option.some.inj h
      exact ez_iret dX2_stop_29 rfl rfl kq
    · replace h := zif_f hc h
      refine ez_iconst (v := 0) dX2_stop_17 (by decide) ?_
      refine ez_goto (tgt := 22) dX2_stop_18 (by decide) ?_
      refine ez_istore_n (i := 1) dX2_stop_22 rfl (show 1 < 2 by decide) ?_
      show zEF G (d + 0) K YX2_stop 23 [some (.ref a0), some (.int (0 : Int32))] [] (zm a0 g0 M) Q
      refine ez_aload_n (i := 0) (v := .ref a0) dX2_stop_23 rfl rfl rfl ?_
      refine ez_iconst (v := 1) dX2_stop_24 (by decide) ?_
      refine pM_241 dX2_stop_25 rfl ⟨rfl, rfl⟩ ?_
      refine zlet_use (fun M2 => zEF G (d + 0) K YX2_stop 28 [some (.ref a0), some (.int (0 : Int32))] [] (zm a0 g0 M2) Q) h (fun M2 h => ?_)
      refine ez_iload_n (i := 1) (x := (0 : Int32)) dX2_stop_28 rfl rfl ?_
      obtain rfl := Option.some.inj h
      exact ez_iret dX2_stop_29 rfl rfl kq
  · replace h := zif_t hc h
    refine ez_bipush (v := -103) dX2_stop_7 (by decide) ?_
    obtain rfl := Option.some.inj h
    exact ez_iret dX2_stop_9 rfl rfl kq
def YX2_out : zM := (yX2_out, cX2_out, 2, (Option.some Jvm.ClassFile.FieldType.int), [], false)
theorem zkX2_out : zMok YX2_out := ⟨rfl, q1283, by decide +kernel, by decide +kernel⟩
theorem znX2_out : (parseMethodDescriptor YX2_out.nm.desc).map (fun d => d.parameters.length) = some 1 := by decide +kernel
noncomputable def fX2_out (M : MS) (b0 : Int32) : Option (Int32 × MS) := zbj (fX2_in b0 (0 : Int32) (((8 : Int32) * (M.I 31)) - (1 : Int32))) (fun r1 => if r1 = 0 then some ((0 : Int32), M) else zgd (vp_in b0 512) (zbj (fJ8_floatToIntBits (M.F 32 b0.toNatClampNeg)) (fun r4 => some (r4, M))))
theorem wX2_out {G : zG} {d : Nat} {K : List Nat} {Q : zO → zS → Prop} {a0 : Nat} {g0 : zS} {M : MS} {b0 : Int32} {p : Int32 × MS} (h : fX2_out M b0 = some p) (kq : Q (.inl (some (.int p.1))) (zm a0 g0 p.2)) : zEM G (d + 2) K YX2_out [.ref a0, .int b0] (zm a0 g0 M) Q := by
  show zEF G (d + 2) K YX2_out 0 [some (.ref a0), some (.int b0)] [] (zm a0 g0 M) Q
  unfold fX2_out at h
  refine ez_iload_n (i := 1) (x := b0) dX2_out_0 rfl rfl ?_
  refine ez_iconst (v := 0) dX2_out_1 (by decide) ?_
  refine ez_bipush (v := 8) dX2_out_2 (by decide) ?_
  refine ez_aload_n (i := 0) (v := .ref a0) dX2_out_4 rfl rfl rfl ?_
  refine gM_238 dX2_out_5 rfl ?_
  refine ez_imul dX2_out_8 ?_
  refine ez_iconst (v := 1) dX2_out_9 (by decide) ?_
  refine ez_isub dX2_out_10 ?_
  obtain ⟨r1, hq2, h⟩ := zbj_some h
  refine ez_callS (Y' := YX2_in) (vs := [.int b0, .int (0 : Int32), .int (((8 : Int32) * (M.I 31)) - (1 : Int32))]) (rest := []) dX2_out_11 rfl zkX2_in q1098 q1099 q54 znX2_in (Nat.le_of_ble_eq_true rfl) (Nat.le_of_ble_eq_true rfl) rfl (wX2_in (d := d + 1) hq2 (zBack_v ?_))
  show zEF G (d + 2) K YX2_out 14 [some (.ref a0), some (.int b0)] [.int r1] (zm a0 g0 M) Q
  refine ez_if_eq (tgt := 29) dX2_out_14 (by decide) (fun hc => ?_) (fun hc => ?_)
  · replace h := zif_t hc h
    refine ez_iconst (v := 0) dX2_out_29 (by decide) ?_
    obtain rfl := Option.some.inj h
    exact ez_iret dX2_out_30 rfl rfl kq
  · replace h := zif_f hc h
    refine ez_aload_n (i := 0) (v := .ref a0) dX2_out_17 rfl rfl rfl ?_
    refine gM_92 dX2_out_18 rfl ?_
    refine ez_iload_n (i := 1) (x := b0) dX2_out_21 rfl rfl ?_
    obtain ⟨hg3, h⟩ := zgd_some h
    refine lM_32 dX2_out_22 hg3 ?_
    obtain ⟨r4, hq5, h⟩ := zbj_some h
    refine ez_callS (Y' := YJ8_floatToIntBits) (vs := [.float (M.F 32 b0.toNatClampNeg)]) (rest := []) dX2_out_23 rfl zkJ8_floatToIntBits q1134 q417 q65 znJ8_floatToIntBits (Nat.le_of_ble_eq_true rfl) (Nat.le_of_ble_eq_true rfl) rfl (wJ8_floatToIntBits (d := d + 0) hq5 (zBack_v ?_))
    show zEF G (d + 2) K YX2_out 26 [some (.ref a0), some (.int b0)] [.int r4] (zm a0 g0 M) Q
    refine ez_goto (tgt := 30) dX2_out_26 (by decide) ?_
    obtain rfl := Option.some.inj h
    exact ez_iret dX2_out_30 rfl rfl kq
def YX2_toldOf : zM := (yX2_toldOf, cX2_toldOf, 3, (Option.some Jvm.ClassFile.FieldType.int), [], false)
theorem zkX2_toldOf : zMok YX2_toldOf := ⟨rfl, q1291, by decide +kernel, by decide +kernel⟩
theorem znX2_toldOf : (parseMethodDescriptor YX2_toldOf.nm.desc).map (fun d => d.parameters.length) = some 2 := by decide +kernel
theorem slX2_toldOf : Cond.selects RX2 yX2_toldOf yX2_toldOf ∈ lw_all := lw_w 47 rfl rfl
noncomputable def fX2_toldOf (M : MS) (b0 : Int32) (b1 : Int32) : Option (Int32 × MS) := if b1 = (0 : Int32) then zgd (vp_in b0 8) (if (M.A 13 b0.toNatClampNeg) = 0 then some ((0 : Int32), M) else some ((1 : Int32), M)) else if b1 = (1 : Int32) then zgd (vp_in b0 8) (some ((M.A 14 b0.toNatClampNeg), M)) else if b1 = (2 : Int32) then zgd (vp_in b0 8) (some ((M.A 15 b0.toNatClampNeg), M)) else if b1 = (3 : Int32) then zgd (vp_in b0 8) (if (M.A 16 b0.toNatClampNeg) = 0 then some ((0 : Int32), M) else some ((1 : Int32), M)) else if b1 = (4 : Int32) then zgd (vp_in b0 8) (zbj (fJ8_floatToIntBits (M.F 17 b0.toNatClampNeg)) (fun r6 => some (r6, M))) else if b1 = (5 : Int32) then zgd (vp_in b0 8) (if (M.A 18 b0.toNatClampNeg) = 0 then some ((0 : Int32), M) else some ((1 : Int32), M)) else zgd (vp_in ((((4 : Int32) * b0) + b1) - (6 : Int32)) 32) (some ((M.A 19 ((((4 : Int32) * b0) + b1) - (6 : Int32)).toNatClampNeg), M))
theorem wX2_toldOf {G : zG} {d : Nat} {K : List Nat} {Q : zO → zS → Prop} {a0 : Nat} {g0 : zS} {M : MS} {b0 : Int32} {b1 : Int32} {p : Int32 × MS} (h : fX2_toldOf M b0 b1 = some p) (kq : Q (.inl (some (.int p.1))) (zm a0 g0 p.2)) : zEM G (d + 2) K YX2_toldOf [.ref a0, .int b0, .int b1] (zm a0 g0 M) Q := by
  show zEF G (d + 2) K YX2_toldOf 0 [some (.ref a0), some (.int b0), some (.int b1)] [] (zm a0 g0 M) Q
  unfold fX2_toldOf at h
  refine ez_iload_n (i := 2) (x := b1) dX2_toldOf_0 rfl rfl ?_
  by_cases hs0 : b1 = (0 : Int32)
  · replace h := zif_t hs0 h
    refine ez_tableIn (tgt := 40) (off := 39) dX2_toldOf_1 (by rw [hs0]; decide) (by rw [hs0]; decide) (by rw [hs0]; rfl) (by decide) ?_
    refine ez_aload_n (i := 0) (v := .ref a0) dX2_toldOf_40 rfl rfl rfl ?_
    refine gM_45 dX2_toldOf_41 rfl ?_
    refine ez_iload_n (i := 1) (x := b0) dX2_toldOf_44 rfl rfl ?_
    obtain ⟨hg1, h⟩ := zgd_some h
    refine lM_13 dX2_toldOf_45 hg1 ?_
    refine ez_if_eq (tgt := 53) dX2_toldOf_46 (by decide) (fun hc => ?_) (fun hc => ?_)
    · replace h := zif_t hc h
      refine ez_iconst (v := 0) dX2_toldOf_53 (by decide) ?_
      obtain rfl := Option.some.inj h
      exact ez_iret dX2_toldOf_54 rfl rfl kq
    · replace h := zif_f hc h
      refine ez_iconst (v := 1) dX2_toldOf_49 (by decide) ?_
      refine ez_goto (tgt := 54) dX2_toldOf_50 (by decide) ?_
      obtain rfl := Option.some.inj h
      exact ez_iret dX2_toldOf_54 rfl rfl kq
  · replace h := zif_f hs0 h
    by_cases hs1 : b1 = (1 : Int32)
    · replace h := zif_t hs1 h
      refine ez_tableIn (tgt := 55) (off := 54) dX2_toldOf_1 (by rw [hs1]; decide) (by rw [hs1]; decide) (by rw [hs1]; rfl) (by decide) ?_
      refine ez_aload_n (i := 0) (v := .ref a0) dX2_toldOf_55 rfl rfl rfl ?_
      refine gM_49 dX2_toldOf_56 rfl ?_
      refine ez_iload_n (i := 1) (x := b0) dX2_toldOf_59 rfl rfl ?_
      obtain ⟨hg2, h⟩ := zgd_some h
      refine lM_14 dX2_toldOf_60 hg2 ?_
      obtain rfl := Option.some.inj h
      exact ez_iret dX2_toldOf_61 rfl rfl kq
    · replace h := zif_f hs1 h
      by_cases hs2 : b1 = (2 : Int32)
      · replace h := zif_t hs2 h
        refine ez_tableIn (tgt := 62) (off := 61) dX2_toldOf_1 (by rw [hs2]; decide) (by rw [hs2]; decide) (by rw [hs2]; rfl) (by decide) ?_
        refine ez_aload_n (i := 0) (v := .ref a0) dX2_toldOf_62 rfl rfl rfl ?_
        refine gM_52 dX2_toldOf_63 rfl ?_
        refine ez_iload_n (i := 1) (x := b0) dX2_toldOf_66 rfl rfl ?_
        obtain ⟨hg3, h⟩ := zgd_some h
        refine lM_15 dX2_toldOf_67 hg3 ?_
        obtain rfl := Option.some.inj h
        exact ez_iret dX2_toldOf_68 rfl rfl kq
      · replace h := zif_f hs2 h
        by_cases hs3 : b1 = (3 : Int32)
        · replace h := zif_t hs3 h
          refine ez_tableIn (tgt := 69) (off := 68) dX2_toldOf_1 (by rw [hs3]; decide) (by rw [hs3]; decide) (by rw [hs3]; rfl) (by decide) ?_
          refine ez_aload_n (i := 0) (v := .ref a0) dX2_toldOf_69 rfl rfl rfl ?_
          refine gM_55 dX2_toldOf_70 rfl ?_
          refine ez_iload_n (i := 1) (x := b0) dX2_toldOf_73 rfl rfl ?_
          obtain ⟨hg4, h⟩ := zgd_some h
          refine lM_16 dX2_toldOf_74 hg4 ?_
          refine ez_if_eq (tgt := 82) dX2_toldOf_75 (by decide) (fun hc => ?_) (fun hc => ?_)
          · replace h := zif_t hc h
            refine ez_iconst (v := 0) dX2_toldOf_82 (by decide) ?_
            obtain rfl := Option.some.inj h
            exact ez_iret dX2_toldOf_83 rfl rfl kq
          · replace h := zif_f hc h
            refine ez_iconst (v := 1) dX2_toldOf_78 (by decide) ?_
            refine ez_goto (tgt := 83) dX2_toldOf_79 (by decide) ?_
            obtain rfl := Option.some.inj h
            exact ez_iret dX2_toldOf_83 rfl rfl kq
        · replace h := zif_f hs3 h
          by_cases hs4 : b1 = (4 : Int32)
          · replace h := zif_t hs4 h
            refine ez_tableIn (tgt := 84) (off := 83) dX2_toldOf_1 (by rw [hs4]; decide) (by rw [hs4]; decide) (by rw [hs4]; rfl) (by decide) ?_
            refine ez_aload_n (i := 0) (v := .ref a0) dX2_toldOf_84 rfl rfl rfl ?_
            refine gM_58 dX2_toldOf_85 rfl ?_
            refine ez_iload_n (i := 1) (x := b0) dX2_toldOf_88 rfl rfl ?_
            obtain ⟨hg5, h⟩ := zgd_some h
            refine lM_17 dX2_toldOf_89 hg5 ?_
            obtain ⟨r6, hq7, h⟩ := zbj_some h
            refine ez_callS (Y' := YJ8_floatToIntBits) (vs := [.float (M.F 17 b0.toNatClampNeg)]) (rest := []) dX2_toldOf_90 rfl zkJ8_floatToIntBits q1134 q417 q65 znJ8_floatToIntBits (Nat.le_of_ble_eq_true rfl) (Nat.le_of_ble_eq_true rfl) rfl (wJ8_floatToIntBits (d := d + 0) hq7 (zBack_v ?_))
            show zEF G (d + 2) K YX2_toldOf 93 [some (.ref a0), some (.int b0), some (.int b1)] [.int r6] (zm a0 g0 M) Q
            obtain rfl := Option.some.inj h
            exact ez_iret dX2_toldOf_93 rfl rfl kq
          · replace h := zif_f hs4 h
            by_cases hs5 : b1 = (5 : Int32)
            · replace h := zif_t hs5 h
              refine ez_tableIn (tgt := 94) (off := 93) dX2_toldOf_1 (by rw [hs5]; decide) (by rw [hs5]; decide) (by rw [hs5]; rfl) (by decide) ?_
              refine ez_aload_n (i := 0) (v := .ref a0) dX2_toldOf_94 rfl rfl rfl ?_
              refine gM_61 dX2_toldOf_95 rfl ?_
              refine ez_iload_n (i := 1) (x := b0) dX2_toldOf_98 rfl rfl ?_
              obtain ⟨hg8, h⟩ := zgd_some h
              refine lM_18 dX2_toldOf_99 hg8 ?_
              refine ez_if_eq (tgt := 107) dX2_toldOf_100 (by decide) (fun hc => ?_) (fun hc => ?_)
              · replace h := zif_t hc h
                refine ez_iconst (v := 0) dX2_toldOf_107 (by decide) ?_
                obtain rfl := Option.some.inj h
                exact ez_iret dX2_toldOf_108 rfl rfl kq
              · replace h := zif_f hc h
                refine ez_iconst (v := 1) dX2_toldOf_103 (by decide) ?_
                refine ez_goto (tgt := 108) dX2_toldOf_104 (by decide) ?_
                obtain rfl := Option.some.inj h
                exact ez_iret dX2_toldOf_108 rfl rfl kq
            · replace h := zif_f hs5 h
              have he0 : b1.toInt ≠ 0 := zsw_ne hs0
              have he1 : b1.toInt ≠ 1 := zsw_ne hs1
              have he2 : b1.toInt ≠ 2 := zsw_ne hs2
              have he3 : b1.toInt ≠ 3 := zsw_ne hs3
              have he4 : b1.toInt ≠ 4 := zsw_ne hs4
              have he5 : b1.toInt ≠ 5 := zsw_ne hs5
              refine ez_tableOut (tgt := 109) dX2_toldOf_1 (by omega) (by decide) ?_
              refine ez_aload_n (i := 0) (v := .ref a0) dX2_toldOf_109 rfl rfl rfl ?_
              refine gM_64 dX2_toldOf_110 rfl ?_
              refine ez_iconst (v := 4) dX2_toldOf_113 (by decide) ?_
              refine ez_iload_n (i := 1) (x := b0) dX2_toldOf_114 rfl rfl ?_
              refine ez_imul dX2_toldOf_115 ?_
              refine ez_iload_n (i := 2) (x := b1) dX2_toldOf_116 rfl rfl ?_
              refine ez_iadd dX2_toldOf_117 ?_
              refine ez_bipush (v := 6) dX2_toldOf_118 (by decide) ?_
              refine ez_isub dX2_toldOf_120 ?_
              obtain ⟨hg9, h⟩ := zgd_some h
              refine lM_19 dX2_toldOf_121 hg9 ?_
              obtain rfl := Option.some.inj h
              exact ez_iret dX2_toldOf_122 rfl rfl kq
def YX2_told : zM := (yX2_told, cX2_told, 3, (Option.some Jvm.ClassFile.FieldType.int), [], false)
theorem zkX2_told : zMok YX2_told := ⟨rfl, q1287, by decide +kernel, by decide +kernel⟩
theorem znX2_told : (parseMethodDescriptor YX2_told.nm.desc).map (fun d => d.parameters.length) = some 2 := by decide +kernel
noncomputable def fX2_told (M : MS) (b0 : Int32) (b1 : Int32) : Option (Int32 × MS) := zbj (fX2_isTrack b0) (fun r1 => if r1 = 0 then some ((-101 : Int32), M) else zbj (fX2_in b1 (0 : Int32) (20 : Int32)) (fun r3 => if r3 = 0 then some ((-102 : Int32), M) else if b1 = (20 : Int32) then if (M.I 28) = 0 then some ((0 : Int32), M) else zgd (vp_in b0 8) (some ((M.A 20 b0.toNatClampNeg), M)) else if (10 : Int32) ≤ b1 then zbd (fX2_finds M (2 : Int32)) (fun r5 M6 => some (r5, M6)) else zbd (fX2_toldOf M b0 b1) (fun r7 M8 => some (r7, M8))))
theorem wX2_told {G : zG} {d : Nat} {K : List Nat} {Q : zO → zS → Prop} {a0 : Nat} {g0 : zS} {M : MS} {b0 : Int32} {b1 : Int32} {p : Int32 × MS} (h : fX2_told M b0 b1 = some p) (kq : Q (.inl (some (.int p.1))) (zm a0 g0 p.2)) : zEM G (d + 3) K YX2_told [.ref a0, .int b0, .int b1] (zm a0 g0 M) Q := by
  show zEF G (d + 3) K YX2_told 0 [some (.ref a0), some (.int b0), some (.int b1)] [] (zm a0 g0 M) Q
  unfold fX2_told at h
  refine ez_iload_n (i := 1) (x := b0) dX2_told_0 rfl rfl ?_
  obtain ⟨r1, hq2, h⟩ := zbj_some h
  refine ez_callS (Y' := YX2_isTrack) (vs := [.int b0]) (rest := []) dX2_told_1 rfl zkX2_isTrack q1159 q1160 q54 znX2_isTrack (Nat.le_of_ble_eq_true rfl) (Nat.le_of_ble_eq_true rfl) rfl (wX2_isTrack (d := d + 1) hq2 (zBack_v ?_))
  show zEF G (d + 3) K YX2_told 4 [some (.ref a0), some (.int b0), some (.int b1)] [.int r1] (zm a0 g0 M) Q
  refine ez_if_ne (tgt := 10) dX2_told_4 (by decide) (fun hc => ?_) (fun hc => ?_)
  · replace h := zif_f hc h
    refine ez_iload_n (i := 2) (x := b1) dX2_told_10 rfl rfl ?_
    refine ez_iconst (v := 0) dX2_told_11 (by decide) ?_
    refine ez_bipush (v := 20) dX2_told_12 (by decide) ?_
    obtain ⟨r3, hq4, h⟩ := zbj_some h
    refine ez_callS (Y' := YX2_in) (vs := [.int b1, .int (0 : Int32), .int (20 : Int32)]) (rest := []) dX2_told_14 rfl zkX2_in q1098 q1099 q54 znX2_in (Nat.le_of_ble_eq_true rfl) (Nat.le_of_ble_eq_true rfl) rfl (wX2_in (d := d + 2) hq4 (zBack_v ?_))
    show zEF G (d + 3) K YX2_told 17 [some (.ref a0), some (.int b0), some (.int b1)] [.int r3] (zm a0 g0 M) Q
    refine ez_if_ne (tgt := 23) dX2_told_17 (by decide) (fun hc => ?_) (fun hc => ?_)
    · replace h := zif_f hc h
      refine ez_iload_n (i := 2) (x := b1) dX2_told_23 rfl rfl ?_
      refine ez_bipush (v := 20) dX2_told_24 (by decide) ?_
      refine ez_icmp_ne (tgt := 47) dX2_told_26 (by decide) (fun hc => ?_) (fun hc => ?_)
      · replace h := zif_f hc h
        refine ez_iload_n (i := 2) (x := b1) dX2_told_47 rfl rfl ?_
        refine ez_bipush (v := 10) dX2_told_48 (by decide) ?_
        refine ez_icmp_ge (tgt := 62) dX2_told_50 (by decide) (fun hc => ?_) (fun hc => ?_)
        · replace h := zif_t hc h
          refine ez_aload_n (i := 0) (v := .ref a0) dX2_told_62 rfl rfl rfl ?_
          refine ez_iconst (v := 2) dX2_told_63 (by decide) ?_
          obtain ⟨r5, M6, hq6, h⟩ := zbd_some h
          refine ez_callV (C := RX2) (Tt := TX2) (N := 53) (Y' := YX2_finds) (vs := [.int (2 : Int32)]) (rest := []) dX2_told_64 rfl zkX2_finds q1101 q1103 rfl slX2_finds (zm0 _ _ _) znX2_finds (Nat.le_of_ble_eq_true rfl) (Nat.le_of_ble_eq_true rfl) rfl (wX2_finds (d := d + 2) hq6 (zBack_v ?_))
          show zEF G (d + 3) K YX2_told 67 [some (.ref a0), some (.int b0), some (.int b1)] [.int r5] (zm a0 g0 M6) Q
          obtain rfl := Option.some.inj h
          exact ez_iret dX2_told_67 rfl rfl kq
        · replace h := zif_f hc h
          refine ez_aload_n (i := 0) (v := .ref a0) dX2_told_53 rfl rfl rfl ?_
          refine ez_iload_n (i := 1) (x := b0) dX2_told_54 rfl rfl ?_
          refine ez_iload_n (i := 2) (x := b1) dX2_told_55 rfl rfl ?_
          obtain ⟨r7, M8, hq8, h⟩ := zbd_some h
          refine ez_callV (C := RX2) (Tt := TX2) (N := 53) (Y' := YX2_toldOf) (vs := [.int b0, .int b1]) (rest := []) dX2_told_56 rfl zkX2_toldOf q1288 q1290 rfl slX2_toldOf (zm0 _ _ _) znX2_toldOf (Nat.le_of_ble_eq_true rfl) (Nat.le_of_ble_eq_true rfl) rfl (wX2_toldOf (d := d + 0) hq8 (zBack_v ?_))
          show zEF G (d + 3) K YX2_told 59 [some (.ref a0), some (.int b0), some (.int b1)] [.int r7] (zm a0 g0 M8) Q
          refine ez_goto (tgt := 67) dX2_told_59 (by decide) ?_
          obtain rfl := Option.some.inj h
          exact ez_iret dX2_told_67 rfl rfl kq
      · replace h := zif_t hc h
        refine ez_aload_n (i := 0) (v := .ref a0) dX2_told_29 rfl rfl rfl ?_
        refine gM_159 dX2_told_30 rfl ?_
        refine ez_if_eq (tgt := 45) dX2_told_33 (by decide) (fun hc => ?_) (fun hc => ?_)
        · replace h := zif_t hc h
          refine ez_iconst (v := 0) dX2_told_45 (by decide) ?_
          obtain rfl := Option.some.inj h
          exact ez_iret dX2_told_46 rfl rfl kq
        · replace h := zif_f hc h
          refine ez_aload_n (i := 0) (v := .ref a0) dX2_told_36 rfl rfl rfl ?_
          refine gM_67 dX2_told_37 rfl ?_
          refine ez_iload_n (i := 1) (x := b0) dX2_told_40 rfl rfl ?_
          obtain ⟨hg9, h⟩ := zgd_some h
          refine lM_20 dX2_told_41 hg9 ?_
          refine ez_goto (tgt := 46) dX2_told_42 (by decide) ?_
          obtain rfl := Option.some.inj h
          exact ez_iret dX2_told_46 rfl rfl kq
    · replace h := zif_t hc h
      refine ez_bipush (v := -102) dX2_told_20 (by decide) ?_
      obtain rfl := Option.some.inj h
      exact ez_iret dX2_told_22 rfl rfl kq
  · replace h := zif_t hc h
    refine ez_bipush (v := -101) dX2_told_7 (by decide) ?_
    obtain rfl := Option.some.inj h
    exact ez_iret dX2_told_9 rfl rfl kq
def YX2_worker : zM := (yX2_worker, cX2_worker, 2, (Option.some Jvm.ClassFile.FieldType.int), [], false)
theorem zkX2_worker : zMok YX2_worker := ⟨rfl, q1295, by decide +kernel, by decide +kernel⟩
theorem znX2_worker : (parseMethodDescriptor YX2_worker.nm.desc).map (fun d => d.parameters.length) = some 1 := by decide +kernel
noncomputable def fX2_worker (M : MS) (b0 : Int32) : Option (Int32 × MS) := zbd (fX2_isWorker M b0) (fun r1 M2 => if r1 = 0 then some ((-101 : Int32), M2) else zgd (vp_in b0 4) (some ((M2.A 27 b0.toNatClampNeg), M2)))
theorem wX2_worker {G : zG} {d : Nat} {K : List Nat} {Q : zO → zS → Prop} {a0 : Nat} {g0 : zS} {M : MS} {b0 : Int32} {p : Int32 × MS} (h : fX2_worker M b0 = some p) (kq : Q (.inl (some (.int p.1))) (zm a0 g0 p.2)) : zEM G (d + 2) K YX2_worker [.ref a0, .int b0] (zm a0 g0 M) Q := by
  show zEF G (d + 2) K YX2_worker 0 [some (.ref a0), some (.int b0)] [] (zm a0 g0 M) Q
  unfold fX2_worker at h
  refine ez_aload_n (i := 0) (v := .ref a0) dX2_worker_0 rfl rfl rfl ?_
  refine ez_iload_n (i := 1) (x := b0) dX2_worker_1 rfl rfl ?_
  obtain ⟨r1, M2, hq2, h⟩ := zbd_some h
  refine ez_callV (C := RX2) (Tt := TX2) (N := 53) (Y' := YX2_isWorker) (vs := [.int b0]) (rest := []) dX2_worker_2 rfl zkX2_isWorker q1206 q1208 rfl slX2_isWorker (zm0 _ _ _) znX2_isWorker (Nat.le_of_ble_eq_true rfl) (Nat.le_of_ble_eq_true rfl) rfl (wX2_isWorker (d := d + 0) hq2 (zBack_v ?_))
  show zEF G (d + 2) K YX2_worker 5 [some (.ref a0), some (.int b0)] [.int r1] (zm a0 g0 M2) Q
  refine ez_if_eq (tgt := 17) dX2_worker_5 (by decide) (fun hc => ?_) (fun hc => ?_)
  · replace h := zif_t hc h
    refine ez_bipush (v := -101) dX2_worker_17 (by decide) ?_
    obtain rfl := Option.some.inj h
    exact ez_iret dX2_worker_19 rfl rfl kq
  · replace h := zif_f hc h
    refine ez_aload_n (i := 0) (v := .ref a0) dX2_worker_8 rfl rfl rfl ?_
    refine gM_89 dX2_worker_9 rfl ?_
    refine ez_iload_n (i := 1) (x := b0) dX2_worker_12 rfl rfl ?_
    obtain ⟨hg3, h⟩ := zgd_some h
    refine lM_27 dX2_worker_13 hg3 ?_
    refine ez_goto (tgt := 19) dX2_worker_14 (by decide) ?_
    obtain rfl := Option.some.inj h
    exact ez_iret dX2_worker_19 rfl rfl kq
def YX2_noted : zM := (yX2_noted, cX2_noted, 1, (Option.some Jvm.ClassFile.FieldType.int), [], false)
theorem zkX2_noted : zMok YX2_noted := ⟨rfl, q1303, by decide +kernel, by decide +kernel⟩
theorem znX2_noted : (parseMethodDescriptor YX2_noted.nm.desc).map (fun d => d.parameters.length) = some 0 := by decide +kernel
theorem slX2_noted : Cond.selects RX2 yX2_noted yX2_noted ∈ lw_all := lw_w 48 rfl rfl
noncomputable def fX2_noted (M : MS) : Option (Int32 × MS) := if (100 : Int32) ≤ (M.I 33) then some ((100 : Int32), M) else some ((M.I 33), M)
theorem wX2_noted {G : zG} {d : Nat} {K : List Nat} {Q : zO → zS → Prop} {a0 : Nat} {g0 : zS} {M : MS} {p : Int32 × MS} (h : fX2_noted M = some p) (kq : Q (.inl (some (.int p.1))) (zm a0 g0 p.2)) : zEM G (d + 0) K YX2_noted [.ref a0] (zm a0 g0 M) Q := by
  show zEF G (d + 0) K YX2_noted 0 [some (.ref a0)] [] (zm a0 g0 M) Q
  unfold fX2_noted at h
  refine ez_aload_n (i := 0) (v := .ref a0) dX2_noted_0 rfl rfl rfl ?_
  refine gM_298 dX2_noted_1 rfl ?_
  refine ez_bipush (v := 100) dX2_noted_4 (by decide) ?_
  refine ez_icmp_ge (tgt := 16) dX2_noted_6 (by decide) (fun hc => ?_) (fun hc => ?_)
  · replace h := zif_t hc h
    refine ez_bipush (v := 100) dX2_noted_16 (by decide) ?_
    obtain rfl := Option.some.inj h
    exact ez_iret dX2_noted_18 rfl rfl kq
  · replace h := zif_f hc h
    refine ez_aload_n (i := 0) (v := .ref a0) dX2_noted_9 rfl rfl rfl ?_
    refine gM_298 dX2_noted_10 rfl ?_
    refine ez_goto (tgt := 18) dX2_noted_13 (by decide) ?_
    obtain rfl := Option.some.inj h
    exact ez_iret dX2_noted_18 rfl rfl kq
def YX2_faultOf : zM := (yX2_faultOf, cX2_faultOf, 3, (Option.some Jvm.ClassFile.FieldType.int), [], false)
theorem zkX2_faultOf : zMok YX2_faultOf := ⟨rfl, q1307, by decide +kernel, by decide +kernel⟩
theorem znX2_faultOf : (parseMethodDescriptor YX2_faultOf.nm.desc).map (fun d => d.parameters.length) = some 2 := by decide +kernel
theorem slX2_faultOf : Cond.selects RX2 yX2_faultOf yX2_faultOf ∈ lw_all := lw_w 49 rfl rfl
noncomputable def fX2_faultOf (M : MS) (b0 : Int32) (b1 : Int32) : Option (Int32 × MS) := if b1 = 0 then zgd (vp_in b0 100) (some ((M.A 34 b0.toNatClampNeg), M)) else if b1 = (1 : Int32) then zgd (vp_in b0 100) (some ((M.A 35 b0.toNatClampNeg), M)) else if b1 = (2 : Int32) then zgd (vp_in b0 100) (some ((M.A 36 b0.toNatClampNeg), M)) else if b1 = (3 : Int32) then zgd (vp_in b0 100) (some ((M.A 37 b0.toNatClampNeg), M)) else zgd (vp_in b0 100) (some ((M.A 38 b0.toNatClampNeg), M))
theorem wX2_faultOf {G : zG} {d : Nat} {K : List Nat} {Q : zO → zS → Prop} {a0 : Nat} {g0 : zS} {M : MS} {b0 : Int32} {b1 : Int32} {p : Int32 × MS} (h : fX2_faultOf M b0 b1 = some p) (kq : Q (.inl (some (.int p.1))) (zm a0 g0 p.2)) : zEM G (d + 0) K YX2_faultOf [.ref a0, .int b0, .int b1] (zm a0 g0 M) Q := by
  show zEF G (d + 0) K YX2_faultOf 0 [some (.ref a0), some (.int b0), some (.int b1)] [] (zm a0 g0 M) Q
  unfold fX2_faultOf at h
  refine ez_iload_n (i := 2) (x := b1) dX2_faultOf_0 rfl rfl ?_
  refine ez_if_ne (tgt := 13) dX2_faultOf_1 (by decide) (fun hc => ?_) (fun hc => ?_)
  · replace h := zif_f hc h
    refine ez_iload_n (i := 2) (x := b1) dX2_faultOf_13 rfl rfl ?_
    refine ez_iconst (v := 1) dX2_faultOf_14 (by decide) ?_
    refine ez_icmp_ne (tgt := 27) dX2_faultOf_15 (by decide) (fun hc => ?_) (fun hc => ?_)
    · replace h := zif_f hc h
      refine ez_iload_n (i := 2) (x := b1) dX2_faultOf_27 rfl rfl ?_
      refine ez_iconst (v := 2) dX2_faultOf_28 (by decide) ?_
      refine ez_icmp_ne (tgt := 41) dX2_faultOf_29 (by decide) (fun hc => ?_) (fun hc => ?_)
      · replace h := zif_f hc h
        refine ez_iload_n (i := 2) (x := b1) dX2_faultOf_41 rfl rfl ?_
        refine ez_iconst (v := 3) dX2_faultOf_42 (by decide) ?_
        refine ez_icmp_ne (tgt := 55) dX2_faultOf_43 (by decide) (fun hc => ?_) (fun hc => ?_)
        · replace h := zif_f hc h
          refine ez_aload_n (i := 0) (v := .ref a0) dX2_faultOf_55 rfl rfl rfl ?_
          refine gM_107 dX2_faultOf_56 rfl ?_
          refine ez_iload_n (i := 1) (x := b0) dX2_faultOf_59 rfl rfl ?_
          obtain ⟨hg1, h⟩ := zgd_some h
          refine lM_38 dX2_faultOf_60 hg1 ?_
          obtain rfl := Option.some.inj h
          exact ez_iret dX2_faultOf_61 rfl rfl kq
        · replace h := zif_t hc h
          refine ez_aload_n (i := 0) (v := .ref a0) dX2_faultOf_46 rfl rfl rfl ?_
          refine gM_104 dX2_faultOf_47 rfl ?_
          refine ez_iload_n (i := 1) (x := b0) dX2_faultOf_50 rfl rfl ?_
          obtain ⟨hg2, h⟩ := zgd_some h
          refine lM_37 dX2_faultOf_51 hg2 ?_
          refine ez_goto (tgt := 61) dX2_faultOf_52 (by decide) ?_
          obtain rfl := Option.some.inj h
          exact ez_iret dX2_faultOf_61 rfl rfl kq
      · replace h := zif_t hc h
        refine ez_aload_n (i := 0) (v := .ref a0) dX2_faultOf_32 rfl rfl rfl ?_
        refine gM_101 dX2_faultOf_33 rfl ?_
        refine ez_iload_n (i := 1) (x := b0) dX2_faultOf_36 rfl rfl ?_
        obtain ⟨hg3, h⟩ := zgd_some h
        refine lM_36 dX2_faultOf_37 hg3 ?_
        refine ez_goto (tgt := 61) dX2_faultOf_38 (by decide) ?_
        obtain rfl := Option.some.inj h
        exact ez_iret dX2_faultOf_61 rfl rfl kq
    · replace h := zif_t hc h
      refine ez_aload_n (i := 0) (v := .ref a0) dX2_faultOf_18 rfl rfl rfl ?_
      refine gM_98 dX2_faultOf_19 rfl ?_
      refine ez_iload_n (i := 1) (x := b0) dX2_faultOf_22 rfl rfl ?_
      obtain ⟨hg4, h⟩ := zgd_some h
      refine lM_35 dX2_faultOf_23 hg4 ?_
      refine ez_goto (tgt := 61) dX2_faultOf_24 (by decide) ?_
      obtain rfl := Option.some.inj h
      exact ez_iret dX2_faultOf_61 rfl rfl kq
  · replace h := zif_t hc h
    refine ez_aload_n (i := 0) (v := .ref a0) dX2_faultOf_4 rfl rfl rfl ?_
    refine gM_95 dX2_faultOf_5 rfl ?_
    refine ez_iload_n (i := 1) (x := b0) dX2_faultOf_8 rfl rfl ?_
    obtain ⟨hg5, h⟩ := zgd_some h
    refine lM_34 dX2_faultOf_9 hg5 ?_
    refine ez_goto (tgt := 61) dX2_faultOf_10 (by decide) ?_
    obtain rfl := Option.some.inj h
    exact ez_iret dX2_faultOf_61 rfl rfl kq
def YX2_fault : zM := (yX2_fault, cX2_fault, 3, (Option.some Jvm.ClassFile.FieldType.int), [], false)
theorem zkX2_fault : zMok YX2_fault := ⟨rfl, q1299, by decide +kernel, by decide +kernel⟩
theorem znX2_fault : (parseMethodDescriptor YX2_fault.nm.desc).map (fun d => d.parameters.length) = some 2 := by decide +kernel
noncomputable def fX2_fault (M : MS) (b0 : Int32) (b1 : Int32) : Option (Int32 × MS) := zbj (fX2_in b1 (0 : Int32) (4 : Int32)) (fun r1 => if r1 = 0 then some ((-102 : Int32), M) else zbd (fX2_noted M) (fun r3 M4 => zbj (fX2_in b0 (0 : Int32) (r3 - (1 : Int32))) (fun r5 => if r5 = 0 then some ((-1 : Int32), M4) else zbd (fX2_faultOf M4 b0 b1) (fun r7 M8 => some (r7, M8)))))
theorem wX2_fault {G : zG} {d : Nat} {K : List Nat} {Q : zO → zS → Prop} {a0 : Nat} {g0 : zS} {M : MS} {b0 : Int32} {b1 : Int32} {p : Int32 × MS} (h : fX2_fault M b0 b1 = some p) (kq : Q (.inl (some (.int p.1))) (zm a0 g0 p.2)) : zEM G (d + 1) K YX2_fault [.ref a0, .int b0, .int b1] (zm a0 g0 M) Q := by
  show zEF G (d + 1) K YX2_fault 0 [some (.ref a0), some (.int b0), some (.int b1)] [] (zm a0 g0 M) Q
  unfold fX2_fault at h
  refine ez_iload_n (i := 2) (x := b1) dX2_fault_0 rfl rfl ?_
  refine ez_iconst (v := 0) dX2_fault_1 (by decide) ?_
  refine ez_iconst (v := 4) dX2_fault_2 (by decide) ?_
  obtain ⟨r1, hq2, h⟩ := zbj_some h
  refine ez_callS (Y' := YX2_in) (vs := [.int b1, .int (0 : Int32), .int (4 : Int32)]) (rest := []) dX2_fault_3 rfl zkX2_in q1098 q1099 q54 znX2_in (Nat.le_of_ble_eq_true rfl) (Nat.le_of_ble_eq_true rfl) rfl (wX2_in (d := d + 0) hq2 (zBack_v ?_))
  show zEF G (d + 1) K YX2_fault 6 [some (.ref a0), some (.int b0), some (.int b1)] [.int r1] (zm a0 g0 M) Q
  refine ez_if_ne (tgt := 12) dX2_fault_6 (by decide) (fun hc => ?_) (fun hc => ?_)
  · replace h := zif_f hc h
    refine ez_iload_n (i := 1) (x := b0) dX2_fault_12 rfl rfl ?_
    refine ez_iconst (v := 0) dX2_fault_13 (by decide) ?_
    refine ez_aload_n (i := 0) (v := .ref a0) dX2_fault_14 rfl rfl rfl ?_
    obtain ⟨r3, M4, hq4, h⟩ := zbd_some h
    refine ez_callV (C := RX2) (Tt := TX2) (N := 53) (Y' := YX2_noted) (vs := []) (rest := [.int (0 : Int32), .int b0]) dX2_fault_15 rfl zkX2_noted q1300 q1302 rfl slX2_noted (zm0 _ _ _) znX2_noted (Nat.le_of_ble_eq_true rfl) (Nat.le_of_ble_eq_true rfl) rfl (wX2_noted (d := d + 0) hq4 (zBack_v ?_))
    show zEF G (d + 1) K YX2_fault 18 [some (.ref a0), some (.int b0), some (.int b1)] [.int r3, .int (0 : Int32), .int b0] (zm a0 g0 M4) Q
    refine ez_iconst (v := 1) dX2_fault_18 (by decide) ?_
    refine ez_isub dX2_fault_19 ?_
    obtain ⟨r5, hq6, h⟩ := zbj_some h
    refine ez_callS (Y' := YX2_in) (vs := [.int b0, .int (0 : Int32), .int (r3 - (1 : Int32))]) (rest := []) dX2_fault_20 rfl zkX2_in q1098 q1099 q54 znX2_in (Nat.le_of_ble_eq_true rfl) (Nat.le_of_ble_eq_true rfl) rfl (wX2_in (d := d + 0) hq6 (zBack_v ?_))
    show zEF G (d + 1) K YX2_fault 23 [some (.ref a0), some (.int b0), some (.int b1)] [.int r5] (zm a0 g0 M4) Q
    refine ez_if_eq (tgt := 35) dX2_fault_23 (by decide) (fun hc => ?_) (fun hc => ?_)
    · replace h := zif_t hc h
      refine ez_iconst (v := -1) dX2_fault_35 (by decide) ?_
      obtain rfl := Option.some.inj h
      exact ez_iret dX2_fault_36 rfl rfl kq
    · replace h := zif_f hc h
      refine ez_aload_n (i := 0) (v := .ref a0) dX2_fault_26 rfl rfl rfl ?_
      refine ez_iload_n (i := 1) (x := b0) dX2_fault_27 rfl rfl ?_
      refine ez_iload_n (i := 2) (x := b1) dX2_fault_28 rfl rfl ?_
      obtain ⟨r7, M8, hq8, h⟩ := zbd_some h
      refine ez_callV (C := RX2) (Tt := TX2) (N := 53) (Y' := YX2_faultOf) (vs := [.int b0, .int b1]) (rest := []) dX2_fault_29 rfl zkX2_faultOf q1304 q1306 rfl slX2_faultOf (zm0 _ _ _) znX2_faultOf (Nat.le_of_ble_eq_true rfl) (Nat.le_of_ble_eq_true rfl) rfl (wX2_faultOf (d := d + 0) hq8 (zBack_v ?_))
      show zEF G (d + 1) K YX2_fault 32 [some (.ref a0), some (.int b0), some (.int b1)] [.int r7] (zm a0 g0 M8) Q
      refine ez_goto (tgt := 36) dX2_fault_32 (by decide) ?_
      obtain rfl := Option.some.inj h
      exact ez_iret dX2_fault_36 rfl rfl kq
  · replace h := zif_t hc h
    refine ez_bipush (v := -102) dX2_fault_9 (by decide) ?_
    obtain rfl := Option.some.inj h
    exact ez_iret dX2_fault_11 rfl rfl kq
def YX2_found : zM := (yX2_found, cX2_found, 2, (Option.some Jvm.ClassFile.FieldType.int), [], false)
theorem zkX2_found : zMok YX2_found := ⟨rfl, q1311, by decide +kernel, by decide +kernel⟩
theorem znX2_found : (parseMethodDescriptor YX2_found.nm.desc).map (fun d => d.parameters.length) = some 1 := by decide +kernel
noncomputable def fX2_found (M : MS) (b0 : Int32) : Option (Int32 × MS) := zbj (fX2_in b0 (1 : Int32) (6 : Int32)) (fun r1 => if r1 = 0 then some ((-102 : Int32), M) else zgd (vp_in b0 7) (some ((M.A 48 b0.toNatClampNeg), M)))
theorem wX2_found {G : zG} {d : Nat} {K : List Nat} {Q : zO → zS → Prop} {a0 : Nat} {g0 : zS} {M : MS} {b0 : Int32} {p : Int32 × MS} (h : fX2_found M b0 = some p) (kq : Q (.inl (some (.int p.1))) (zm a0 g0 p.2)) : zEM G (d + 1) K YX2_found [.ref a0, .int b0] (zm a0 g0 M) Q := by
  show zEF G (d + 1) K YX2_found 0 [some (.ref a0), some (.int b0)] [] (zm a0 g0 M) Q
  unfold fX2_found at h
  refine ez_iload_n (i := 1) (x := b0) dX2_found_0 rfl rfl ?_
  refine ez_iconst (v := 1) dX2_found_1 (by decide) ?_
  refine ez_bipush (v := 6) dX2_found_2 (by decide) ?_
  obtain ⟨r1, hq2, h⟩ := zbj_some h
  refine ez_callS (Y' := YX2_in) (vs := [.int b0, .int (1 : Int32), .int (6 : Int32)]) (rest := []) dX2_found_4 rfl zkX2_in q1098 q1099 q54 znX2_in (Nat.le_of_ble_eq_true rfl) (Nat.le_of_ble_eq_true rfl) rfl (wX2_in (d := d + 0) hq2 (zBack_v ?_))
  show zEF G (d + 1) K YX2_found 7 [some (.ref a0), some (.int b0)] [.int r1] (zm a0 g0 M) Q
  refine ez_if_eq (tgt := 19) dX2_found_7 (by decide) (fun hc => ?_) (fun hc => ?_)
  · replace h := zif_t hc h
    refine ez_bipush (v := -102) dX2_found_19 (by decide) ?_
    obtain rfl := Option.some.inj h
    exact ez_iret dX2_found_21 rfl rfl kq
  · replace h := zif_f hc h
    refine ez_aload_n (i := 0) (v := .ref a0) dX2_found_10 rfl rfl rfl ?_
    refine gM_125 dX2_found_11 rfl ?_
    refine ez_iload_n (i := 1) (x := b0) dX2_found_14 rfl rfl ?_
    obtain ⟨hg3, h⟩ := zgd_some h
    refine lM_48 dX2_found_15 hg3 ?_
    refine ez_goto (tgt := 21) dX2_found_16 (by decide) ?_
    obtain rfl := Option.some.inj h
    exact ez_iret dX2_found_21 rfl rfl kq
def YX2_about : zM := (yX2_about, cX2_about, 2, (Option.some Jvm.ClassFile.FieldType.int), [], false)
theorem zkX2_about : zMok YX2_about := ⟨rfl, q1315, by decide +kernel, by decide +kernel⟩
theorem znX2_about : (parseMethodDescriptor YX2_about.nm.desc).map (fun d => d.parameters.length) = some 1 := by decide +kernel
noncomputable def fX2_about (M : MS) (b0 : Int32) : Option (Int32 × MS) := if b0 = (0 : Int32) then some ((M.I 0), M) else if b0 = (1 : Int32) then some ((M.I 4), M) else if b0 = (2 : Int32) then some ((M.I 26), M) else if b0 = (3 : Int32) then some ((M.I 31), M) else if b0 = (4 : Int32) then some ((M.I 33), M) else if b0 = (5 : Int32) then some ((M.I 39), M) else if b0 = (6 : Int32) then some ((M.I 45), M) else if b0 = (7 : Int32) then if (M.I 28) = 0 then some ((0 : Int32), M) else some ((1 : Int32), M) else if b0 = (8 : Int32) then if (M.I 28) = 0 then some ((0 : Int32), M) else some ((M.I 30), M) else if b0 = (9 : Int32) then some ((M.I 46), M) else if b0 = (10 : Int32) then some ((M.I 47), M) else some ((-102 : Int32), M)
theorem wX2_about {G : zG} {d : Nat} {K : List Nat} {Q : zO → zS → Prop} {a0 : Nat} {g0 : zS} {M : MS} {b0 : Int32} {p : Int32 × MS} (h : fX2_about M b0 = some p) (kq : Q (.inl (some (.int p.1))) (zm a0 g0 p.2)) : zEM G (d + 0) K YX2_about [.ref a0, .int b0] (zm a0 g0 M) Q := by
  show zEF G (d + 0) K YX2_about 0 [some (.ref a0), some (.int b0)] [] (zm a0 g0 M) Q
  unfold fX2_about at h
  refine ez_iload_n (i := 1) (x := b0) dX2_about_0 rfl rfl ?_
  by_cases hs0 : b0 = (0 : Int32)
  · replace h := zif_t hs0 h
    refine ez_tableIn (tgt := 60) (off := 59) dX2_about_1 (by rw [hs0]; decide) (by rw [hs0]; decide) (by rw [hs0]; rfl) (by decide) ?_
    refine ez_aload_n (i := 0) (v := .ref a0) dX2_about_60 rfl rfl rfl ?_
    refine gM_140 dX2_about_61 rfl ?_
    obtain rfl := Option.some.inj h
    exact ez_iret dX2_about_64 rfl rfl kq
  · replace h := zif_f hs0 h
    by_cases hs1 : b0 = (1 : Int32)
    · replace h := zif_t hs1 h
      refine ez_tableIn (tgt := 65) (off := 64) dX2_about_1 (by rw [hs1]; decide) (by rw [hs1]; decide) (by rw [hs1]; rfl) (by decide) ?_
      refine ez_aload_n (i := 0) (v := .ref a0) dX2_about_65 rfl rfl rfl ?_
      refine gM_203 dX2_about_66 rfl ?_
      obtain rfl := Option.some.inj h
      exact ez_iret dX2_about_69 rfl rfl kq
    · replace h := zif_f hs1 h
      by_cases hs2 : b0 = (2 : Int32)
      · replace h := zif_t hs2 h
        refine ez_tableIn (tgt := 70) (off := 69) dX2_about_1 (by rw [hs2]; decide) (by rw [hs2]; decide) (by rw [hs2]; rfl) (by decide) ?_
        refine ez_aload_n (i := 0) (v := .ref a0) dX2_about_70 rfl rfl rfl ?_
        refine gM_85 dX2_about_71 rfl ?_
        obtain rfl := Option.some.inj h
        exact ez_iret dX2_about_74 rfl rfl kq
      · replace h := zif_f hs2 h
        by_cases hs3 : b0 = (3 : Int32)
        · replace h := zif_t hs3 h
          refine ez_tableIn (tgt := 75) (off := 74) dX2_about_1 (by rw [hs3]; decide) (by rw [hs3]; decide) (by rw [hs3]; rfl) (by decide) ?_
          refine ez_aload_n (i := 0) (v := .ref a0) dX2_about_75 rfl rfl rfl ?_
          refine gM_238 dX2_about_76 rfl ?_
          obtain rfl := Option.some.inj h
          exact ez_iret dX2_about_79 rfl rfl kq
        · replace h := zif_f hs3 h
          by_cases hs4 : b0 = (4 : Int32)
          · replace h := zif_t hs4 h
            refine ez_tableIn (tgt := 80) (off := 79) dX2_about_1 (by rw [hs4]; decide) (by rw [hs4]; decide) (by rw [hs4]; rfl) (by decide) ?_
            refine ez_aload_n (i := 0) (v := .ref a0) dX2_about_80 rfl rfl rfl ?_
            refine gM_298 dX2_about_81 rfl ?_
            obtain rfl := Option.some.inj h
            exact ez_iret dX2_about_84 rfl rfl kq
          · replace h := zif_f hs4 h
            by_cases hs5 : b0 = (5 : Int32)
            · replace h := zif_t hs5 h
              refine ez_tableIn (tgt := 85) (off := 84) dX2_about_1 (by rw [hs5]; decide) (by rw [hs5]; decide) (by rw [hs5]; rfl) (by decide) ?_
              refine ez_aload_n (i := 0) (v := .ref a0) dX2_about_85 rfl rfl rfl ?_
              refine gM_226 dX2_about_86 rfl ?_
              obtain rfl := Option.some.inj h
              exact ez_iret dX2_about_89 rfl rfl kq
            · replace h := zif_f hs5 h
              by_cases hs6 : b0 = (6 : Int32)
              · replace h := zif_t hs6 h
                refine ez_tableIn (tgt := 90) (off := 89) dX2_about_1 (by rw [hs6]; decide) (by rw [hs6]; decide) (by rw [hs6]; rfl) (by decide) ?_
                refine ez_aload_n (i := 0) (v := .ref a0) dX2_about_90 rfl rfl rfl ?_
                refine gM_229 dX2_about_91 rfl ?_
                obtain rfl := Option.some.inj h
                exact ez_iret dX2_about_94 rfl rfl kq
              · replace h := zif_f hs6 h
                by_cases hs7 : b0 = (7 : Int32)
                · replace h := zif_t hs7 h
                  refine ez_tableIn (tgt := 95) (off := 94) dX2_about_1 (by rw [hs7]; decide) (by rw [hs7]; decide) (by rw [hs7]; rfl) (by decide) ?_
                  refine ez_aload_n (i := 0) (v := .ref a0) dX2_about_95 rfl rfl rfl ?_
                  refine gM_159 dX2_about_96 rfl ?_
                  refine ez_if_eq (tgt := 106) dX2_about_99 (by decide) (fun hc => ?_) (fun hc => ?_)
                  · replace h := zif_t hc h
                    refine ez_iconst (v := 0) dX2_about_106 (by decide) ?_
                    obtain rfl := Option.some.inj h
                    exact ez_iret dX2_about_107 rfl rfl kq
                  · replace h := zif_f hc h
                    refine ez_iconst (v := 1) dX2_about_102 (by decide) ?_
                    refine ez_goto (tgt := 107) dX2_about_103 (by decide) ?_
                    obtain rfl := Option.some.inj h
                    exact ez_iret dX2_about_107 rfl rfl kq
                · replace h := zif_f hs7 h
                  by_cases hs8 : b0 = (8 : Int32)
                  · replace h := zif_t hs8 h
                    refine ez_tableIn (tgt := 108) (off := 107) dX2_about_1 (by rw [hs8]; decide) (by rw [hs8]; decide) (by rw [hs8]; rfl) (by decide) ?_
                    refine ez_aload_n (i := 0) (v := .ref a0) dX2_about_108 rfl rfl rfl ?_
                    refine gM_159 dX2_about_109 rfl ?_
                    refine ez_if_eq (tgt := 122) dX2_about_112 (by decide) (fun hc => ?_) (fun hc => ?_)
                    · replace h := zif_t hc h
                      refine ez_iconst (v := 0) dX2_about_122 (by decide) ?_
                      obtain rfl := Option.some.inj h
                      exact ez_iret dX2_about_123 rfl rfl kq
                    · replace h := zif_f hc h
                      refine ez_aload_n (i := 0) (v := .ref a0) dX2_about_115 rfl rfl rfl ?_
                      refine gM_244 dX2_about_116 rfl ?_
                      refine ez_goto (tgt := 123) dX2_about_119 (by decide) ?_
                      obtain rfl := Option.some.inj h
                      exact ez_iret dX2_about_123 rfl rfl kq
                  · replace h := zif_f hs8 h
                    by_cases hs9 : b0 = (9 : Int32)
                    · replace h := zif_t hs9 h
                      refine ez_tableIn (tgt := 124) (off := 123) dX2_about_1 (by rw [hs9]; decide) (by rw [hs9]; decide) (by rw [hs9]; rfl) (by decide) ?_
                      refine ez_aload_n (i := 0) (v := .ref a0) dX2_about_124 rfl rfl rfl ?_
                      refine gM_254 dX2_about_125 rfl ?_
                      obtain rfl := Option.some.inj h
                      exact ez_iret dX2_about_128 rfl rfl kq
                    · replace h := zif_f hs9 h
                      by_cases hs10 : b0 = (10 : Int32)
                      · replace h := zif_t hs10 h
                        refine ez_tableIn (tgt := 129) (off := 128) dX2_about_1 (by rw [hs10]; decide) (by rw [hs10]; decide) (by rw [hs10]; rfl) (by decide) ?_
                        refine ez_aload_n (i := 0) (v := .ref a0) dX2_about_129 rfl rfl rfl ?_
                        refine gM_268 dX2_about_130 rfl ?_
                        obtain rfl := Option.some.inj h
                        exact ez_iret dX2_about_133 rfl rfl kq
                      · replace h := zif_f hs10 h
                        have he0 : b0.toInt ≠ 0 := zsw_ne hs0
                        have he1 : b0.toInt ≠ 1 := zsw_ne hs1
                        have he2 : b0.toInt ≠ 2 := zsw_ne hs2
                        have he3 : b0.toInt ≠ 3 := zsw_ne hs3
                        have he4 : b0.toInt ≠ 4 := zsw_ne hs4
                        have he5 : b0.toInt ≠ 5 := zsw_ne hs5
                        have he6 : b0.toInt ≠ 6 := zsw_ne hs6
                        have he7 : b0.toInt ≠ 7 := zsw_ne hs7
                        have he8 : b0.toInt ≠ 8 := zsw_ne hs8
                        have he9 : b0.toInt ≠ 9 := zsw_ne hs9
                        have he10 : b0.toInt ≠ 10 := zsw_ne hs10
                        refine ez_tableOut (tgt := 134) dX2_about_1 (by omega) (by decide) ?_
                        refine ez_bipush (v := -102) dX2_about_134 (by decide) ?_
                        obtain rfl := Option.some.inj h
                        exact ez_iret dX2_about_136 rfl rfl kq
def YX2_mix : zM := (yX2_mix, cX2_mix, 3, (Option.none : Option Jvm.ClassFile.FieldType), [], false)
theorem zkX2_mix : zMok YX2_mix := ⟨rfl, q1324, by decide +kernel, by decide +kernel⟩
theorem znX2_mix : (parseMethodDescriptor YX2_mix.nm.desc).map (fun d => d.parameters.length) = some 1 := by decide +kernel
theorem slX2_mix : Cond.selects RX2 yX2_mix yX2_mix ∈ lw_all := lw_w 50 rfl rfl
noncomputable def fX2_mix (M : MS) (b0 : Int64) : Option (Unit × MS) := zlet (mH M (((31 : Int64) * M.H) + b0)) (fun M1 => some ((), M1))
theorem wX2_mix {G : zG} {d : Nat} {K : List Nat} {Q : zO → zS → Prop} {a0 : Nat} {g0 : zS} {M : MS} {b0 : Int64} {p : Unit × MS} (h : fX2_mix M b0 = some p) (kq : Q (.inl none) (zm a0 g0 p.2)) : zEM G (d + 0) K YX2_mix [.ref a0, .long b0] (zm a0 g0 M) Q := by
  show zEF G (d + 0) K YX2_mix 0 [some (.ref a0), some (.long b0), none] [] (zm a0 g0 M) Q
  unfold fX2_mix at h
  refine ez_aload_n (i := 0) (v := .ref a0) dX2_mix_0 rfl rfl rfl ?_
  refine ez_ldc2l dX2_mix_1 rfl q1325 ?_
  refine ez_aload_n (i := 0) (v := .ref a0) dX2_mix_4 rfl rfl rfl ?_
  refine gM_318 dX2_mix_5 rfl ?_
  refine ez_lmul dX2_mix_8 ?_
  refine ez_lload_n (i := 1) (x := b0) dX2_mix_9 rfl rfl ?_
  refine ez_ladd dX2_mix_10 ?_
  refine pM_318 dX2_mix_11 rfl ?_
  refine zlet_use (fun M1 => zEF G (d + 0) K YX2_mix 14 [some (.ref a0), some (.long b0), none] [] (zm a0 g0 M1) Q) h (fun M1 h => ?_)
  obtain rfl := Option.some.inj h
  exact ez_vret dX2_mix_14 rfl kq
def YX2_digest : zM := (yX2_digest, cX2_digest, 3, (Option.some Jvm.ClassFile.FieldType.long), [], false)
theorem zkX2_digest : zMok YX2_digest := ⟨rfl, q1319, by decide +kernel, by decide +kernel⟩
theorem znX2_digest : (parseMethodDescriptor YX2_digest.nm.desc).map (fun d => d.parameters.length) = some 0 := by decide +kernel
noncomputable def fX2_digest_L9 : Nat → MS → Int32 → (MS → Option (Int64 × MS)) → Option (Int64 × MS)
  | 0, _, _, _ => none
  | n + 1, M, y1, k40 => if ((8 : Int32) * (M.I 31)) ≤ y1 then k40 M else zgd (vp_in y1 512) (zbj (fJ8_floatToIntBits (M.F 32 y1.toNatClampNeg)) (fun r3 => zbd (fX2_mix M (r3.toInt64)) (fun _ M6 => fX2_digest_L9 n M6 (y1 + (1 : Int32)) k40)))
noncomputable def fX2_digest_L97 : Nat → MS → Int32 → Int32 → (MS → Int32 → Option (Int64 × MS)) → Option (Int64 × MS)
  | 0, _, _, _, _ => none
  | n + 1, M, y1, y2, k132 => zgd (vp_in y1 12) (if (M.A 10 y1.toNatClampNeg) ≤ y2 then k132 M y1 else zgd (vp_in (((16 : Int32) * y1) + y2) 192) (zbj (fJ8_floatToIntBits (M.F 11 (((16 : Int32) * y1) + y2).toNatClampNeg)) (fun r25 => zbd (fX2_mix M (r25.toInt64)) (fun _ M28 => fX2_digest_L97 n M28 y1 (y2 + (1 : Int32)) k132))))
noncomputable def fX2_digest_L42 : Nat → MS → Int32 → (MS → Option (Int64 × MS)) → Option (Int64 × MS)
  | 0, _, _, _ => none
  | n + 1, M, y1, k138 => if (M.I 4) ≤ y1 then k138 M else zgd (vp_in y1 12) (zbd (fX2_mix M ((M.A 8 y1.toNatClampNeg).toInt64)) (fun _ M10 => zgd (vp_in y1 12) (zbj (fX2_isEcho (M10.A 5 y1.toNatClampNeg)) (fun r12 => zjoin (fun (M14 : MS) (v15 : Int32) => fX2_digest_L42 n M14 (v15 + (1 : Int32)) k138) (fun j16 => if r12 = 0 then j16 M10 y1 else zgd (vp_in y1 12) (zbd (fX2_mix M10 ((M10.A 9 y1.toNatClampNeg).toInt64)) (fun _ M19 => zgd (vp_in y1 12) (zbd (fX2_mix M19 ((M19.A 10 y1.toNatClampNeg).toInt64)) (fun _ M22 => fX2_digest_L97 1000 M22 y1 (0 : Int32) (fun (M29 : MS) (x30 : Int32) => j16 M29 x30))))))))))
noncomputable def fX2_digest_L148 : Nat → MS → Int32 → Int32 → (MS → Int32 → Option (Int64 × MS)) → Option (Int64 × MS)
  | 0, _, _, _, _ => none
  | n + 1, M, y1, y2, k171 => if (10 : Int32) ≤ y2 then k171 M y1 else zbd (fX2_toldOf M y1 y2) (fun r32 M33 => zbd (fX2_mix M33 (r32.toInt64)) (fun _ M35 => fX2_digest_L148 n M35 y1 (y2 + (1 : Int32)) k171))
noncomputable def fX2_digest_L140 : Nat → MS → Int32 → (MS → Option (Int64 × MS)) → Option (Int64 × MS)
  | 0, _, _, _ => none
  | n + 1, M, y1, k177 => if (8 : Int32) ≤ y1 then k177 M else fX2_digest_L148 1000 M y1 (0 : Int32) (fun (M36 : MS) (x37 : Int32) => fX2_digest_L140 n M36 (x37 + (1 : Int32)) k177)
noncomputable def fX2_digest_L189 : Nat → MS → Int32 → Int32 → (MS → Int32 → Option (Int64 × MS)) → Option (Int64 × MS)
  | 0, _, _, _, _ => none
  | n + 1, M, y1, y2, k211 => if (5 : Int32) ≤ y2 then k211 M y1 else zbd (fX2_faultOf M y1 y2) (fun r41 M42 => zbd (fX2_mix M42 (r41.toInt64)) (fun _ M44 => fX2_digest_L189 n M44 y1 (y2 + (1 : Int32)) k211))
noncomputable def fX2_digest_L179 : Nat → MS → Int32 → (MS → Option (Int64 × MS)) → Option (Int64 × MS)
  | 0, _, _, _ => none
  | n + 1, M, y1, k217 => zbd (fX2_noted M) (fun r39 M40 => if r39 ≤ y1 then k217 M40 else fX2_digest_L189 1000 M40 y1 (0 : Int32) (fun (M45 : MS) (x46 : Int32) => fX2_digest_L179 n M45 (x46 + (1 : Int32)) k217))
noncomputable def fX2_digest (M : MS) : Option (Int64 × MS) := zlet (mH M (17 : Int64)) (fun M1 => fX2_digest_L9 1000 M1 (0 : Int32) (fun (M7 : MS) => fX2_digest_L42 1000 M7 (0 : Int32) (fun (M31 : MS) => fX2_digest_L140 1000 M31 (0 : Int32) (fun (M38 : MS) => fX2_digest_L179 1000 M38 (0 : Int32) (fun (M47 : MS) => zbd (fX2_mix M47 ((M47.I 45).toInt64)) (fun _ M49 => some (M49.H, M49)))))))
theorem fX2_digest_L9_ok {G : zG} {d : Nat} {K : List Nat} {Q : zO → zS → Prop} {a0 : Nat} {g0 : zS} : ∀ (n : Nat) (M : MS) (y1 : Int32) (k40 : MS → Option (Int64 × MS)) (p : Int64 × MS) (h : fX2_digest_L9 n M y1 k40 = some p) (hk40 : ∀ (M : MS), k40 M = some p → zEF G (d + 3) K YX2_digest 40 [some (.ref a0), none, none] [] (zm a0 g0 M) Q) (kq : Q (.inl (some (.long p.1))) (zm a0 g0 p.2)), zEF G (d + 3) K YX2_digest 9 [some (.ref a0), some (.int y1), none] [] (zm a0 g0 M) Q := by
  intro n
  induction n with
  | zero =>
    intro M y1 k40 p h hk40 kq
    rw [fX2_digest_L9] at h
    cases h
  | succ n ih =>
    intro M y1 k40 p h hk40 kq
    rw [fX2_digest_L9] at h
    refine ez_iload_n (i := 1) (x := y1) dX2_digest_9 rfl rfl ?_
    refine ez_bipush (v := 8) dX2_digest_10 (by decide) ?_
    refine ez_aload_n (i := 0) (v := .ref a0) dX2_digest_12 rfl rfl rfl ?_
    refine gM_238 dX2_digest_13 rfl ?_
    refine ez_imul dX2_digest_16 ?_
    refine ez_icmp_ge (tgt := 40) dX2_digest_17 (by decide) (fun hc => ?_) (fun hc => ?_)
    · replace h := zif_t hc h
      refine ez_clr 1 ?_
      exact hk40 M h
    · replace h := zif_f hc h
      refine ez_aload_n (i := 0) (v := .ref a0) dX2_digest_20 rfl rfl rfl ?_
      refine ez_aload_n (i := 0) (v := .ref a0) dX2_digest_21 rfl rfl rfl ?_
      refine gM_92 dX2_digest_22 rfl ?_
      refine ez_iload_n (i := 1) (x := y1) dX2_digest_25 rfl rfl ?_
      obtain ⟨hg2, h⟩ := zgd_some h
      refine lM_32 dX2_digest_26 hg2 ?_
      obtain ⟨r3, hq4, h⟩ := zbj_some h
      refine ez_callS (Y' := YJ8_floatToIntBits) (vs := [.float (M.F 32 y1.toNatClampNeg)]) (rest := [.ref a0]) dX2_digest_27 rfl zkJ8_floatToIntBits q1134 q417 q65 znJ8_floatToIntBits (Nat.le_of_ble_eq_true rfl) (Nat.le_of_ble_eq_true rfl) rfl (wJ8_floatToIntBits (d := d + 1) hq4 (zBack_v ?_))
      show zEF G (d + 3) K YX2_digest 30 [some (.ref a0), some (.int y1), none] [.int r3, .ref a0] (zm a0 g0 M) Q
      refine ez_i2l dX2_digest_30 ?_
      obtain ⟨_, M6, hq6, h⟩ := zbd_some h
      refine ez_callV (C := RX2) (Tt := TX2) (N := 53) (Y' := YX2_mix) (vs := [.long (r3.toInt64)]) (rest := []) dX2_digest_31 rfl zkX2_mix q1321 q1323 rfl slX2_mix (zm0 _ _ _) znX2_mix (Nat.le_of_ble_eq_true rfl) (Nat.le_of_ble_eq_true rfl) rfl (wX2_mix (d := d + 2) hq6 (zBack_n ?_))
      show zEF G (d + 3) K YX2_digest 34 [some (.ref a0), some (.int y1), none] [] (zm a0 g0 M6) Q
      refine ez_iinc (x := y1) (v := (y1 + (1 : Int32))) dX2_digest_34 rfl rfl (show 1 < 3 by decide) ?_
      show zEF G (d + 3) K YX2_digest 37 [some (.ref a0), some (.int (y1 + (1 : Int32))), none] [] (zm a0 g0 M6) Q
      refine ez_goto (tgt := 9) dX2_digest_37 (by decide) ?_
      exact ih M6 (y1 + (1 : Int32)) _ _ h hk40 kq
theorem fX2_digest_L97_ok {G : zG} {d : Nat} {K : List Nat} {Q : zO → zS → Prop} {a0 : Nat} {g0 : zS} : ∀ (n : Nat) (M : MS) (y1 : Int32) (y2 : Int32) (k132 : MS → Int32 → Option (Int64 × MS)) (p : Int64 × MS) (h : fX2_digest_L97 n M y1 y2 k132 = some p) (hk132 : ∀ (M : MS) (x1 : Int32), k132 M x1 = some p → zEF G (d + 3) K YX2_digest 132 [some (.ref a0), some (.int x1), none] [] (zm a0 g0 M) Q) (kq : Q (.inl (some (.long p.1))) (zm a0 g0 p.2)), zEF G (d + 3) K YX2_digest 97 [some (.ref a0), some (.int y1), some (.int y2)] [] (zm a0 g0 M) Q := by
  intro n
  induction n with
  | zero =>
    intro M y1 y2 k132 p h hk132 kq
    rw [fX2_digest_L97] at h
    cases h
  | succ n ih =>
    intro M y1 y2 k132 p h hk132 kq
    rw [fX2_digest_L97] at h
    refine ez_iload_n (i := 2) (x := y2) dX2_digest_97 rfl rfl ?_
    refine ez_aload_n (i := 0) (v := .ref a0) dX2_digest_98 rfl rfl rfl ?_
    refine gM_36 dX2_digest_99 rfl ?_
    refine ez_iload_n (i := 1) (x := y1) dX2_digest_102 rfl rfl ?_
    obtain ⟨hg23, h⟩ := zgd_some h
    refine lM_10 dX2_digest_103 hg23 ?_
    refine ez_icmp_ge (tgt := 132) dX2_digest_104 (by decide) (fun hc => ?_) (fun hc => ?_)
    · replace h := zif_t hc h
      refine ez_clr 2 ?_
      exact hk132 M y1 h
    · replace h := zif_f hc h
      refine ez_aload_n (i := 0) (v := .ref a0) dX2_digest_107 rfl rfl rfl ?_
      refine ez_aload_n (i := 0) (v := .ref a0) dX2_digest_108 rfl rfl rfl ?_
      refine gM_39 dX2_digest_109 rfl ?_
      refine ez_bipush (v := 16) dX2_digest_112 (by decide) ?_
      refine ez_iload_n (i := 1) (x := y1) dX2_digest_114 rfl rfl ?_
      refine ez_imul dX2_digest_115 ?_
      refine ez_iload_n (i := 2) (x := y2) dX2_digest_116 rfl rfl ?_
      refine ez_iadd dX2_digest_117 ?_
      obtain ⟨hg24, h⟩ := zgd_some h
      refine lM_11 dX2_digest_118 hg24 ?_
      obtain ⟨r25, hq26, h⟩ := zbj_some h
      refine ez_callS (Y' := YJ8_floatToIntBits) (vs := [.float (M.F 11 (((16 : Int32) * y1) + y2).toNatClampNeg)]) (rest := [.ref a0]) dX2_digest_119 rfl zkJ8_floatToIntBits q1134 q417 q65 znJ8_floatToIntBits (Nat.le_of_ble_eq_true rfl) (Nat.le_of_ble_eq_true rfl) rfl (wJ8_floatToIntBits (d := d + 1) hq26 (zBack_v ?_))
      show zEF G (d + 3) K YX2_digest 122 [some (.ref a0), some (.int y1), some (.int y2)] [.int r25, .ref a0] (zm a0 g0 M) Q
      refine ez_i2l dX2_digest_122 ?_
      obtain ⟨_, M28, hq28, h⟩ := zbd_some h
      refine ez_callV (C := RX2) (Tt := TX2) (N := 53) (Y' := YX2_mix) (vs := [.long (r25.toInt64)]) (rest := []) dX2_digest_123 rfl zkX2_mix q1321 q1323 rfl slX2_mix (zm0 _ _ _) znX2_mix (Nat.le_of_ble_eq_true rfl) (Nat.le_of_ble_eq_true rfl) rfl (wX2_mix (d := d + 2) hq28 (zBack_n ?_))
      show zEF G (d + 3) K YX2_digest 126 [some (.ref a0), some (.int y1), some (.int y2)] [] (zm a0 g0 M28) Q
      refine ez_iinc (x := y2) (v := (y2 + (1 : Int32))) dX2_digest_126 rfl rfl (show 2 < 3 by decide) ?_
      show zEF G (d + 3) K YX2_digest 129 [some (.ref a0), some (.int y1), some (.int (y2 + (1 : Int32)))] [] (zm a0 g0 M28) Q
      refine ez_goto (tgt := 97) dX2_digest_129 (by decide) ?_
      exact ih M28 y1 (y2 + (1 : Int32)) _ _ h hk132 kq
theorem fX2_digest_L42_ok {G : zG} {d : Nat} {K : List Nat} {Q : zO → zS → Prop} {a0 : Nat} {g0 : zS} : ∀ (n : Nat) (M : MS) (y1 : Int32) (k138 : MS → Option (Int64 × MS)) (p : Int64 × MS) (h : fX2_digest_L42 n M y1 k138 = some p) (hk138 : ∀ (M : MS), k138 M = some p → zEF G (d + 3) K YX2_digest 138 [some (.ref a0), none, none] [] (zm a0 g0 M) Q) (kq : Q (.inl (some (.long p.1))) (zm a0 g0 p.2)), zEF G (d + 3) K YX2_digest 42 [some (.ref a0), some (.int y1), none] [] (zm a0 g0 M) Q := by
  intro n
  induction n with
  | zero =>
    intro M y1 k138 p h hk138 kq
    rw [fX2_digest_L42] at h
    cases h
  | succ n ih =>
    intro M y1 k138 p h hk138 kq
    rw [fX2_digest_L42] at h
    refine ez_iload_n (i := 1) (x := y1) dX2_digest_42 rfl rfl ?_
    refine ez_aload_n (i := 0) (v := .ref a0) dX2_digest_43 rfl rfl rfl ?_
    refine gM_203 dX2_digest_44 rfl ?_
    refine ez_icmp_ge (tgt := 138) dX2_digest_47 (by decide) (fun hc => ?_) (fun hc => ?_)
    · replace h := zif_t hc h
      refine ez_clr 1 ?_
      exact hk138 M h
    · replace h := zif_f hc h
      refine ez_aload_n (i := 0) (v := .ref a0) dX2_digest_50 rfl rfl rfl ?_
      refine ez_aload_n (i := 0) (v := .ref a0) dX2_digest_51 rfl rfl rfl ?_
      refine gM_30 dX2_digest_52 rfl ?_
      refine ez_iload_n (i := 1) (x := y1) dX2_digest_55 rfl rfl ?_
      obtain ⟨hg8, h⟩ := zgd_some h
      refine lM_8 dX2_digest_56 hg8 ?_
      refine ez_i2l dX2_digest_57 ?_
      obtain ⟨_, M10, hq10, h⟩ := zbd_some h
      refine ez_callV (C := RX2) (Tt := TX2) (N := 53) (Y' := YX2_mix) (vs := [.long ((M.A 8 y1.toNatClampNeg).toInt64)]) (rest := []) dX2_digest_58 rfl zkX2_mix q1321 q1323 rfl slX2_mix (zm0 _ _ _) znX2_mix (Nat.le_of_ble_eq_true rfl) (Nat.le_of_ble_eq_true rfl) rfl (wX2_mix (d := d + 2) hq10 (zBack_n ?_))
      show zEF G (d + 3) K YX2_digest 61 [some (.ref a0), some (.int y1), none] [] (zm a0 g0 M10) Q
      refine ez_aload_n (i := 0) (v := .ref a0) dX2_digest_61 rfl rfl rfl ?_
      refine gM_20 dX2_digest_62 rfl ?_
      refine ez_iload_n (i := 1) (x := y1) dX2_digest_65 rfl rfl ?_
      obtain ⟨hg11, h⟩ := zgd_some h
      refine lM_5 dX2_digest_66 hg11 ?_
      obtain ⟨r12, hq13, h⟩ := zbj_some h
      refine ez_callS (Y' := YX2_isEcho) (vs := [.int (M10.A 5 y1.toNatClampNeg)]) (rest := []) dX2_digest_67 rfl zkX2_isEcho q1144 q1145 q54 znX2_isEcho (Nat.le_of_ble_eq_true rfl) (Nat.le_of_ble_eq_true rfl) rfl (wX2_isEcho (d := d + 2) hq13 (zBack_v ?_))
      show zEF G (d + 3) K YX2_digest 70 [some (.ref a0), some (.int y1), none] [.int r12] (zm a0 g0 M10) Q
      refine zjoin_use (fun (j : MS → Int32 → Option (Int64 × MS)) => ∀ (M14 : MS) (v15 : Int32), j M14 v15 = some p → zEF G (d + 3) K YX2_digest 132 [some (.ref a0), some (.int v15), none] [] (zm a0 g0 M14) Q) h (fun M14 v15 h => ?_) (fun j16 hj16 h => ?_)
      · refine ez_iinc (x := v15) (v := (v15 + (1 : Int32))) dX2_digest_132 rfl rfl (show 1 < 3 by decide) ?_
        show zEF G (d + 3) K YX2_digest 135 [some (.ref a0), some (.int (v15 + (1 : Int32))), none] [] (zm a0 g0 M14) Q
        refine ez_goto (tgt := 42) dX2_digest_135 (by decide) ?_
        exact ih M14 (v15 + (1 : Int32)) _ _ h hk138 kq
      · refine ez_if_eq (tgt := 132) dX2_digest_70 (by decide) (fun hc => ?_) (fun hc => ?_)
        · replace h := zif_t hc h
          exact hj16 M10 y1 h
        · replace h := zif_f hc h
          refine ez_aload_n (i := 0) (v := .ref a0) dX2_digest_73 rfl rfl rfl ?_
          refine ez_aload_n (i := 0) (v := .ref a0) dX2_digest_74 rfl rfl rfl ?_
          refine gM_33 dX2_digest_75 rfl ?_
          refine ez_iload_n (i := 1) (x := y1) dX2_digest_78 rfl rfl ?_
          obtain ⟨hg17, h⟩ := zgd_some h
          refine lM_9 dX2_digest_79 hg17 ?_
          refine ez_i2l dX2_digest_80 ?_
          obtain ⟨_, M19, hq19, h⟩ := zbd_some h
          refine ez_callV (C := RX2) (Tt := TX2) (N := 53) (Y' := YX2_mix) (vs := [.long ((M10.A 9 y1.toNatClampNeg).toInt64)]) (rest := []) dX2_digest_81 rfl zkX2_mix q1321 q1323 rfl slX2_mix (zm0 _ _ _) znX2_mix (Nat.le_of_ble_eq_true rfl) (Nat.le_of_ble_eq_true rfl) rfl (wX2_mix (d := d + 2) hq19 (zBack_n ?_))
          show zEF G (d + 3) K YX2_digest 84 [some (.ref a0), some (.int y1), none] [] (zm a0 g0 M19) Q
          refine ez_aload_n (i := 0) (v := .ref a0) dX2_digest_84 rfl rfl rfl ?_
          refine ez_aload_n (i := 0) (v := .ref a0) dX2_digest_85 rfl rfl rfl ?_
          refine gM_36 dX2_digest_86 rfl ?_
          refine ez_iload_n (i := 1) (x := y1) dX2_digest_89 rfl rfl ?_
          obtain ⟨hg20, h⟩ := zgd_some h
          refine lM_10 dX2_digest_90 hg20 ?_
          refine ez_i2l dX2_digest_91 ?_
          obtain ⟨_, M22, hq22, h⟩ := zbd_some h
          refine ez_callV (C := RX2) (Tt := TX2) (N := 53) (Y' := YX2_mix) (vs := [.long ((M19.A 10 y1.toNatClampNeg).toInt64)]) (rest := []) dX2_digest_92 rfl zkX2_mix q1321 q1323 rfl slX2_mix (zm0 _ _ _) znX2_mix (Nat.le_of_ble_eq_true rfl) (Nat.le_of_ble_eq_true rfl) rfl (wX2_mix (d := d + 2) hq22 (zBack_n ?_))
          show zEF G (d + 3) K YX2_digest 95 [some (.ref a0), some (.int y1), none] [] (zm a0 g0 M22) Q
          refine ez_iconst (v := 0) dX2_digest_95 (by decide) ?_
          refine ez_istore_n (i := 2) dX2_digest_96 rfl (show 2 < 3 by decide) ?_
          show zEF G (d + 3) K YX2_digest 97 [some (.ref a0), some (.int y1), some (.int (0 : Int32))] [] (zm a0 g0 M22) Q
          refine fX2_digest_L97_ok (d := d) (K := K) 1000 M22 y1 (0 : Int32) _ _ h (fun M29 x30 h => ?_) kq
          exact hj16 M29 x30 h
theorem fX2_digest_L148_ok {G : zG} {d : Nat} {K : List Nat} {Q : zO → zS → Prop} {a0 : Nat} {g0 : zS} : ∀ (n : Nat) (M : MS) (y1 : Int32) (y2 : Int32) (k171 : MS → Int32 → Option (Int64 × MS)) (p : Int64 × MS) (h : fX2_digest_L148 n M y1 y2 k171 = some p) (hk171 : ∀ (M : MS) (x1 : Int32), k171 M x1 = some p → zEF G (d + 3) K YX2_digest 171 [some (.ref a0), some (.int x1), none] [] (zm a0 g0 M) Q) (kq : Q (.inl (some (.long p.1))) (zm a0 g0 p.2)), zEF G (d + 3) K YX2_digest 148 [some (.ref a0), some (.int y1), some (.int y2)] [] (zm a0 g0 M) Q := by
  intro n
  induction n with
  | zero =>
    intro M y1 y2 k171 p h hk171 kq
    rw [fX2_digest_L148] at h
    cases h
  | succ n ih =>
    intro M y1 y2 k171 p h hk171 kq
    rw [fX2_digest_L148] at h
    refine ez_iload_n (i := 2) (x := y2) dX2_digest_148 rfl rfl ?_
    refine ez_bipush (v := 10) dX2_digest_149 (by decide) ?_
    refine ez_icmp_ge (tgt := 171) dX2_digest_151 (by decide) (fun hc => ?_) (fun hc => ?_)
    · replace h := zif_t hc h
      refine ez_clr 2 ?_
      exact hk171 M y1 h
    · replace h := zif_f hc h
      refine ez_aload_n (i := 0) (v := .ref a0) dX2_digest_154 rfl rfl rfl ?_
      refine ez_aload_n (i := 0) (v := .ref a0) dX2_digest_155 rfl rfl rfl ?_
      refine ez_iload_n (i := 1) (x := y1) dX2_digest_156 rfl rfl ?_
      refine ez_iload_n (i := 2) (x := y2) dX2_digest_157 rfl rfl ?_
      obtain ⟨r32, M33, hq33, h⟩ := zbd_some h
      refine ez_callV (C := RX2) (Tt := TX2) (N := 53) (Y' := YX2_toldOf) (vs := [.int y1, .int y2]) (rest := [.ref a0]) dX2_digest_158 rfl zkX2_toldOf q1288 q1290 rfl slX2_toldOf (zm0 _ _ _) znX2_toldOf (Nat.le_of_ble_eq_true rfl) (Nat.le_of_ble_eq_true rfl) rfl (wX2_toldOf (d := d + 0) hq33 (zBack_v ?_))
      show zEF G (d + 3) K YX2_digest 161 [some (.ref a0), some (.int y1), some (.int y2)] [.int r32, .ref a0] (zm a0 g0 M33) Q
      refine ez_i2l dX2_digest_161 ?_
      obtain ⟨_, M35, hq35, h⟩ := zbd_some h
      refine ez_callV (C := RX2) (Tt := TX2) (N := 53) (Y' := YX2_mix) (vs := [.long (r32.toInt64)]) (rest := []) dX2_digest_162 rfl zkX2_mix q1321 q1323 rfl slX2_mix (zm0 _ _ _) znX2_mix (Nat.le_of_ble_eq_true rfl) (Nat.le_of_ble_eq_true rfl) rfl (wX2_mix (d := d + 2) hq35 (zBack_n ?_))
      show zEF G (d + 3) K YX2_digest 165 [some (.ref a0), some (.int y1), some (.int y2)] [] (zm a0 g0 M35) Q
      refine ez_iinc (x := y2) (v := (y2 + (1 : Int32))) dX2_digest_165 rfl rfl (show 2 < 3 by decide) ?_
      show zEF G (d + 3) K YX2_digest 168 [some (.ref a0), some (.int y1), some (.int (y2 + (1 : Int32)))] [] (zm a0 g0 M35) Q
      refine ez_goto (tgt := 148) dX2_digest_168 (by decide) ?_
      exact ih M35 y1 (y2 + (1 : Int32)) _ _ h hk171 kq
theorem fX2_digest_L140_ok {G : zG} {d : Nat} {K : List Nat} {Q : zO → zS → Prop} {a0 : Nat} {g0 : zS} : ∀ (n : Nat) (M : MS) (y1 : Int32) (k177 : MS → Option (Int64 × MS)) (p : Int64 × MS) (h : fX2_digest_L140 n M y1 k177 = some p) (hk177 : ∀ (M : MS), k177 M = some p → zEF G (d + 3) K YX2_digest 177 [some (.ref a0), none, none] [] (zm a0 g0 M) Q) (kq : Q (.inl (some (.long p.1))) (zm a0 g0 p.2)), zEF G (d + 3) K YX2_digest 140 [some (.ref a0), some (.int y1), none] [] (zm a0 g0 M) Q := by
  intro n
  induction n with
  | zero =>
    intro M y1 k177 p h hk177 kq
    rw [fX2_digest_L140] at h
    cases h
  | succ n ih =>
    intro M y1 k177 p h hk177 kq
    rw [fX2_digest_L140] at h
    refine ez_iload_n (i := 1) (x := y1) dX2_digest_140 rfl rfl ?_
    refine ez_bipush (v := 8) dX2_digest_141 (by decide) ?_
    refine ez_icmp_ge (tgt := 177) dX2_digest_143 (by decide) (fun hc => ?_) (fun hc => ?_)
    · replace h := zif_t hc h
      refine ez_clr 1 ?_
      exact hk177 M h
    · replace h := zif_f hc h
      refine ez_iconst (v := 0) dX2_digest_146 (by decide) ?_
      refine ez_istore_n (i := 2) dX2_digest_147 rfl (show 2 < 3 by decide) ?_
      show zEF G (d + 3) K YX2_digest 148 [some (.ref a0), some (.int y1), some (.int (0 : Int32))] [] (zm a0 g0 M) Q
      refine fX2_digest_L148_ok (d := d) (K := K) 1000 M y1 (0 : Int32) _ _ h (fun M36 x37 h => ?_) kq
      refine ez_iinc (x := x37) (v := (x37 + (1 : Int32))) dX2_digest_171 rfl rfl (show 1 < 3 by decide) ?_
      show zEF G (d + 3) K YX2_digest 174 [some (.ref a0), some (.int (x37 + (1 : Int32))), none] [] (zm a0 g0 M36) Q
      refine ez_goto (tgt := 140) dX2_digest_174 (by decide) ?_
      exact ih M36 (x37 + (1 : Int32)) _ _ h hk177 kq
theorem fX2_digest_L189_ok {G : zG} {d : Nat} {K : List Nat} {Q : zO → zS → Prop} {a0 : Nat} {g0 : zS} : ∀ (n : Nat) (M : MS) (y1 : Int32) (y2 : Int32) (k211 : MS → Int32 → Option (Int64 × MS)) (p : Int64 × MS) (h : fX2_digest_L189 n M y1 y2 k211 = some p) (hk211 : ∀ (M : MS) (x1 : Int32), k211 M x1 = some p → zEF G (d + 3) K YX2_digest 211 [some (.ref a0), some (.int x1), none] [] (zm a0 g0 M) Q) (kq : Q (.inl (some (.long p.1))) (zm a0 g0 p.2)), zEF G (d + 3) K YX2_digest 189 [some (.ref a0), some (.int y1), some (.int y2)] [] (zm a0 g0 M) Q := by
  intro n
  induction n with
  | zero =>
    intro M y1 y2 k211 p h hk211 kq
    rw [fX2_digest_L189] at h
    cases h
  | succ n ih =>
    intro M y1 y2 k211 p h hk211 kq
    rw [fX2_digest_L189] at h
    refine ez_iload_n (i := 2) (x := y2) dX2_digest_189 rfl rfl ?_
    refine ez_iconst (v := 5) dX2_digest_190 (by decide) ?_
    refine ez_icmp_ge (tgt := 211) dX2_digest_191 (by decide) (fun hc => ?_) (fun hc => ?_)
    · replace h := zif_t hc h
      refine ez_clr 2 ?_
      exact hk211 M y1 h
    · replace h := zif_f hc h
      refine ez_aload_n (i := 0) (v := .ref a0) dX2_digest_194 rfl rfl rfl ?_
      refine ez_aload_n (i := 0) (v := .ref a0) dX2_digest_195 rfl rfl rfl ?_
      refine ez_iload_n (i := 1) (x := y1) dX2_digest_196 rfl rfl ?_
      refine ez_iload_n (i := 2) (x := y2) dX2_digest_197 rfl rfl ?_
      obtain ⟨r41, M42, hq42, h⟩ := zbd_some h
      refine ez_callV (C := RX2) (Tt := TX2) (N := 53) (Y' := YX2_faultOf) (vs := [.int y1, .int y2]) (rest := [.ref a0]) dX2_digest_198 rfl zkX2_faultOf q1304 q1306 rfl slX2_faultOf (zm0 _ _ _) znX2_faultOf (Nat.le_of_ble_eq_true rfl) (Nat.le_of_ble_eq_true rfl) rfl (wX2_faultOf (d := d + 2) hq42 (zBack_v ?_))
      show zEF G (d + 3) K YX2_digest 201 [some (.ref a0), some (.int y1), some (.int y2)] [.int r41, .ref a0] (zm a0 g0 M42) Q
      refine ez_i2l dX2_digest_201 ?_
      obtain ⟨_, M44, hq44, h⟩ := zbd_some h
      refine ez_callV (C := RX2) (Tt := TX2) (N := 53) (Y' := YX2_mix) (vs := [.long (r41.toInt64)]) (rest := []) dX2_digest_202 rfl zkX2_mix q1321 q1323 rfl slX2_mix (zm0 _ _ _) znX2_mix (Nat.le_of_ble_eq_true rfl) (Nat.le_of_ble_eq_true rfl) rfl (wX2_mix (d := d + 2) hq44 (zBack_n ?_))
      show zEF G (d + 3) K YX2_digest 205 [some (.ref a0), some (.int y1), some (.int y2)] [] (zm a0 g0 M44) Q
      refine ez_iinc (x := y2) (v := (y2 + (1 : Int32))) dX2_digest_205 rfl rfl (show 2 < 3 by decide) ?_
      show zEF G (d + 3) K YX2_digest 208 [some (.ref a0), some (.int y1), some (.int (y2 + (1 : Int32)))] [] (zm a0 g0 M44) Q
      refine ez_goto (tgt := 189) dX2_digest_208 (by decide) ?_
      exact ih M44 y1 (y2 + (1 : Int32)) _ _ h hk211 kq
theorem fX2_digest_L179_ok {G : zG} {d : Nat} {K : List Nat} {Q : zO → zS → Prop} {a0 : Nat} {g0 : zS} : ∀ (n : Nat) (M : MS) (y1 : Int32) (k217 : MS → Option (Int64 × MS)) (p : Int64 × MS) (h : fX2_digest_L179 n M y1 k217 = some p) (hk217 : ∀ (M : MS), k217 M = some p → zEF G (d + 3) K YX2_digest 217 [some (.ref a0), none, none] [] (zm a0 g0 M) Q) (kq : Q (.inl (some (.long p.1))) (zm a0 g0 p.2)), zEF G (d + 3) K YX2_digest 179 [some (.ref a0), some (.int y1), none] [] (zm a0 g0 M) Q := by
  intro n
  induction n with
  | zero =>
    intro M y1 k217 p h hk217 kq
    rw [fX2_digest_L179] at h
    cases h
  | succ n ih =>
    intro M y1 k217 p h hk217 kq
    rw [fX2_digest_L179] at h
    refine ez_iload_n (i := 1) (x := y1) dX2_digest_179 rfl rfl ?_
    refine ez_aload_n (i := 0) (v := .ref a0) dX2_digest_180 rfl rfl rfl ?_
    obtain ⟨r39, M40, hq40, h⟩ := zbd_some h
    refine ez_callV (C := RX2) (Tt := TX2) (N := 53) (Y' := YX2_noted) (vs := []) (rest := [.int y1]) dX2_digest_181 rfl zkX2_noted q1300 q1302 rfl slX2_noted (zm0 _ _ _) znX2_noted (Nat.le_of_ble_eq_true rfl) (Nat.le_of_ble_eq_true rfl) rfl (wX2_noted (d := d + 2) hq40 (zBack_v ?_))
    show zEF G (d + 3) K YX2_digest 184 [some (.ref a0), some (.int y1), none] [.int r39, .int y1] (zm a0 g0 M40) Q
    refine ez_icmp_ge (tgt := 217) dX2_digest_184 (by decide) (fun hc => ?_) (fun hc => ?_)
    · replace h := zif_t hc h
      refine ez_clr 1 ?_
      exact hk217 M40 h
    · replace h := zif_f hc h
      refine ez_iconst (v := 0) dX2_digest_187 (by decide) ?_
      refine ez_istore_n (i := 2) dX2_digest_188 rfl (show 2 < 3 by decide) ?_
      show zEF G (d + 3) K YX2_digest 189 [some (.ref a0), some (.int y1), some (.int (0 : Int32))] [] (zm a0 g0 M40) Q
      refine fX2_digest_L189_ok (d := d) (K := K) 1000 M40 y1 (0 : Int32) _ _ h (fun M45 x46 h => ?_) kq
      refine ez_iinc (x := x46) (v := (x46 + (1 : Int32))) dX2_digest_211 rfl rfl (show 1 < 3 by decide) ?_
      show zEF G (d + 3) K YX2_digest 214 [some (.ref a0), some (.int (x46 + (1 : Int32))), none] [] (zm a0 g0 M45) Q
      refine ez_goto (tgt := 179) dX2_digest_214 (by decide) ?_
      exact ih M45 (x46 + (1 : Int32)) _ _ h hk217 kq
theorem wX2_digest {G : zG} {d : Nat} {K : List Nat} {Q : zO → zS → Prop} {a0 : Nat} {g0 : zS} {M : MS} {p : Int64 × MS} (h : fX2_digest M = some p) (kq : Q (.inl (some (.long p.1))) (zm a0 g0 p.2)) : zEM G (d + 3) K YX2_digest [.ref a0] (zm a0 g0 M) Q := by
  show zEF G (d + 3) K YX2_digest 0 [some (.ref a0), none, none] [] (zm a0 g0 M) Q
  unfold fX2_digest at h
  refine ez_aload_n (i := 0) (v := .ref a0) dX2_digest_0 rfl rfl rfl ?_
  refine ez_ldc2l dX2_digest_1 rfl q1320 ?_
  refine pM_318 dX2_digest_4 rfl ?_
  refine zlet_use (fun M1 => zEF G (d + 3) K YX2_digest 7 [some (.ref a0), none, none] [] (zm a0 g0 M1) Q) h (fun M1 h => ?_)
  refine ez_iconst (v := 0) dX2_digest_7 (by decide) ?_
  refine ez_istore_n (i := 1) dX2_digest_8 rfl (show 1 < 3 by decide) ?_
  show zEF G (d + 3) K YX2_digest 9 [some (.ref a0), some (.int (0 : Int32)), none] [] (zm a0 g0 M1) Q
  refine fX2_digest_L9_ok (d := d) (K := K) 1000 M1 (0 : Int32) _ _ h (fun M7 h => ?_) kq
  refine ez_iconst (v := 0) dX2_digest_40 (by decide) ?_
  refine ez_istore_n (i := 1) dX2_digest_41 rfl (show 1 < 3 by decide) ?_
  show zEF G (d + 3) K YX2_digest 42 [some (.ref a0), some (.int (0 : Int32)), none] [] (zm a0 g0 M7) Q
  refine fX2_digest_L42_ok (d := d) (K := K) 1000 M7 (0 : Int32) _ _ h (fun M31 h => ?_) kq
  refine ez_iconst (v := 0) dX2_digest_138 (by decide) ?_
  refine ez_istore_n (i := 1) dX2_digest_139 rfl (show 1 < 3 by decide) ?_
  show zEF G (d + 3) K YX2_digest 140 [some (.ref a0), some (.int (0 : Int32)), none] [] (zm a0 g0 M31) Q
  refine fX2_digest_L140_ok (d := d) (K := K) 1000 M31 (0 : Int32) _ _ h (fun M38 h => ?_) kq
  refine ez_iconst (v := 0) dX2_digest_177 (by decide) ?_
  refine ez_istore_n (i := 1) dX2_digest_178 rfl (show 1 < 3 by decide) ?_
  show zEF G (d + 3) K YX2_digest 179 [some (.ref a0), some (.int (0 : Int32)), none] [] (zm a0 g0 M38) Q
  refine fX2_digest_L179_ok (d := d) (K := K) 1000 M38 (0 : Int32) _ _ h (fun M47 h => ?_) kq
  refine ez_aload_n (i := 0) (v := .ref a0) dX2_digest_217 rfl rfl rfl ?_
  refine ez_aload_n (i := 0) (v := .ref a0) dX2_digest_218 rfl rfl rfl ?_
  refine gM_229 dX2_digest_219 rfl ?_
  refine ez_i2l dX2_digest_222 ?_
  obtain ⟨_, M49, hq49, h⟩ := zbd_some h
  refine ez_callV (C := RX2) (Tt := TX2) (N := 53) (Y' := YX2_mix) (vs := [.long ((M47.I 45).toInt64)]) (rest := []) dX2_digest_223 rfl zkX2_mix q1321 q1323 rfl slX2_mix (zm0 _ _ _) znX2_mix (Nat.le_of_ble_eq_true rfl) (Nat.le_of_ble_eq_true rfl) rfl (wX2_mix (d := d + 2) hq49 (zBack_n ?_))
  show zEF G (d + 3) K YX2_digest 226 [some (.ref a0), none, none] [] (zm a0 g0 M49) Q
  refine ez_aload_n (i := 0) (v := .ref a0) dX2_digest_226 rfl rfl rfl ?_
  refine gM_318 dX2_digest_227 rfl ?_
  obtain rfl := Option.some.inj h
  exact ez_lret dX2_digest_230 rfl kq

/-! the Model: methods, walked, 0 -/
set_option maxRecDepth 100000

def YX2_finds : zM := (yX2_finds, cX2_finds, 2, (Option.some Jvm.ClassFile.FieldType.int), [], false)
theorem zkX2_finds : zMok YX2_finds := ⟨rfl, q1104, by decide +kernel, by decide +kernel⟩
theorem znX2_finds : (parseMethodDescriptor YX2_finds.nm.desc).map (fun d => d.parameters.length) = some 1 := by decide +kernel
theorem slX2_finds : Cond.selects RX2 yX2_finds yX2_finds ∈ lw_all := lw_w 26 rfl rfl
noncomputable def fX2_finds (M : MS) (b0 : Int32) : Option (Int32 × MS) := zgd (vp_in b0 7) (zgd (vp_in b0 7) (zlet (mA M 48 b0.toNatClampNeg ((M.A 48 b0.toNatClampNeg) + (1 : Int32))) (fun M3 => some (((-10 : Int32) - b0), M3))))
theorem wX2_finds {G : zG} {d : Nat} {K : List Nat} {Q : zO → zS → Prop} {a0 : Nat} {g0 : zS} {M : MS} {b0 : Int32} {p : Int32 × MS} (h : fX2_finds M b0 = some p) (kq : Q (.inl (some (.int p.1))) (zm a0 g0 p.2)) : zEM G (d + 0) K YX2_finds [.ref a0, .int b0] (zm a0 g0 M) Q := by
  show zEF G (d + 0) K YX2_finds 0 [some (.ref a0), some (.int b0)] [] (zm a0 g0 M) Q
  unfold fX2_finds at h
  refine ez_aload_n (i := 0) (v := .ref a0) dX2_finds_0 rfl rfl rfl ?_
  refine gM_125 dX2_finds_1 rfl ?_
  refine ez_iload_n (i := 1) (x := b0) dX2_finds_4 rfl rfl ?_
  refine ez_dup2 dX2_finds_5 rfl rfl ?_
  obtain ⟨hg1, h⟩ := zgd_some h
  refine lM_48 dX2_finds_6 hg1 ?_
  refine ez_iconst (v := 1) dX2_finds_7 (by decide) ?_
  refine ez_iadd dX2_finds_8 ?_
  obtain ⟨hg2, h⟩ := zgd_some h
  refine sM_48 dX2_finds_9 hg2 ?_
  refine zlet_use (fun M3 => zEF G (d + 0) K YX2_finds 10 [some (.ref a0), some (.int b0)] [] (zm a0 g0 M3) Q) h (fun M3 h => ?_)
  refine ez_bipush (v := -10) dX2_finds_10 (by decide) ?_
  refine ez_iload_n (i := 1) (x := b0) dX2_finds_12 rfl rfl ?_
  refine ez_isub dX2_finds_13 ?_
  obtain rfl := Option.some.inj h
  exact ez_iret dX2_finds_14 rfl rfl kq
def YX2_clip : zM := (yX2_clip, cX2_clip, 3, (Option.some Jvm.ClassFile.FieldType.int), [], false)
theorem zkX2_clip : zMok YX2_clip := ⟨rfl, q1097, by decide +kernel, by decide +kernel⟩
theorem znX2_clip : (parseMethodDescriptor YX2_clip.nm.desc).map (fun d => d.parameters.length) = some 2 := by decide +kernel
noncomputable def fX2_clip (M : MS) (b0 : Int32) (b1 : Int32) : Option (Int32 × MS) := zbj (fX2_in b0 (0 : Int32) (4 : Int32)) (fun r1 => if r1 = 0 then some ((-102 : Int32), M) else if b1 ≤ (64 : Int32) then if (M.I 0) = (16 : Int32) then some ((-104 : Int32), M) else if 0 ≤ b1 then zgd (vp_in (M.I 0) 16) (zlet (mA M 1 (M.I 0).toNatClampNeg b0) (fun M4 => zgd (vp_in (M4.I 0) 16) (zlet (mA M4 2 (M4.I 0).toNatClampNeg b1) (fun M6 => zlet (mI M6 0 ((M6.I 0) + (1 : Int32))) (fun M7 => some (((M7.I 0) - (1 : Int32)), M7)))))) else zbd (fX2_finds M (5 : Int32)) (fun r8 M9 => some (r8, M9)) else some ((-102 : Int32), M))
theorem wX2_clip {G : zG} {d : Nat} {K : List Nat} {Q : zO → zS → Prop} {a0 : Nat} {g0 : zS} {M : MS} {b0 : Int32} {b1 : Int32} {p : Int32 × MS} (h : fX2_clip M b0 b1 = some p) (kq : Q (.inl (some (.int p.1))) (zm a0 g0 p.2)) : zEM G (d + 1) K YX2_clip [.ref a0, .int b0, .int b1] (zm a0 g0 M) Q := by
  show zEF G (d + 1) K YX2_clip 0 [some (.ref a0), some (.int b0), some (.int b1)] [] (zm a0 g0 M) Q
  unfold fX2_clip at h
  refine ez_iload_n (i := 1) (x := b0) dX2_clip_0 rfl rfl ?_
  refine ez_iconst (v := 0) dX2_clip_1 (by decide) ?_
  refine ez_iconst (v := 4) dX2_clip_2 (by decide) ?_
  obtain ⟨r1, hq2, h⟩ := zbj_some h
  refine ez_callS (Y' := YX2_in) (vs := [.int b0, .int (0 : Int32), .int (4 : Int32)]) (rest := []) dX2_clip_3 rfl zkX2_in q1098 q1099 q54 znX2_in (Nat.le_of_ble_eq_true rfl) (Nat.le_of_ble_eq_true rfl) rfl (wX2_in (d := d + 0) hq2 (zBack_v ?_))
  show zEF G (d + 1) K YX2_clip 6 [some (.ref a0), some (.int b0), some (.int b1)] [.int r1] (zm a0 g0 M) Q
  refine ez_if_eq (tgt := 15) dX2_clip_6 (by decide) (fun hc => ?_) (fun hc => ?_)
  · replace h := zif_t hc h
    refine ez_bipush (v := -102) dX2_clip_15 (by decide) ?_
    obtain rfl := Option.some.inj h
    exact ez_iret dX2_clip_17 rfl rfl kq
  · replace h := zif_f hc h
    refine ez_iload_n (i := 2) (x := b1) dX2_clip_9 rfl rfl ?_
    refine ez_bipush (v := 64) dX2_clip_10 (by decide) ?_
    refine ez_icmp_le (tgt := 18) dX2_clip_12 (by decide) (fun hc => ?_) (fun hc => ?_)
    · replace h := zif_t hc h
      refine ez_aload_n (i := 0) (v := .ref a0) dX2_clip_18 rfl rfl rfl ?_
      refine gM_140 dX2_clip_19 rfl ?_
      refine ez_bipush (v := 16) dX2_clip_22 (by decide) ?_
      refine ez_icmp_ne (tgt := 30) dX2_clip_24 (by decide) (fun hc => ?_) (fun hc => ?_)
      · replace h := zif_f hc h
        refine ez_iload_n (i := 2) (x := b1) dX2_clip_30 rfl rfl ?_
        refine ez_if_ge (tgt := 40) dX2_clip_31 (by decide) (fun hc => ?_) (fun hc => ?_)
        · replace h := zif_t hc h
          refine ez_aload_n (i := 0) (v := .ref a0) dX2_clip_40 rfl rfl rfl ?_
          refine gM_7 dX2_clip_41 rfl ?_
          refine ez_aload_n (i := 0) (v := .ref a0) dX2_clip_44 rfl rfl rfl ?_
          refine gM_140 dX2_clip_45 rfl ?_
          refine ez_iload_n (i := 1) (x := b0) dX2_clip_48 rfl rfl ?_
          obtain ⟨hg3, h⟩ := zgd_some h
          refine sM_1 dX2_clip_49 hg3 ?_
          refine zlet_use (fun M4 => zEF G (d + 1) K YX2_clip 50 [some (.ref a0), some (.int b0), some (.int b1)] [] (zm a0 g0 M4) Q) h (fun M4 h => ?_)
          refine ez_aload_n (i := 0) (v := .ref a0) dX2_clip_50 rfl rfl rfl ?_
          refine gM_13 dX2_clip_51 rfl ?_
          refine ez_aload_n (i := 0) (v := .ref a0) dX2_clip_54 rfl rfl rfl ?_
          refine gM_140 dX2_clip_55 rfl ?_
          refine ez_iload_n (i := 2) (x := b1) dX2_clip_58 rfl rfl ?_
          obtain ⟨hg5, h⟩ := zgd_some h
          refine sM_2 dX2_clip_59 hg5 ?_
          refine zlet_use (fun M6 => zEF G (d + 1) K YX2_clip 60 [some (.ref a0), some (.int b0), some (.int b1)] [] (zm a0 g0 M6) Q) h (fun M6 h => ?_)
          refine ez_aload_n (i := 0) (v := .ref a0) dX2_clip_60 rfl rfl rfl ?_
          refine ez_dup dX2_clip_61 rfl ?_
          refine gM_140 dX2_clip_62 rfl ?_
          refine ez_iconst (v := 1) dX2_clip_65 (by decide) ?_
          refine ez_iadd dX2_clip_66 ?_
          refine pM_140 dX2_clip_67 rfl ?_
          refine zlet_use (fun M7 => zEF G (d + 1) K YX2_clip 70 [some (.ref a0), some (.int b0), some (.int b1)] [] (zm a0 g0 M7) Q) h (fun M7 h => ?_)
          refine ez_aload_n (i := 0) (v := .ref a0) dX2_clip_70 rfl rfl rfl ?_
          refine gM_140 dX2_clip_71 rfl ?_
          refine ez_iconst (v := 1) dX2_clip_74 (by decide) ?_
          refine ez_isub dX2_clip_75 ?_
          obtain rfl := Option.some.inj h
          exact ez_iret dX2_clip_76 rfl rfl kq
        · replace h := zif_f hc h
          refine ez_aload_n (i := 0) (v := .ref a0) dX2_clip_34 rfl rfl rfl ?_
          refine ez_iconst (v := 5) dX2_clip_35 (by decide) ?_
          obtain ⟨r8, M9, hq9, h⟩ := zbd_some h
          refine ez_callV (C := RX2) (Tt := TX2) (N := 53) (Y' := YX2_finds) (vs := [.int (5 : Int32)]) (rest := []) dX2_clip_36 rfl zkX2_finds q1101 q1103 rfl slX2_finds (zm0 _ _ _) znX2_finds (Nat.le_of_ble_eq_true rfl) (Nat.le_of_ble_eq_true rfl) rfl (wX2_finds (d := d + 0) hq9 (zBack_v ?_))
          show zEF G (d + 1) K YX2_clip 39 [some (.ref a0), some (.int b0), some (.int b1)] [.int r8] (zm a0 g0 M9) Q
          obtain rfl := Option.some.inj h
          exact ez_iret dX2_clip_39 rfl rfl kq
      · replace h := zif_t hc h
        refine ez_bipush (v := -104) dX2_clip_27 (by decide) ?_
        obtain rfl := Option.some.inj h
        exact ez_iret dX2_clip_29 rfl rfl kq
    · replace h := zif_f hc h
      refine ez_bipush (v := -102) dX2_clip_15 (by decide) ?_
      obtain rfl := Option.some.inj h
      exact ez_iret dX2_clip_17 rfl rfl kq
def YX2_number : zM := (yX2_number, cX2_number, 6, (Option.some Jvm.ClassFile.FieldType.int), [], false)
theorem zkX2_number : zMok YX2_number := ⟨rfl, q1108, by decide +kernel, by decide +kernel⟩
theorem znX2_number : (parseMethodDescriptor YX2_number.nm.desc).map (fun d => d.parameters.length) = some 4 := by decide +kernel
noncomputable def fX2_number (M : MS) (b0 : Int32) (b1 : Int32) (b2 : Int32) (b3 : Int64) : Option (Int32 × MS) := zbj (fX2_in b0 (0 : Int32) ((M.I 0) - (1 : Int32))) (fun r1 => if r1 = 0 then some ((-101 : Int32), M) else zbj (fX2_in b1 (0 : Int32) (4 : Int32)) (fun r3 => if r3 = 0 then some ((-102 : Int32), M) else zbj (fX2_tells b1 b3) (fun r5 => if r5 = 0 then some ((-102 : Int32), M) else if (M.I 28) = 0 then zgd (vp_in b0 16) (if (M.A 1 b0.toNatClampNeg) = b1 then zgd (vp_in b0 16) (zbj (fX2_in b2 (0 : Int32) ((M.A 2 b0.toNatClampNeg) - (1 : Int32))) (fun r9 => if r9 = 0 then zbd (fX2_finds M (2 : Int32)) (fun r19 M20 => some (r19, M20)) else if b1 = 0 then zgd (vp_in (((64 : Int32) * b0) + b2) 1024) (zlet (mL M (((64 : Int32) * b0) + b2).toNatClampNeg (((b3.toInt32).toInt8.toInt32).toInt64)) (fun M18 => some ((0 : Int32), M18))) else if b1 = (1 : Int32) then zgd (vp_in (((64 : Int32) * b0) + b2) 1024) (zlet (mL M (((64 : Int32) * b0) + b2).toNatClampNeg (((b3.toInt32).toInt16.toInt32).toInt64)) (fun M16 => some ((0 : Int32), M16))) else if (4 : Int32) ≤ b1 then zgd (vp_in (((64 : Int32) * b0) + b2) 1024) (zlet (mL M (((64 : Int32) * b0) + b2).toNatClampNeg b3) (fun M12 => some ((0 : Int32), M12))) else zgd (vp_in (((64 : Int32) * b0) + b2) 1024) (zlet (mL M (((64 : Int32) * b0) + b2).toNatClampNeg ((b3.toInt32).toInt64)) (fun M14 => some ((0 : Int32), M14))))) else zbd (fX2_finds M (3 : Int32)) (fun r21 M22 => some (r21, M22))) else some ((-103 : Int32), M))))
theorem wX2_number {G : zG} {d : Nat} {K : List Nat} {Q : zO → zS → Prop} {a0 : Nat} {g0 : zS} {M : MS} {b0 : Int32} {b1 : Int32} {b2 : Int32} {b3 : Int64} {p : Int32 × MS} (h : fX2_number M b0 b1 b2 b3 = some p) (kq : Q (.inl (some (.int p.1))) (zm a0 g0 p.2)) : zEM G (d + 1) K YX2_number [.ref a0, .int b0, .int b1, .int b2, .long b3] (zm a0 g0 M) Q := by
  show zEF G (d + 1) K YX2_number 0 [some (.ref a0), some (.int b0), some (.int b1), some (.int b2), some (.long b3), none] [] (zm a0 g0 M) Q
  unfold fX2_number at h
  refine ez_iload_n (i := 1) (x := b0) dX2_number_0 rfl rfl ?_
  refine ez_iconst (v := 0) dX2_number_1 (by decide) ?_
  refine ez_aload_n (i := 0) (v := .ref a0) dX2_number_2 rfl rfl rfl ?_
  refine gM_140 dX2_number_3 rfl ?_
  refine ez_iconst (v := 1) dX2_number_6 (by decide) ?_
  refine ez_isub dX2_number_7 ?_
  obtain ⟨r1, hq2, h⟩ := zbj_some h
  refine ez_callS (Y' := YX2_in) (vs := [.int b0, .int (0 : Int32), .int ((M.I 0) - (1 : Int32))]) (rest := []) dX2_number_8 rfl zkX2_in q1098 q1099 q54 znX2_in (Nat.le_of_ble_eq_true rfl) (Nat.le_of_ble_eq_true rfl) rfl (wX2_in (d := d + 0) hq2 (zBack_v ?_))
  show zEF G (d + 1) K YX2_number 11 [some (.ref a0), some (.int b0), some (.int b1), some (.int b2), some (.long b3), none] [.int r1] (zm a0 g0 M) Q
  refine ez_if_ne (tgt := 17) dX2_number_11 (by decide) (fun hc => ?_) (fun hc => ?_)
  · replace h := zif_f hc h
    refine ez_iload_n (i := 2) (x := b1) dX2_number_17 rfl rfl ?_
    refine ez_iconst (v := 0) dX2_number_18 (by decide) ?_
    refine ez_iconst (v := 4) dX2_number_19 (by decide) ?_
    obtain ⟨r3, hq4, h⟩ := zbj_some h
    refine ez_callS (Y' := YX2_in) (vs := [.int b1, .int (0 : Int32), .int (4 : Int32)]) (rest := []) dX2_number_20 rfl zkX2_in q1098 q1099 q54 znX2_in (Nat.le_of_ble_eq_true rfl) (Nat.le_of_ble_eq_true rfl) rfl (wX2_in (d := d + 0) hq4 (zBack_v ?_))
    show zEF G (d + 1) K YX2_number 23 [some (.ref a0), some (.int b0), some (.int b1), some (.int b2), some (.long b3), none] [.int r3] (zm a0 g0 M) Q
    refine ez_if_eq (tgt := 35) dX2_number_23 (by decide) (fun hc => ?_) (fun hc => ?_)
    · replace h := zif_t hc h
      refine ez_bipush (v := -102) dX2_number_35 (by decide) ?_
      obtain rfl := Option.some.inj h
      exact ez_iret dX2_number_37 rfl rfl kq
    · replace h := zif_f hc h
      refine ez_iload_n (i := 2) (x := b1) dX2_number_26 rfl rfl ?_
      refine ez_lload (i := 4) (x := b3) dX2_number_27 rfl ?_
      obtain ⟨r5, hq6, h⟩ := zbj_some h
      refine ez_callS (Y' := YX2_tells) (vs := [.int b1, .long b3]) (rest := []) dX2_number_29 rfl zkX2_tells q1109 q1110 q54 znX2_tells (Nat.le_of_ble_eq_true rfl) (Nat.le_of_ble_eq_true rfl) rfl (wX2_tells (d := d + 0) hq6 (zBack_v ?_))
      show zEF G (d + 1) K YX2_number 32 [some (.ref a0), some (.int b0), some (.int b1), some (.int b2), some (.long b3), none] [.int r5] (zm a0 g0 M) Q
      refine ez_if_ne (tgt := 38) dX2_number_32 (by decide) (fun hc => ?_) (fun hc => ?_)
      · replace h := zif_f hc h
        refine ez_aload_n (i := 0) (v := .ref a0) dX2_number_38 rfl rfl rfl ?_
        refine gM_159 dX2_number_39 rfl ?_
        refine ez_if_eq (tgt := 48) dX2_number_42 (by decide) (fun hc => ?_) (fun hc => ?_)
        · replace h := zif_t hc h
          refine ez_aload_n (i := 0) (v := .ref a0) dX2_number_48 rfl rfl rfl ?_
          refine gM_7 dX2_number_49 rfl ?_
          refine ez_iload_n (i := 1) (x := b0) dX2_number_52 rfl rfl ?_
          obtain ⟨hg7, h⟩ := zgd_some h
          refine lM_1 dX2_number_53 hg7 ?_
          refine ez_iload_n (i := 2) (x := b1) dX2_number_54 rfl rfl ?_
          refine ez_icmp_eq (tgt := 64) dX2_number_55 (by decide) (fun hc => ?_) (fun hc => ?_)
          · replace h := zif_t hc h
            refine ez_iload_n (i := 3) (x := b2) dX2_number_64 rfl rfl ?_
            refine ez_iconst (v := 0) dX2_number_65 (by decide) ?_
            refine ez_aload_n (i := 0) (v := .ref a0) dX2_number_66 rfl rfl rfl ?_
            refine gM_13 dX2_number_67 rfl ?_
            refine ez_iload_n (i := 1) (x := b0) dX2_number_70 rfl rfl ?_
            obtain ⟨hg8, h⟩ := zgd_some h
            refine lM_2 dX2_number_71 hg8 ?_
            refine ez_iconst (v := 1) dX2_number_72 (by decide) ?_
            refine ez_isub dX2_number_73 ?_
            obtain ⟨r9, hq10, h⟩ := zbj_some h
            refine ez_callS (Y' := YX2_in) (vs := [.int b2, .int (0 : Int32), .int ((M.A 2 b0.toNatClampNeg) - (1 : Int32))]) (rest := []) dX2_number_74 rfl zkX2_in q1098 q1099 q54 znX2_in (Nat.le_of_ble_eq_true rfl) (Nat.le_of_ble_eq_true rfl) rfl (wX2_in (d := d + 0) hq10 (zBack_v ?_))
            show zEF G (d + 1) K YX2_number 77 [some (.ref a0), some (.int b0), some (.int b1), some (.int b2), some (.long b3), none] [.int r9] (zm a0 g0 M) Q
            refine ez_if_ne (tgt := 86) dX2_number_77 (by decide) (fun hc => ?_) (fun hc => ?_)
            · replace h := zif_f hc h
              refine ez_aload_n (i := 0) (v := .ref a0) dX2_number_86 rfl rfl rfl ?_
              refine gM_16 dX2_number_87 rfl ?_
              refine ez_bipush (v := 64) dX2_number_90 (by decide) ?_
              refine ez_iload_n (i := 1) (x := b0) dX2_number_92 rfl rfl ?_
              refine ez_imul dX2_number_93 ?_
              refine ez_iload_n (i := 3) (x := b2) dX2_number_94 rfl rfl ?_
              refine ez_iadd dX2_number_95 ?_
              refine ez_iload_n (i := 2) (x := b1) dX2_number_96 rfl rfl ?_
              refine ez_if_ne (tgt := 108) dX2_number_97 (by decide) (fun hc => ?_) (fun hc => ?_)
              · replace h := zif_f hc h
                refine ez_iload_n (i := 2) (x := b1) dX2_number_108 rfl rfl ?_
                refine ez_iconst (v := 1) dX2_number_109 (by decide) ?_
                refine ez_icmp_ne (tgt := 121) dX2_number_110 (by decide) (fun hc => ?_) (fun hc => ?_)
                · replace h := zif_f hc h
                  refine ez_iload_n (i := 2) (x := b1) dX2_number_121 rfl rfl ?_
                  refine ez_iconst (v := 4) dX2_number_122 (by decide) ?_
                  refine ez_icmp_ge (tgt := 133) dX2_number_123 (by decide) (fun hc => ?_) (fun hc => ?_)
                  · replace h := zif_t hc h
                    refine ez_lload (i := 4) (x := b3) dX2_number_133 rfl ?_
                    obtain ⟨hg11, h⟩ := zgd_some h
                    refine sM_3 dX2_number_135 hg11 ?_
                    refine zlet_use (fun M12 => zEF G (d + 1) K YX2_number 136 [some (.ref a0), some (.int b0), some (.int b1), some (.int b2), some (.long b3), none] [] (zm a0 g0 M12) Q) h (fun M12 h => ?_)
                    refine ez_iconst (v := 0) dX2_number_136 (by decide) ?_
                    obtain rfl := Option.some.inj h
                    exact ez_iret dX2_number_137 rfl rfl kq
                  · replace h := zif_f hc h
                    refine ez_lload (i := 4) (x := b3) dX2_number_126 rfl ?_
                    refine ez_l2i dX2_number_128 ?_
                    refine ez_i2l dX2_number_129 ?_
                    refine ez_goto (tgt := 135) dX2_number_130 (by decide) ?_
                    obtain ⟨hg13, h⟩ := zgd_some h
                    refine sM_3 dX2_number_135 hg13 ?_
                    refine zlet_use (fun M14 => zEF G (d + 1) K YX2_number 136 [some (.ref a0), some (.int b0), some (.int b1), some (.int b2), some (.long b3), none] [] (zm a0 g0 M14) Q) h (fun M14 h => ?_)
                    refine ez_iconst (v := 0) dX2_number_136 (by decide) ?_
                    obtain rfl := Option.some.inj h
                    exact ez_iret dX2_number_137 rfl rfl kq
                · replace h := zif_t hc h
                  refine ez_lload (i := 4) (x := b3) dX2_number_113 rfl ?_
                  refine ez_l2i dX2_number_115 ?_
                  refine ez_i2s dX2_number_116 ?_
                  refine ez_i2l dX2_number_117 ?_
                  refine ez_goto (tgt := 135) dX2_number_118 (by decide) ?_
                  obtain ⟨hg15, h⟩ := zgd_some h
                  refine sM_3 dX2_number_135 hg15 ?_
                  refine zlet_use (fun M16 => zEF G (d + 1) K YX2_number 136 [some (.ref a0), some (.int b0), some (.int b1), some (.int b2), some (.long b3), none] [] (zm a0 g0 M16) Q) h (fun M16 h => ?_)
                  refine ez_iconst (v := 0) dX2_number_136 (by decide) ?_
                  obtain rfl := Option.some.inj h
                  exact ez_iret dX2_number_137 rfl rfl kq
              · replace h := zif_t hc h
                refine ez_lload (i := 4) (x := b3) dX2_number_100 rfl ?_
                refine ez_l2i dX2_number_102 ?_
                refine ez_i2b dX2_number_103 ?_
                refine ez_i2l dX2_number_104 ?_
                refine ez_goto (tgt := 135) dX2_number_105 (by decide) ?_
                obtain ⟨hg17, h⟩ := zgd_some h
                refine sM_3 dX2_number_135 hg17 ?_
                refine zlet_use (fun M18 => zEF G (d + 1) K YX2_number 136 [some (.ref a0), some (.int b0), some (.int b1), some (.int b2), some (.long b3), none] [] (zm a0 g0 M18) Q) h (fun M18 h => ?_)
                refine ez_iconst (v := 0) dX2_number_136 (by decide) ?_
                obtain rfl := Option.some.inj h
                exact ez_iret dX2_number_137 rfl rfl kq
            · replace h := zif_t hc h
              refine ez_aload_n (i := 0) (v := .ref a0) dX2_number_80 rfl rfl rfl ?_
              refine ez_iconst (v := 2) dX2_number_81 (by decide) ?_
              obtain ⟨r19, M20, hq20, h⟩ := zbd_some h
              refine ez_callV (C := RX2) (Tt := TX2) (N := 53) (Y' := YX2_finds) (vs := [.int (2 : Int32)]) (rest := []) dX2_number_82 rfl zkX2_finds q1101 q1103 rfl slX2_finds (zm0 _ _ _) znX2_finds (Nat.le_of_ble_eq_true rfl) (Nat.le_of_ble_eq_true rfl) rfl (wX2_finds (d := d + 0) hq20 (zBack_v ?_))
              show zEF G (d + 1) K YX2_number 85 [some (.ref a0), some (.int b0), some (.int b1), some (.int b2), some (.long b3), none] [.int r19] (zm a0 g0 M20) Q
              obtain rfl := Option.some.inj h
              exact ez_iret dX2_number_85 rfl rfl kq
          · replace h := zif_f hc h
            refine ez_aload_n (i := 0) (v := .ref a0) dX2_number_58 rfl rfl rfl ?_
            refine ez_iconst (v := 3) dX2_number_59 (by decide) ?_
            obtain ⟨r21, M22, hq22, h⟩ := zbd_some h
            refine ez_callV (C := RX2) (Tt := TX2) (N := 53) (Y' := YX2_finds) (vs := [.int (3 : Int32)]) (rest := []) dX2_number_60 rfl zkX2_finds q1101 q1103 rfl slX2_finds (zm0 _ _ _) znX2_finds (Nat.le_of_ble_eq_true rfl) (Nat.le_of_ble_eq_true rfl) rfl (wX2_finds (d := d + 0) hq22 (zBack_v ?_))
            show zEF G (d + 1) K YX2_number 63 [some (.ref a0), some (.int b0), some (.int b1), some (.int b2), some (.long b3), none] [.int r21] (zm a0 g0 M22) Q
            obtain rfl := Option.some.inj h
            exact ez_iret dX2_number_63 rfl rfl kq
        · replace h := zif_f hc h
          refine ez_bipush (v := -103) dX2_number_45 (by decide) ?_
          obtain rfl := Option.some.inj h
          exact ez_iret dX2_number_47 rfl rfl kq
      · replace h := zif_t hc h
        refine ez_bipush (v := -102) dX2_number_35 (by decide) ?_
        obtain rfl := Option.some.inj h
        exact ez_iret dX2_number_37 rfl rfl kq
  · replace h := zif_t hc h
    refine ez_bipush (v := -101) dX2_number_14 (by decide) ?_
    obtain rfl := Option.some.inj h
    exact ez_iret dX2_number_16 rfl rfl kq
def YX2_sampleAt : zM := (yX2_sampleAt, cX2_sampleAt, 5, (Option.some Jvm.ClassFile.FieldType.float), [], false)
theorem zkX2_sampleAt : zMok YX2_sampleAt := ⟨rfl, q1123, by decide +kernel, by decide +kernel⟩
theorem znX2_sampleAt : (parseMethodDescriptor YX2_sampleAt.nm.desc).map (fun d => d.parameters.length) = some 2 := by decide +kernel
theorem slX2_sampleAt : Cond.selects RX2 yX2_sampleAt yX2_sampleAt ∈ lw_all := lw_w 27 rfl rfl
noncomputable def fX2_sampleAt (M : MS) (b0 : Int32) (b1 : Int32) : Option (UInt32 × MS) := zgd (vp_in (((64 : Int32) * b0) + b1) 1024) (zlet (M.L (((64 : Int32) * b0) + b1).toNatClampNeg) (fun a2 => zgd (vp_in b0 16) (if (M.A 1 b0.toNatClampNeg) = (0 : Int32) then zgd (vf_n64 (FP.ddiv (FP.l2d a2) (4638707616191610880 : UInt64))) (zgd (vf_n32 (FP.d2f (FP.ddiv (FP.l2d a2) (4638707616191610880 : UInt64)))) (zbj (fX2_clipped (FP.d2f (FP.ddiv (FP.l2d a2) (4638707616191610880 : UInt64)))) (fun r6 => some (r6, M)))) else if (M.A 1 b0.toNatClampNeg) = (1 : Int32) then zgd (vf_n64 (FP.ddiv (FP.l2d a2) (4674736413210574848 : UInt64))) (zgd (vf_n32 (FP.d2f (FP.ddiv (FP.l2d a2) (4674736413210574848 : UInt64)))) (zbj (fX2_clipped (FP.d2f (FP.ddiv (FP.l2d a2) (4674736413210574848 : UInt64)))) (fun r10 => some (r10, M)))) else if (M.A 1 b0.toNatClampNeg) = (2 : Int32) then zgd (vf_n64 (FP.ddiv (FP.l2d a2) (4746794007248502784 : UInt64))) (zgd (vf_n32 (FP.d2f (FP.ddiv (FP.l2d a2) (4746794007248502784 : UInt64)))) (zbj (fX2_clipped (FP.d2f (FP.ddiv (FP.l2d a2) (4746794007248502784 : UInt64)))) (fun r14 => some (r14, M)))) else if (M.A 1 b0.toNatClampNeg) = (3 : Int32) then zgd (vn_sni2f (a2.toInt32) = false) (zbj (fX2_clipped ((a2.toInt32).toUInt32)) (fun r17 => some (r17, M))) else zgd (vn_snl2d a2 = false) (zgd (vf_n32 (FP.d2f (a2.toUInt64))) (zbj (fX2_clipped (FP.d2f (a2.toUInt64))) (fun r21 => some (r21, M)))))))
theorem wX2_sampleAt {G : zG} {d : Nat} {K : List Nat} {Q : zO → zS → Prop} {a0 : Nat} {g0 : zS} {M : MS} {b0 : Int32} {b1 : Int32} {p : UInt32 × MS} (h : fX2_sampleAt M b0 b1 = some p) (kq : Q (.inl (some (.float p.1))) (zm a0 g0 p.2)) : zEM G (d + 1) K YX2_sampleAt [.ref a0, .int b0, .int b1] (zm a0 g0 M) Q := by
  show zEF G (d + 1) K YX2_sampleAt 0 [some (.ref a0), some (.int b0), some (.int b1), none, none] [] (zm a0 g0 M) Q
  unfold fX2_sampleAt at h
  refine ez_aload_n (i := 0) (v := .ref a0) dX2_sampleAt_0 rfl rfl rfl ?_
  refine gM_16 dX2_sampleAt_1 rfl ?_
  refine ez_bipush (v := 64) dX2_sampleAt_4 (by decide) ?_
  refine ez_iload_n (i := 1) (x := b0) dX2_sampleAt_6 rfl rfl ?_
  refine ez_imul dX2_sampleAt_7 ?_
  refine ez_iload_n (i := 2) (x := b1) dX2_sampleAt_8 rfl rfl ?_
  refine ez_iadd dX2_sampleAt_9 ?_
  obtain ⟨hg1, h⟩ := zgd_some h
  refine lM_3 dX2_sampleAt_10 hg1 ?_
  refine ez_lstore_n (i := 3) dX2_sampleAt_11 rfl (show 4 < 5 by decide) ?_
  refine zlet_use (fun a2 => zEF G (d + 1) K YX2_sampleAt 12 [some (.ref a0), some (.int b0), some (.int b1), some (.long a2), none] [] (zm a0 g0 M) Q) h (fun a2 h => ?_)
  refine ez_aload_n (i := 0) (v := .ref a0) dX2_sampleAt_12 rfl rfl rfl ?_
  refine gM_7 dX2_sampleAt_13 rfl ?_
  refine ez_iload_n (i := 1) (x := b0) dX2_sampleAt_16 rfl rfl ?_
  obtain ⟨hg3, h⟩ := zgd_some h
  refine lM_1 dX2_sampleAt_17 hg3 ?_
  by_cases hs0 : (M.A 1 b0.toNatClampNeg) = (0 : Int32)
  · replace h := zif_t hs0 h
    refine ez_tableIn (tgt := 48) (off := 30) dX2_sampleAt_18 (by rw [hs0]; decide) (by rw [hs0]; decide) (by rw [hs0]; rfl) (by decide) ?_
    refine ez_lload_n (i := 3) (x := a2) dX2_sampleAt_48 rfl rfl ?_
    refine ez_l2d dX2_sampleAt_49 ?_
    refine ez_ldc2d dX2_sampleAt_50 rfl q1124 ?_
    obtain ⟨hg4, h⟩ := zgd_some h
    refine ez_ddiv dX2_sampleAt_53 hg4 ?_
    obtain ⟨hg5, h⟩ := zgd_some h
    refine ez_d2f dX2_sampleAt_54 hg5 ?_
    obtain ⟨r6, hq7, h⟩ := zbj_some h
    refine ez_callS (Y' := YX2_clipped) (vs := [.float (FP.d2f (FP.ddiv (FP.l2d a2) (4638707616191610880 : UInt64)))]) (rest := []) dX2_sampleAt_55 rfl zkX2_clipped q1125 q1126 q54 znX2_clipped (Nat.le_of_ble_eq_true rfl) (Nat.le_of_ble_eq_true rfl) rfl (wX2_clipped (d := d + 0) hq7 (zBack_v ?_))
    show zEF G (d + 1) K YX2_sampleAt 58 [some (.ref a0), some (.int b0), some (.int b1), some (.long a2), none] [.float r6] (zm a0 g0 M) Q
    obtain rfl := Option.some.inj h
    exact ez_fret dX2_sampleAt_58 rfl kq
  · replace h := zif_f hs0 h
    by_cases hs1 : (M.A 1 b0.toNatClampNeg) = (1 : Int32)
    · replace h := zif_t hs1 h
      refine ez_tableIn (tgt := 59) (off := 41) dX2_sampleAt_18 (by rw [hs1]; decide) (by rw [hs1]; decide) (by rw [hs1]; rfl) (by decide) ?_
      refine ez_lload_n (i := 3) (x := a2) dX2_sampleAt_59 rfl rfl ?_
      refine ez_l2d dX2_sampleAt_60 ?_
      refine ez_ldc2d dX2_sampleAt_61 rfl q1130 ?_
      obtain ⟨hg8, h⟩ := zgd_some h
      refine ez_ddiv dX2_sampleAt_64 hg8 ?_
      obtain ⟨hg9, h⟩ := zgd_some h
      refine ez_d2f dX2_sampleAt_65 hg9 ?_
      obtain ⟨r10, hq11, h⟩ := zbj_some h
      refine ez_callS (Y' := YX2_clipped) (vs := [.float (FP.d2f (FP.ddiv (FP.l2d a2) (4674736413210574848 : UInt64)))]) (rest := []) dX2_sampleAt_66 rfl zkX2_clipped q1125 q1126 q54 znX2_clipped (Nat.le_of_ble_eq_true rfl) (Nat.le_of_ble_eq_true rfl) rfl (wX2_clipped (d := d + 0) hq11 (zBack_v ?_))
      show zEF G (d + 1) K YX2_sampleAt 69 [some (.ref a0), some (.int b0), some (.int b1), some (.long a2), none] [.float r10] (zm a0 g0 M) Q
      obtain rfl := Option.some.inj h
      exact ez_fret dX2_sampleAt_69 rfl kq
    · replace h := zif_f hs1 h
      by_cases hs2 : (M.A 1 b0.toNatClampNeg) = (2 : Int32)
      · replace h := zif_t hs2 h
        refine ez_tableIn (tgt := 70) (off := 52) dX2_sampleAt_18 (by rw [hs2]; decide) (by rw [hs2]; decide) (by rw [hs2]; rfl) (by decide) ?_
        refine ez_lload_n (i := 3) (x := a2) dX2_sampleAt_70 rfl rfl ?_
        refine ez_l2d dX2_sampleAt_71 ?_
        refine ez_ldc2d dX2_sampleAt_72 rfl q1131 ?_
        obtain ⟨hg12, h⟩ := zgd_some h
        refine ez_ddiv dX2_sampleAt_75 hg12 ?_
        obtain ⟨hg13, h⟩ := zgd_some h
        refine ez_d2f dX2_sampleAt_76 hg13 ?_
        obtain ⟨r14, hq15, h⟩ := zbj_some h
        refine ez_callS (Y' := YX2_clipped) (vs := [.float (FP.d2f (FP.ddiv (FP.l2d a2) (4746794007248502784 : UInt64)))]) (rest := []) dX2_sampleAt_77 rfl zkX2_clipped q1125 q1126 q54 znX2_clipped (Nat.le_of_ble_eq_true rfl) (Nat.le_of_ble_eq_true rfl) rfl (wX2_clipped (d := d + 0) hq15 (zBack_v ?_))
        show zEF G (d + 1) K YX2_sampleAt 80 [some (.ref a0), some (.int b0), some (.int b1), some (.long a2), none] [.float r14] (zm a0 g0 M) Q
        obtain rfl := Option.some.inj h
        exact ez_fret dX2_sampleAt_80 rfl kq
      · replace h := zif_f hs2 h
        by_cases hs3 : (M.A 1 b0.toNatClampNeg) = (3 : Int32)
        · replace h := zif_t hs3 h
          refine ez_tableIn (tgt := 81) (off := 63) dX2_sampleAt_18 (by rw [hs3]; decide) (by rw [hs3]; decide) (by rw [hs3]; rfl) (by decide) ?_
          refine ez_lload_n (i := 3) (x := a2) dX2_sampleAt_81 rfl rfl ?_
          refine ez_l2i dX2_sampleAt_82 ?_
          obtain ⟨hg16, h⟩ := zgd_some h
          refine ez_raw2f dX2_sampleAt_83 rfl q1132 q391 q390 q65 (Nat.le_of_ble_eq_true rfl) hg16 ?_
          obtain ⟨r17, hq18, h⟩ := zbj_some h
          refine ez_callS (Y' := YX2_clipped) (vs := [.float ((a2.toInt32).toUInt32)]) (rest := []) dX2_sampleAt_86 rfl zkX2_clipped q1125 q1126 q54 znX2_clipped (Nat.le_of_ble_eq_true rfl) (Nat.le_of_ble_eq_true rfl) rfl (wX2_clipped (d := d + 0) hq18 (zBack_v ?_))
          show zEF G (d + 1) K YX2_sampleAt 89 [some (.ref a0), some (.int b0), some (.int b1), some (.long a2), none] [.float r17] (zm a0 g0 M) Q
          obtain rfl := Option.some.inj h
          exact ez_fret dX2_sampleAt_89 rfl kq
        · replace h := zif_f hs3 h
          have he0 : (M.A 1 b0.toNatClampNeg).toInt ≠ 0 := zsw_ne hs0
          have he1 : (M.A 1 b0.toNatClampNeg).toInt ≠ 1 := zsw_ne hs1
          have he2 : (M.A 1 b0.toNatClampNeg).toInt ≠ 2 := zsw_ne hs2
          have he3 : (M.A 1 b0.toNatClampNeg).toInt ≠ 3 := zsw_ne hs3
          refine ez_tableOut (tgt := 90) dX2_sampleAt_18 (by omega) (by decide) ?_
          refine ez_lload_n (i := 3) (x := a2) dX2_sampleAt_90 rfl rfl ?_
          obtain ⟨hg19, h⟩ := zgd_some h
          refine ez_raw2d dX2_sampleAt_91 rfl q1133 q395 q394 q66 (Nat.le_of_ble_eq_true rfl) hg19 ?_
          obtain ⟨hg20, h⟩ := zgd_some h
          refine ez_d2f dX2_sampleAt_94 hg20 ?_
          obtain ⟨r21, hq22, h⟩ := zbj_some h
          refine ez_callS (Y' := YX2_clipped) (vs := [.float (FP.d2f (a2.toUInt64))]) (rest := []) dX2_sampleAt_95 rfl zkX2_clipped q1125 q1126 q54 znX2_clipped (Nat.le_of_ble_eq_true rfl) (Nat.le_of_ble_eq_true rfl) rfl (wX2_clipped (d := d + 0) hq22 (zBack_v ?_))
          show zEF G (d + 1) K YX2_sampleAt 98 [some (.ref a0), some (.int b0), some (.int b1), some (.long a2), none] [.float r21] (zm a0 g0 M) Q
          obtain rfl := Option.some.inj h
          exact ez_fret dX2_sampleAt_98 rfl kq
def YX2_sample : zM := (yX2_sample, cX2_sample, 3, (Option.some Jvm.ClassFile.FieldType.int), [], false)
theorem zkX2_sample : zMok YX2_sample := ⟨rfl, q1119, by decide +kernel, by decide +kernel⟩
theorem znX2_sample : (parseMethodDescriptor YX2_sample.nm.desc).map (fun d => d.parameters.length) = some 2 := by decide +kernel
noncomputable def fX2_sample (M : MS) (b0 : Int32) (b1 : Int32) : Option (Int32 × MS) := zbj (fX2_in b0 (0 : Int32) ((M.I 0) - (1 : Int32))) (fun r1 => if r1 = 0 then some ((0 : Int32), M) else zgd (vp_in b0 16) (zbj (fX2_in b1 (0 : Int32) ((M.A 2 b0.toNatClampNeg) - (1 : Int32))) (fun r4 => if r4 = 0 then some ((0 : Int32), M) else zbd (fX2_sampleAt M b0 b1) (fun r6 M7 => zbj (fJ8_floatToIntBits r6) (fun r8 => some (r8, M7))))))
theorem wX2_sample {G : zG} {d : Nat} {K : List Nat} {Q : zO → zS → Prop} {a0 : Nat} {g0 : zS} {M : MS} {b0 : Int32} {b1 : Int32} {p : Int32 × MS} (h : fX2_sample M b0 b1 = some p) (kq : Q (.inl (some (.int p.1))) (zm a0 g0 p.2)) : zEM G (d + 2) K YX2_sample [.ref a0, .int b0, .int b1] (zm a0 g0 M) Q := by
  show zEF G (d + 2) K YX2_sample 0 [some (.ref a0), some (.int b0), some (.int b1)] [] (zm a0 g0 M) Q
  unfold fX2_sample at h
  refine ez_iload_n (i := 1) (x := b0) dX2_sample_0 rfl rfl ?_
  refine ez_iconst (v := 0) dX2_sample_1 (by decide) ?_
  refine ez_aload_n (i := 0) (v := .ref a0) dX2_sample_2 rfl rfl rfl ?_
  refine gM_140 dX2_sample_3 rfl ?_
  refine ez_iconst (v := 1) dX2_sample_6 (by decide) ?_
  refine ez_isub dX2_sample_7 ?_
  obtain ⟨r1, hq2, h⟩ := zbj_some h
  refine ez_callS (Y' := YX2_in) (vs := [.int b0, .int (0 : Int32), .int ((M.I 0) - (1 : Int32))]) (rest := []) dX2_sample_8 rfl zkX2_in q1098 q1099 q54 znX2_in (Nat.le_of_ble_eq_true rfl) (Nat.le_of_ble_eq_true rfl) rfl (wX2_in (d := d + 1) hq2 (zBack_v ?_))
  show zEF G (d + 2) K YX2_sample 11 [some (.ref a0), some (.int b0), some (.int b1)] [.int r1] (zm a0 g0 M) Q
  refine ez_if_eq (tgt := 30) dX2_sample_11 (by decide) (fun hc => ?_) (fun hc => ?_)
  · replace h := zif_t hc h
    refine ez_iconst (v := 0) dX2_sample_30 (by decide) ?_
    obtain rfl := Option.some.inj h
    exact ez_iret dX2_sample_31 rfl rfl kq
  · replace h := zif_f hc h
    refine ez_iload_n (i := 2) (x := b1) dX2_sample_14 rfl rfl ?_
    refine ez_iconst (v := 0) dX2_sample_15 (by decide) ?_
    refine ez_aload_n (i := 0) (v := .ref a0) dX2_sample_16 rfl rfl rfl ?_
    refine gM_13 dX2_sample_17 rfl ?_
    refine ez_iload_n (i := 1) (x := b0) dX2_sample_20 rfl rfl ?_
    obtain ⟨hg3, h⟩ := zgd_some h
    refine lM_2 dX2_sample_21 hg3 ?_
    refine ez_iconst (v := 1) dX2_sample_22 (by decide) ?_
    refine ez_isub dX2_sample_23 ?_
    obtain ⟨r4, hq5, h⟩ := zbj_some h
    refine ez_callS (Y' := YX2_in) (vs := [.int b1, .int (0 : Int32), .int ((M.A 2 b0.toNatClampNeg) - (1 : Int32))]) (rest := []) dX2_sample_24 rfl zkX2_in q1098 q1099 q54 znX2_in (Nat.le_of_ble_eq_true rfl) (Nat.le_of_ble_eq_true rfl) rfl (wX2_in (d := d + 1) hq5 (zBack_v ?_))
    show zEF G (d + 2) K YX2_sample 27 [some (.ref a0), some (.int b0), some (.int b1)] [.int r4] (zm a0 g0 M) Q
    refine ez_if_ne (tgt := 32) dX2_sample_27 (by decide) (fun hc => ?_) (fun hc => ?_)
    · replace h := zif_f hc h
      refine ez_aload_n (i := 0) (v := .ref a0) dX2_sample_32 rfl rfl rfl ?_
      refine ez_iload_n (i := 1) (x := b0) dX2_sample_33 rfl rfl ?_
      refine ez_iload_n (i := 2) (x := b1) dX2_sample_34 rfl rfl ?_
      obtain ⟨r6, M7, hq7, h⟩ := zbd_some h
      refine ez_callV (C := RX2) (Tt := TX2) (N := 53) (Y' := YX2_sampleAt) (vs := [.int b0, .int b1]) (rest := []) dX2_sample_35 rfl zkX2_sampleAt q1120 q1122 rfl slX2_sampleAt (zm0 _ _ _) znX2_sampleAt (Nat.le_of_ble_eq_true rfl) (Nat.le_of_ble_eq_true rfl) rfl (wX2_sampleAt (d := d + 0) hq7 (zBack_v ?_))
      show zEF G (d + 2) K YX2_sample 38 [some (.ref a0), some (.int b0), some (.int b1)] [.float r6] (zm a0 g0 M7) Q
      obtain ⟨r8, hq9, h⟩ := zbj_some h
      refine ez_callS (Y' := YJ8_floatToIntBits) (vs := [.float r6]) (rest := []) dX2_sample_38 rfl zkJ8_floatToIntBits q1134 q417 q65 znJ8_floatToIntBits (Nat.le_of_ble_eq_true rfl) (Nat.le_of_ble_eq_true rfl) rfl (wJ8_floatToIntBits (d := d + 0) hq9 (zBack_v ?_))
      show zEF G (d + 2) K YX2_sample 41 [some (.ref a0), some (.int b0), some (.int b1)] [.int r8] (zm a0 g0 M7) Q
      obtain rfl := Option.some.inj h
      exact ez_iret dX2_sample_41 rfl rfl kq
    · replace h := zif_t hc h
      refine ez_iconst (v := 0) dX2_sample_30 (by decide) ?_
      obtain rfl := Option.some.inj h
      exact ez_iret dX2_sample_31 rfl rfl kq
def YX2_plug : zM := (yX2_plug, cX2_plug, 4, (Option.some Jvm.ClassFile.FieldType.int), [], false)
theorem zkX2_plug : zMok YX2_plug := ⟨rfl, q1138, by decide +kernel, by decide +kernel⟩
theorem znX2_plug : (parseMethodDescriptor YX2_plug.nm.desc).map (fun d => d.parameters.length) = some 3 := by decide +kernel
noncomputable def fX2_plug (M : MS) (b0 : Int32) (b1 : Int32) (b2 : Int32) : Option (Int32 × MS) := zbj (fX2_in b0 (0 : Int32) (7 : Int32)) (fun r1 => if r1 = 0 then some ((-102 : Int32), M) else zbj (fX2_isWithin b1 (3238002688 : UInt32)) (fun r3 => if r3 = 0 then some ((-102 : Int32), M) else zjoin (fun (M5 : MS) (v6 : Int32) (v7 : Int32) (v8 : Int32) => zbj (fX2_isEcho v6) (fun r9 => zjoin (fun (M11 : MS) (v12 : Int32) (v13 : Int32) (v14 : Int32) => zjoin (fun (M15 : MS) (v16 : Int32) (v17 : Int32) (v18 : Int32) => if (M15.I 4) = (12 : Int32) then some ((-104 : Int32), M15) else zbj (fX2_isEcho v16) (fun r19 => zjoin (fun (M21 : MS) (v22 : Int32) (v23 : Int32) (v24 : Int32) => zgd (vp_in (M21.I 4) 12) (zlet (mA M21 5 (M21.I 4).toNatClampNeg v22) (fun M26 => zgd (vn_sni2f v23 = false) (zgd (vp_in (M26.I 4) 12) (zlet (mF M26 6 (M26.I 4).toNatClampNeg (v23.toUInt32)) (fun M29 => zgd (vp_in (M29.I 4) 12) (zlet (mA M29 7 (M29.I 4).toNatClampNeg v24) (fun M31 => zbj (fX2_isEcho v22) (fun r32 => zjoin (fun (M34 : MS) (v35 : Int32) (v36 : Int32) => zgd (vp_in v36 12) (zlet (mA M34 10 v36.toNatClampNeg v35) (fun M38 => zlet (mI M38 4 ((M38.I 4) + (1 : Int32))) (fun M39 => some (((M39.I 4) - (1 : Int32)), M39))))) (fun j40 => if r32 = 0 then j40 M31 (-1 : Int32) (M31.I 4) else j40 M31 v24 (M31.I 4))))))))))) (fun j41 => if r19 = 0 then j41 M15 v16 v17 v18 else if 0 ≤ v18 then j41 M15 v16 v17 v18 else zbd (fX2_finds M15 (5 : Int32)) (fun r42 M43 => some (r42, M43))))) (fun j44 => if v12 = (7 : Int32) then zbj (fX2_in v14 (0 : Int32) ((M11.I 0) - (1 : Int32))) (fun r45 => if r45 = 0 then some ((-102 : Int32), M11) else j44 M11 v12 v13 v14) else j44 M11 v12 v13 v14)) (fun j47 => if r9 = 0 then j47 M5 v6 v7 v8 else if (16 : Int32) < v8 then some ((-102 : Int32), M5) else j47 M5 v6 v7 v8))) (fun j48 => if b0 = (3 : Int32) then zbj (fX2_in b2 (-64 : Int32) (64 : Int32)) (fun r49 => if r49 = 0 then some ((-102 : Int32), M) else j48 M b0 b1 b2) else j48 M b0 b1 b2)))
theorem wX2_plug {G : zG} {d : Nat} {K : List Nat} {Q : zO → zS → Prop} {a0 : Nat} {g0 : zS} {M : MS} {b0 : Int32} {b1 : Int32} {b2 : Int32} {p : Int32 × MS} (h : fX2_plug M b0 b1 b2 = some p) (kq : Q (.inl (some (.int p.1))) (zm a0 g0 p.2)) : zEM G (d + 2) K YX2_plug [.ref a0, .int b0, .int b1, .int b2] (zm a0 g0 M) Q := by
  show zEF G (d + 2) K YX2_plug 0 [some (.ref a0), some (.int b0), some (.int b1), some (.int b2)] [] (zm a0 g0 M) Q
  unfold fX2_plug at h
  refine ez_iload_n (i := 1) (x := b0) dX2_plug_0 rfl rfl ?_
  refine ez_iconst (v := 0) dX2_plug_1 (by decide) ?_
  refine ez_bipush (v := 7) dX2_plug_2 (by decide) ?_
  obtain ⟨r1, hq2, h⟩ := zbj_some h
  refine ez_callS (Y' := YX2_in) (vs := [.int b0, .int (0 : Int32), .int (7 : Int32)]) (rest := []) dX2_plug_4 rfl zkX2_in q1098 q1099 q54 znX2_in (Nat.le_of_ble_eq_true rfl) (Nat.le_of_ble_eq_true rfl) rfl (wX2_in (d := d + 1) hq2 (zBack_v ?_))
  show zEF G (d + 2) K YX2_plug 7 [some (.ref a0), some (.int b0), some (.int b1), some (.int b2)] [.int r1] (zm a0 g0 M) Q
  refine ez_if_eq (tgt := 19) dX2_plug_7 (by decide) (fun hc => ?_) (fun hc => ?_)
  · replace h := zif_t hc h
    refine ez_bipush (v := -102) dX2_plug_19 (by decide) ?_
    obtain rfl := Option.some.inj h
    exact ez_iret dX2_plug_21 rfl rfl kq
  · replace h := zif_f hc h
    refine ez_iload_n (i := 2) (x := b1) dX2_plug_10 rfl rfl ?_
    refine ez_ldcf dX2_plug_11 rfl q1129 ?_
    obtain ⟨r3, hq4, h⟩ := zbj_some h
    refine ez_callS (Y' := YX2_isWithin) (vs := [.int b1, .float (3238002688 : UInt32)]) (rest := []) dX2_plug_13 rfl zkX2_isWithin q1139 q1140 q54 znX2_isWithin (Nat.le_of_ble_eq_true rfl) (Nat.le_of_ble_eq_true rfl) rfl (wX2_isWithin (d := d + 0) hq4 (zBack_v ?_))
    show zEF G (d + 2) K YX2_plug 16 [some (.ref a0), some (.int b0), some (.int b1), some (.int b2)] [.int r3] (zm a0 g0 M) Q
    refine ez_if_ne (tgt := 22) dX2_plug_16 (by decide) (fun hc => ?_) (fun hc => ?_)
    · replace h := zif_f hc h
      refine ez_iload_n (i := 1) (x := b0) dX2_plug_22 rfl rfl ?_
      refine ez_iconst (v := 3) dX2_plug_23 (by decide) ?_
      refine zjoin_use (fun (j : MS → Int32 → Int32 → Int32 → Option (Int32 × MS)) => ∀ (M5 : MS) (v6 : Int32) (v7 : Int32) (v8 : Int32), j M5 v6 v7 v8 = some p → zEF G (d + 2) K YX2_plug 38 [some (.ref a0), some (.int v6), some (.int v7), some (.int v8)] [] (zm a0 g0 M5) Q) h (fun M5 v6 v7 v8 h => ?_) (fun j48 hj48 h => ?_)
      · refine ez_iload_n (i := 1) (x := v6) dX2_plug_38 rfl rfl ?_
        obtain ⟨r9, hq10, h⟩ := zbj_some h
        refine ez_callS (Y' := YX2_isEcho) (vs := [.int v6]) (rest := []) dX2_plug_39 rfl zkX2_isEcho q1144 q1145 q54 znX2_isEcho (Nat.le_of_ble_eq_true rfl) (Nat.le_of_ble_eq_true rfl) rfl (wX2_isEcho (d := d + 1) hq10 (zBack_v ?_))
        show zEF G (d + 2) K YX2_plug 42 [some (.ref a0), some (.int v6), some (.int v7), some (.int v8)] [.int r9] (zm a0 g0 M5) Q
        refine zjoin_use (fun (j : MS → Int32 → Int32 → Int32 → Option (Int32 × MS)) => ∀ (M11 : MS) (v12 : Int32) (v13 : Int32) (v14 : Int32), j M11 v12 v13 v14 = some p → zEF G (d + 2) K YX2_plug 51 [some (.ref a0), some (.int v12), some (.int v13), some (.int v14)] [] (zm a0 g0 M11) Q) h (fun M11 v12 v13 v14 h => ?_) (fun j47 hj47 h => ?_)
        · refine ez_iload_n (i := 1) (x := v12) dX2_plug_51 rfl rfl ?_
          refine ez_bipush (v := 7) dX2_plug_52 (by decide) ?_
          refine zjoin_use (fun (j : MS → Int32 → Int32 → Int32 → Option (Int32 × MS)) => ∀ (M15 : MS) (v16 : Int32) (v17 : Int32) (v18 : Int32), j M15 v16 v17 v18 = some p → zEF G (d + 2) K YX2_plug 74 [some (.ref a0), some (.int v16), some (.int v17), some (.int v18)] [] (zm a0 g0 M15) Q) h (fun M15 v16 v17 v18 h => ?_) (fun j44 hj44 h => ?_)
          · refine ez_aload_n (i := 0) (v := .ref a0) dX2_plug_74 rfl rfl rfl ?_
            refine gM_203 dX2_plug_75 rfl ?_
            refine ez_bipush (v := 12) dX2_plug_78 (by decide) ?_
            refine ez_icmp_ne (tgt := 86) dX2_plug_80 (by decide) (fun hc => ?_) (fun hc => ?_)
            · replace h := zif_f hc h
              refine ez_iload_n (i := 1) (x := v16) dX2_plug_86 rfl rfl ?_
              obtain ⟨r19, hq20, h⟩ := zbj_some h
              refine ez_callS (Y' := YX2_isEcho) (vs := [.int v16]) (rest := []) dX2_plug_87 rfl zkX2_isEcho q1144 q1145 q54 znX2_isEcho (Nat.le_of_ble_eq_true rfl) (Nat.le_of_ble_eq_true rfl) rfl (wX2_isEcho (d := d + 1) hq20 (zBack_v ?_))
              show zEF G (d + 2) K YX2_plug 90 [some (.ref a0), some (.int v16), some (.int v17), some (.int v18)] [.int r19] (zm a0 g0 M15) Q
              refine zjoin_use (fun (j : MS → Int32 → Int32 → Int32 → Option (Int32 × MS)) => ∀ (M21 : MS) (v22 : Int32) (v23 : Int32) (v24 : Int32), j M21 v22 v23 v24 = some p → zEF G (d + 2) K YX2_plug 103 [some (.ref a0), some (.int v22), some (.int v23), some (.int v24)] [] (zm a0 g0 M21) Q) h (fun M21 v22 v23 v24 h => ?_) (fun j41 hj41 h => ?_)
              · refine ez_aload_n (i := 0) (v := .ref a0) dX2_plug_103 rfl rfl rfl ?_
                refine gM_20 dX2_plug_104 rfl ?_
                refine ez_aload_n (i := 0) (v := .ref a0) dX2_plug_107 rfl rfl rfl ?_
                refine gM_203 dX2_plug_108 rfl ?_
                refine ez_iload_n (i := 1) (x := v22) dX2_plug_111 rfl rfl ?_
                obtain ⟨hg25, h⟩ := zgd_some h
                refine sM_5 dX2_plug_112 hg25 ?_
                refine zlet_use (fun M26 => zEF G (d + 2) K YX2_plug 113 [some (.ref a0), some (.int v22), some (.int v23), some (.int v24)] [] (zm a0 g0 M26) Q) h (fun M26 h => ?_)
                refine ez_aload_n (i := 0) (v := .ref a0) dX2_plug_113 rfl rfl rfl ?_
                refine gM_23 dX2_plug_114 rfl ?_
                refine ez_aload_n (i := 0) (v := .ref a0) dX2_plug_117 rfl rfl rfl ?_
                refine gM_203 dX2_plug_118 rfl ?_
                refine ez_iload_n (i := 2) (x := v23) dX2_plug_121 rfl rfl ?_
                obtain ⟨hg27, h⟩ := zgd_some h
                refine ez_raw2f dX2_plug_122 rfl q1132 q391 q390 q65 (Nat.le_of_ble_eq_true rfl) hg27 ?_
                obtain ⟨hg28, h⟩ := zgd_some h
                refine sM_6 dX2_plug_125 hg28 ?_
                refine zlet_use (fun M29 => zEF G (d + 2) K YX2_plug 126 [some (.ref a0), some (.int v22), some (.int v23), some (.int v24)] [] (zm a0 g0 M29) Q) h (fun M29 h => ?_)
                refine ez_aload_n (i := 0) (v := .ref a0) dX2_plug_126 rfl rfl rfl ?_
                refine gM_27 dX2_plug_127 rfl ?_
                refine ez_aload_n (i := 0) (v := .ref a0) dX2_plug_130 rfl rfl rfl ?_
                refine gM_203 dX2_plug_131 rfl ?_
                refine ez_iload_n (i := 3) (x := v24) dX2_plug_134 rfl rfl ?_
                obtain ⟨hg30, h⟩ := zgd_some h
                refine sM_7 dX2_plug_135 hg30 ?_
                refine zlet_use (fun M31 => zEF G (d + 2) K YX2_plug 136 [some (.ref a0), some (.int v22), some (.int v23), some (.int v24)] [] (zm a0 g0 M31) Q) h (fun M31 h => ?_)
                refine ez_aload_n (i := 0) (v := .ref a0) dX2_plug_136 rfl rfl rfl ?_
                refine gM_36 dX2_plug_137 rfl ?_
                refine ez_aload_n (i := 0) (v := .ref a0) dX2_plug_140 rfl rfl rfl ?_
                refine gM_203 dX2_plug_141 rfl ?_
                refine ez_iload_n (i := 1) (x := v22) dX2_plug_144 rfl rfl ?_
                obtain ⟨r32, hq33, h⟩ := zbj_some h
                refine ez_callS (Y' := YX2_isEcho) (vs := [.int v22]) (rest := [.int (M31.I 4), .ref (a0 + 9)]) dX2_plug_145 rfl zkX2_isEcho q1144 q1145 q54 znX2_isEcho (Nat.le_of_ble_eq_true rfl) (Nat.le_of_ble_eq_true rfl) rfl (wX2_isEcho (d := d + 1) hq33 (zBack_v ?_))
                show zEF G (d + 2) K YX2_plug 148 [some (.ref a0), some (.int v22), some (.int v23), some (.int v24)] [.int r32, .int (M31.I 4), .ref (a0 + 9)] (zm a0 g0 M31) Q
                refine zjoin_use (fun (j : MS → Int32 → Int32 → Option (Int32 × MS)) => ∀ (M34 : MS) (v35 : Int32) (v36 : Int32), j M34 v35 v36 = some p → zEF G (d + 2) K YX2_plug 156 [some (.ref a0), none, none, none] [.int v35, .int v36, .ref (a0 + 9)] (zm a0 g0 M34) Q) h (fun M34 v35 v36 h => ?_) (fun j40 hj40 h => ?_)
                · obtain ⟨hg37, h⟩ := zgd_some h
                  refine sM_10 dX2_plug_156 hg37 ?_
                  refine zlet_use (fun M38 => zEF G (d + 2) K YX2_plug 157 [some (.ref a0), none, none, none] [] (zm a0 g0 M38) Q) h (fun M38 h => ?_)
                  refine ez_aload_n (i := 0) (v := .ref a0) dX2_plug_157 rfl rfl rfl ?_
                  refine ez_dup dX2_plug_158 rfl ?_
                  refine gM_203 dX2_plug_159 rfl ?_
                  refine ez_iconst (v := 1) dX2_plug_162 (by decide) ?_
                  refine ez_iadd dX2_plug_163 ?_
                  refine pM_203 dX2_plug_164 rfl ?_
                  refine zlet_use (fun M39 => zEF G (d + 2) K YX2_plug 167 [some (.ref a0), none, none, none] [] (zm a0 g0 M39) Q) h (fun M39 h => ?_)
                  refine ez_aload_n (i := 0) (v := .ref a0) dX2_plug_167 rfl rfl rfl ?_
                  refine gM_203 dX2_plug_168 rfl ?_
                  refine ez_iconst (v := 1) dX2_plug_171 (by decide) ?_
                  refine ez_isub dX2_plug_172 ?_
                  obtain rfl := Option.some.inj h
                  exact ez_iret dX2_plug_173 rfl rfl kq
                · refine ez_if_eq (tgt := 155) dX2_plug_148 (by decide) (fun hc => ?_) (fun hc => ?_)
                  · replace h := zif_t hc h
                    refine ez_iconst (v := -1) dX2_plug_155 (by decide) ?_
                    refine ez_clr 1 ?_
                    refine ez_clr 2 ?_
                    refine ez_clr 3 ?_
                    exact hj40 M31 (-1 : Int32) (M31.I 4) h
                  · replace h := zif_f hc h
                    refine ez_iload_n (i := 3) (x := v24) dX2_plug_151 rfl rfl ?_
                    refine ez_goto (tgt := 156) dX2_plug_152 (by decide) ?_
                    refine ez_clr 1 ?_
                    refine ez_clr 2 ?_
                    refine ez_clr 3 ?_
                    exact hj40 M31 v24 (M31.I 4) h
              · refine ez_if_eq (tgt := 103) dX2_plug_90 (by decide) (fun hc => ?_) (fun hc => ?_)
                · replace h := zif_t hc h
                  exact hj41 M15 v16 v17 v18 h
                · replace h := zif_f hc h
                  refine ez_iload_n (i := 3) (x := v18) dX2_plug_93 rfl rfl ?_
                  refine ez_if_ge (tgt := 103) dX2_plug_94 (by decide) (fun hc => ?_) (fun hc => ?_)
                  · replace h := zif_t hc h
                    exact hj41 M15 v16 v17 v18 h
                  · replace h := zif_f hc h
                    refine ez_aload_n (i := 0) (v := .ref a0) dX2_plug_97 rfl rfl rfl ?_
                    refine ez_iconst (v := 5) dX2_plug_98 (by decide) ?_
                    obtain ⟨r42, M43, hq43, h⟩ := zbd_some h
                    refine ez_callV (C := RX2) (Tt := TX2) (N := 53) (Y' := YX2_finds) (vs := [.int (5 : Int32)]) (rest := []) dX2_plug_99 rfl zkX2_finds q1101 q1103 rfl slX2_finds (zm0 _ _ _) znX2_finds (Nat.le_of_ble_eq_true rfl) (Nat.le_of_ble_eq_true rfl) rfl (wX2_finds (d := d + 1) hq43 (zBack_v ?_))
                    show zEF G (d + 2) K YX2_plug 102 [some (.ref a0), some (.int v16), some (.int v17), some (.int v18)] [.int r42] (zm a0 g0 M43) Q
                    obtain rfl := Option.some.inj h
                    exact ez_iret dX2_plug_102 rfl rfl kq
            · replace h := zif_t hc h
              refine ez_bipush (v := -104) dX2_plug_83 (by decide) ?_
              obtain rfl := Option.some.inj h
              exact ez_iret dX2_plug_85 rfl rfl kq
          · refine ez_icmp_ne (tgt := 74) dX2_plug_54 (by decide) (fun hc => ?_) (fun hc => ?_)
            · replace h := zif_f hc h
              exact hj44 M11 v12 v13 v14 h
            · replace h := zif_t hc h
              refine ez_iload_n (i := 3) (x := v14) dX2_plug_57 rfl rfl ?_
              refine ez_iconst (v := 0) dX2_plug_58 (by decide) ?_
              refine ez_aload_n (i := 0) (v := .ref a0) dX2_plug_59 rfl rfl rfl ?_
              refine gM_140 dX2_plug_60 rfl ?_
              refine ez_iconst (v := 1) dX2_plug_63 (by decide) ?_
              refine ez_isub dX2_plug_64 ?_
              obtain ⟨r45, hq46, h⟩ := zbj_some h
              refine ez_callS (Y' := YX2_in) (vs := [.int v14, .int (0 : Int32), .int ((M11.I 0) - (1 : Int32))]) (rest := []) dX2_plug_65 rfl zkX2_in q1098 q1099 q54 znX2_in (Nat.le_of_ble_eq_true rfl) (Nat.le_of_ble_eq_true rfl) rfl (wX2_in (d := d + 1) hq46 (zBack_v ?_))
              show zEF G (d + 2) K YX2_plug 68 [some (.ref a0), some (.int v12), some (.int v13), some (.int v14)] [.int r45] (zm a0 g0 M11) Q
              refine ez_if_ne (tgt := 74) dX2_plug_68 (by decide) (fun hc => ?_) (fun hc => ?_)
              · replace h := zif_f hc h
                exact hj44 M11 v12 v13 v14 h
              · replace h := zif_t hc h
                refine ez_bipush (v := -102) dX2_plug_71 (by decide) ?_
                obtain rfl := Option.some.inj h
                exact ez_iret dX2_plug_73 rfl rfl kq
        · refine ez_if_eq (tgt := 51) dX2_plug_42 (by decide) (fun hc => ?_) (fun hc => ?_)
          · replace h := zif_t hc h
            exact hj47 M5 v6 v7 v8 h
          · replace h := zif_f hc h
            refine ez_iload_n (i := 3) (x := v8) dX2_plug_45 rfl rfl ?_
            refine ez_bipush (v := 16) dX2_plug_46 (by decide) ?_
            refine ez_icmp_gt (tgt := 71) dX2_plug_48 (by decide) (fun hc => ?_) (fun hc => ?_)
            · replace h := zif_t hc h
              refine ez_bipush (v := -102) dX2_plug_71 (by decide) ?_
              obtain rfl := Option.some.inj h
              exact ez_iret dX2_plug_73 rfl rfl kq
            · replace h := zif_f hc h
              exact hj47 M5 v6 v7 v8 h
      · refine ez_icmp_ne (tgt := 38) dX2_plug_24 (by decide) (fun hc => ?_) (fun hc => ?_)
        · replace h := zif_f hc h
          exact hj48 M b0 b1 b2 h
        · replace h := zif_t hc h
          refine ez_iload_n (i := 3) (x := b2) dX2_plug_27 rfl rfl ?_
          refine ez_bipush (v := -64) dX2_plug_28 (by decide) ?_
          refine ez_bipush (v := 64) dX2_plug_30 (by decide) ?_
          obtain ⟨r49, hq50, h⟩ := zbj_some h
          refine ez_callS (Y' := YX2_in) (vs := [.int b2, .int (-64 : Int32), .int (64 : Int32)]) (rest := []) dX2_plug_32 rfl zkX2_in q1098 q1099 q54 znX2_in (Nat.le_of_ble_eq_true rfl) (Nat.le_of_ble_eq_true rfl) rfl (wX2_in (d := d + 1) hq50 (zBack_v ?_))
          show zEF G (d + 2) K YX2_plug 35 [some (.ref a0), some (.int b0), some (.int b1), some (.int b2)] [.int r49] (zm a0 g0 M) Q
          refine ez_if_eq (tgt := 71) dX2_plug_35 (by decide) (fun hc => ?_) (fun hc => ?_)
          · replace h := zif_t hc h
            refine ez_bipush (v := -102) dX2_plug_71 (by decide) ?_
            obtain rfl := Option.some.inj h
            exact ez_iret dX2_plug_73 rfl rfl kq
          · replace h := zif_f hc h
            exact hj48 M b0 b1 b2 h
    · replace h := zif_t hc h
      refine ez_bipush (v := -102) dX2_plug_19 (by decide) ?_
      obtain rfl := Option.some.inj h
      exact ez_iret dX2_plug_21 rfl rfl kq
def YX2_tail : zM := (yX2_tail, cX2_tail, 2, (Option.some Jvm.ClassFile.FieldType.int), [], false)
theorem zkX2_tail : zMok YX2_tail := ⟨rfl, q1154, by decide +kernel, by decide +kernel⟩
theorem znX2_tail : (parseMethodDescriptor YX2_tail.nm.desc).map (fun d => d.parameters.length) = some 1 := by decide +kernel
theorem slX2_tail : Cond.selects RX2 yX2_tail yX2_tail ∈ lw_all := lw_w 28 rfl rfl
noncomputable def fX2_tail (M : MS) (b0 : Int32) : Option (Int32 × MS) := zgd (vp_in b0 12) (if (M.A 5 b0.toNatClampNeg) = (1 : Int32) then some ((1 : Int32), M) else if (M.A 5 b0.toNatClampNeg) = (2 : Int32) then some ((3 : Int32), M) else if (M.A 5 b0.toNatClampNeg) = (3 : Int32) then some ((0 : Int32), M) else if (M.A 5 b0.toNatClampNeg) = (4 : Int32) then zgd (vp_in b0 12) (some ((M.A 7 b0.toNatClampNeg), M)) else if (M.A 5 b0.toNatClampNeg) = (5 : Int32) then zgd (vp_in b0 12) (some (((M.A 7 b0.toNatClampNeg) + (3 : Int32)), M)) else some ((0 : Int32), M))
theorem wX2_tail {G : zG} {d : Nat} {K : List Nat} {Q : zO → zS → Prop} {a0 : Nat} {g0 : zS} {M : MS} {b0 : Int32} {p : Int32 × MS} (h : fX2_tail M b0 = some p) (kq : Q (.inl (some (.int p.1))) (zm a0 g0 p.2)) : zEM G (d + 0) K YX2_tail [.ref a0, .int b0] (zm a0 g0 M) Q := by
  show zEF G (d + 0) K YX2_tail 0 [some (.ref a0), some (.int b0)] [] (zm a0 g0 M) Q
  unfold fX2_tail at h
  refine ez_aload_n (i := 0) (v := .ref a0) dX2_tail_0 rfl rfl rfl ?_
  refine gM_20 dX2_tail_1 rfl ?_
  refine ez_iload_n (i := 1) (x := b0) dX2_tail_4 rfl rfl ?_
  obtain ⟨hg1, h⟩ := zgd_some h
  refine lM_5 dX2_tail_5 hg1 ?_
  by_cases hs0 : (M.A 5 b0.toNatClampNeg) = (1 : Int32)
  · replace h := zif_t hs0 h
    refine ez_tableIn (tgt := 40) (off := 34) dX2_tail_6 (by rw [hs0]; decide) (by rw [hs0]; decide) (by rw [hs0]; rfl) (by decide) ?_
    refine ez_iconst (v := 1) dX2_tail_40 (by decide) ?_
    obtain rfl := Option.some.inj h
    exact ez_iret dX2_tail_41 rfl rfl kq
  · replace h := zif_f hs0 h
    by_cases hs1 : (M.A 5 b0.toNatClampNeg) = (2 : Int32)
    · replace h := zif_t hs1 h
      refine ez_tableIn (tgt := 42) (off := 36) dX2_tail_6 (by rw [hs1]; decide) (by rw [hs1]; decide) (by rw [hs1]; rfl) (by decide) ?_
      refine ez_iconst (v := 3) dX2_tail_42 (by decide) ?_
      obtain rfl := Option.some.inj h
      exact ez_iret dX2_tail_43 rfl rfl kq
    · replace h := zif_f hs1 h
      by_cases hs2 : (M.A 5 b0.toNatClampNeg) = (3 : Int32)
      · replace h := zif_t hs2 h
        refine ez_tableIn (tgt := 60) (off := 54) dX2_tail_6 (by rw [hs2]; decide) (by rw [hs2]; decide) (by rw [hs2]; rfl) (by decide) ?_
        refine ez_iconst (v := 0) dX2_tail_60 (by decide) ?_
        obtain rfl := Option.some.inj h
        exact ez_iret dX2_tail_61 rfl rfl kq
      · replace h := zif_f hs2 h
        by_cases hs3 : (M.A 5 b0.toNatClampNeg) = (4 : Int32)
        · replace h := zif_t hs3 h
          refine ez_tableIn (tgt := 44) (off := 38) dX2_tail_6 (by rw [hs3]; decide) (by rw [hs3]; decide) (by rw [hs3]; rfl) (by decide) ?_
          refine ez_aload_n (i := 0) (v := .ref a0) dX2_tail_44 rfl rfl rfl ?_
          refine gM_27 dX2_tail_45 rfl ?_
          refine ez_iload_n (i := 1) (x := b0) dX2_tail_48 rfl rfl ?_
          obtain ⟨hg2, h⟩ := zgd_some h
          refine lM_7 dX2_tail_49 hg2 ?_
          obtain rfl := Option.some.inj h
          exact ez_iret dX2_tail_50 rfl rfl kq
        · replace h := zif_f hs3 h
          by_cases hs4 : (M.A 5 b0.toNatClampNeg) = (5 : Int32)
          · replace h := zif_t hs4 h
            refine ez_tableIn (tgt := 51) (off := 45) dX2_tail_6 (by rw [hs4]; decide) (by rw [hs4]; decide) (by rw [hs4]; rfl) (by decide) ?_
            refine ez_aload_n (i := 0) (v := .ref a0) dX2_tail_51 rfl rfl rfl ?_
            refine gM_27 dX2_tail_52 rfl ?_
            refine ez_iload_n (i := 1) (x := b0) dX2_tail_55 rfl rfl ?_
            obtain ⟨hg3, h⟩ := zgd_some h
            refine lM_7 dX2_tail_56 hg3 ?_
            refine ez_iconst (v := 3) dX2_tail_57 (by decide) ?_
            refine ez_iadd dX2_tail_58 ?_
            obtain rfl := Option.some.inj h
            exact ez_iret dX2_tail_59 rfl rfl kq
          · replace h := zif_f hs4 h
            have he0 : (M.A 5 b0.toNatClampNeg).toInt ≠ 1 := zsw_ne hs0
            have he1 : (M.A 5 b0.toNatClampNeg).toInt ≠ 2 := zsw_ne hs1
            have he2 : (M.A 5 b0.toNatClampNeg).toInt ≠ 3 := zsw_ne hs2
            have he3 : (M.A 5 b0.toNatClampNeg).toInt ≠ 4 := zsw_ne hs3
            have he4 : (M.A 5 b0.toNatClampNeg).toInt ≠ 5 := zsw_ne hs4
            refine ez_tableOut (tgt := 60) dX2_tail_6 (by omega) (by decide) ?_
            refine ez_iconst (v := 0) dX2_tail_60 (by decide) ?_
            obtain rfl := Option.some.inj h
            exact ez_iret dX2_tail_61 rfl rfl kq
def YX2_plugged : zM := (yX2_plugged, cX2_plugged, 3, (Option.some Jvm.ClassFile.FieldType.int), [], false)
theorem zkX2_plugged : zMok YX2_plugged := ⟨rfl, q1150, by decide +kernel, by decide +kernel⟩
theorem znX2_plugged : (parseMethodDescriptor YX2_plugged.nm.desc).map (fun d => d.parameters.length) = some 2 := by decide +kernel
noncomputable def fX2_plugged (M : MS) (b0 : Int32) (b1 : Int32) : Option (Int32 × MS) := zbj (fX2_in b0 (0 : Int32) ((M.I 4) - (1 : Int32))) (fun r1 => if r1 = 0 then some ((-101 : Int32), M) else zbj (fX2_in b1 (0 : Int32) (20 : Int32)) (fun r3 => if r3 = 0 then some ((-102 : Int32), M) else if (3 : Int32) ≤ b1 then zgd (vp_in b0 12) (zbj (fX2_isEcho (M.A 5 b0.toNatClampNeg)) (fun r6 => if r6 = 0 then zbd (fX2_finds M (3 : Int32)) (fun r21 M22 => some (r21, M22)) else if b1 = (3 : Int32) then zgd (vp_in b0 12) (some ((M.A 9 b0.toNatClampNeg), M)) else zgd (vp_in b0 12) (if (M.A 10 b0.toNatClampNeg) = (-1 : Int32) then zbd (fX2_finds M (1 : Int32)) (fun r18 M19 => some (r18, M19)) else if b1 = (4 : Int32) then zgd (vp_in b0 12) (some ((M.A 10 b0.toNatClampNeg), M)) else zgd (vp_in b0 12) (zbj (fX2_in (b1 - (5 : Int32)) (0 : Int32) ((M.A 10 b0.toNatClampNeg) - (1 : Int32))) (fun r10 => if r10 = 0 then zbd (fX2_finds M (2 : Int32)) (fun r12 M13 => some (r12, M13)) else zgd (vp_in ((((16 : Int32) * b0) + b1) - (5 : Int32)) 192) (zbj (fJ8_floatToIntBits (M.F 11 ((((16 : Int32) * b0) + b1) - (5 : Int32)).toNatClampNeg)) (fun r15 => some (r15, M)))))))) else if b1 = 0 then zgd (vp_in b0 12) (some ((M.A 5 b0.toNatClampNeg), M)) else if b1 = (1 : Int32) then zbd (fX2_tail M b0) (fun r24 M25 => some (r24, M25)) else zgd (vp_in b0 12) (some ((M.A 8 b0.toNatClampNeg), M))))
theorem wX2_plugged {G : zG} {d : Nat} {K : List Nat} {Q : zO → zS → Prop} {a0 : Nat} {g0 : zS} {M : MS} {b0 : Int32} {b1 : Int32} {p : Int32 × MS} (h : fX2_plugged M b0 b1 = some p) (kq : Q (.inl (some (.int p.1))) (zm a0 g0 p.2)) : zEM G (d + 2) K YX2_plugged [.ref a0, .int b0, .int b1] (zm a0 g0 M) Q := by
  show zEF G (d + 2) K YX2_plugged 0 [some (.ref a0), some (.int b0), some (.int b1)] [] (zm a0 g0 M) Q
  unfold fX2_plugged at h
  refine ez_iload_n (i := 1) (x := b0) dX2_plugged_0 rfl rfl ?_
  refine ez_iconst (v := 0) dX2_plugged_1 (by decide) ?_
  refine ez_aload_n (i := 0) (v := .ref a0) dX2_plugged_2 rfl rfl rfl ?_
  refine gM_203 dX2_plugged_3 rfl ?_
  refine ez_iconst (v := 1) dX2_plugged_6 (by decide) ?_
  refine ez_isub dX2_plugged_7 ?_
  obtain ⟨r1, hq2, h⟩ := zbj_some h
  refine ez_callS (Y' := YX2_in) (vs := [.int b0, .int (0 : Int32), .int ((M.I 4) - (1 : Int32))]) (rest := []) dX2_plugged_8 rfl zkX2_in q1098 q1099 q54 znX2_in (Nat.le_of_ble_eq_true rfl) (Nat.le_of_ble_eq_true rfl) rfl (wX2_in (d := d + 1) hq2 (zBack_v ?_))
  show zEF G (d + 2) K YX2_plugged 11 [some (.ref a0), some (.int b0), some (.int b1)] [.int r1] (zm a0 g0 M) Q
  refine ez_if_ne (tgt := 17) dX2_plugged_11 (by decide) (fun hc => ?_) (fun hc => ?_)
  · replace h := zif_f hc h
    refine ez_iload_n (i := 2) (x := b1) dX2_plugged_17 rfl rfl ?_
    refine ez_iconst (v := 0) dX2_plugged_18 (by decide) ?_
    refine ez_bipush (v := 20) dX2_plugged_19 (by decide) ?_
    obtain ⟨r3, hq4, h⟩ := zbj_some h
    refine ez_callS (Y' := YX2_in) (vs := [.int b1, .int (0 : Int32), .int (20 : Int32)]) (rest := []) dX2_plugged_21 rfl zkX2_in q1098 q1099 q54 znX2_in (Nat.le_of_ble_eq_true rfl) (Nat.le_of_ble_eq_true rfl) rfl (wX2_in (d := d + 1) hq4 (zBack_v ?_))
    show zEF G (d + 2) K YX2_plugged 24 [some (.ref a0), some (.int b0), some (.int b1)] [.int r3] (zm a0 g0 M) Q
    refine ez_if_ne (tgt := 30) dX2_plugged_24 (by decide) (fun hc => ?_) (fun hc => ?_)
    · replace h := zif_f hc h
      refine ez_iload_n (i := 2) (x := b1) dX2_plugged_30 rfl rfl ?_
      refine ez_iconst (v := 3) dX2_plugged_31 (by decide) ?_
      refine ez_icmp_ge (tgt := 68) dX2_plugged_32 (by decide) (fun hc => ?_) (fun hc => ?_)
      · replace h := zif_t hc h
        refine ez_aload_n (i := 0) (v := .ref a0) dX2_plugged_68 rfl rfl rfl ?_
        refine gM_20 dX2_plugged_69 rfl ?_
        refine ez_iload_n (i := 1) (x := b0) dX2_plugged_72 rfl rfl ?_
        obtain ⟨hg5, h⟩ := zgd_some h
        refine lM_5 dX2_plugged_73 hg5 ?_
        obtain ⟨r6, hq7, h⟩ := zbj_some h
        refine ez_callS (Y' := YX2_isEcho) (vs := [.int (M.A 5 b0.toNatClampNeg)]) (rest := []) dX2_plugged_74 rfl zkX2_isEcho q1144 q1145 q54 znX2_isEcho (Nat.le_of_ble_eq_true rfl) (Nat.le_of_ble_eq_true rfl) rfl (wX2_isEcho (d := d + 1) hq7 (zBack_v ?_))
        show zEF G (d + 2) K YX2_plugged 77 [some (.ref a0), some (.int b0), some (.int b1)] [.int r6] (zm a0 g0 M) Q
        refine ez_if_ne (tgt := 86) dX2_plugged_77 (by decide) (fun hc => ?_) (fun hc => ?_)
        · replace h := zif_f hc h
          refine ez_iload_n (i := 2) (x := b1) dX2_plugged_86 rfl rfl ?_
          refine ez_iconst (v := 3) dX2_plugged_87 (by decide) ?_
          refine ez_icmp_ne (tgt := 98) dX2_plugged_88 (by decide) (fun hc => ?_) (fun hc => ?_)
          · replace h := zif_f hc h
            refine ez_aload_n (i := 0) (v := .ref a0) dX2_plugged_98 rfl rfl rfl ?_
            refine gM_36 dX2_plugged_99 rfl ?_
            refine ez_iload_n (i := 1) (x := b0) dX2_plugged_102 rfl rfl ?_
            obtain ⟨hg8, h⟩ := zgd_some h
            refine lM_10 dX2_plugged_103 hg8 ?_
            refine ez_iconst (v := -1) dX2_plugged_104 (by decide) ?_
            refine ez_icmp_ne (tgt := 114) dX2_plugged_105 (by decide) (fun hc => ?_) (fun hc => ?_)
            · replace h := zif_f hc h
              refine ez_iload_n (i := 2) (x := b1) dX2_plugged_114 rfl rfl ?_
              refine ez_iconst (v := 4) dX2_plugged_115 (by decide) ?_
              refine ez_icmp_ne (tgt := 126) dX2_plugged_116 (by decide) (fun hc => ?_) (fun hc => ?_)
              · replace h := zif_f hc h
                refine ez_iload_n (i := 2) (x := b1) dX2_plugged_126 rfl rfl ?_
                refine ez_iconst (v := 5) dX2_plugged_127 (by decide) ?_
                refine ez_isub dX2_plugged_128 ?_
                refine ez_iconst (v := 0) dX2_plugged_129 (by decide) ?_
                refine ez_aload_n (i := 0) (v := .ref a0) dX2_plugged_130 rfl rfl rfl ?_
                refine gM_36 dX2_plugged_131 rfl ?_
                refine ez_iload_n (i := 1) (x := b0) dX2_plugged_134 rfl rfl ?_
                obtain ⟨hg9, h⟩ := zgd_some h
                refine lM_10 dX2_plugged_135 hg9 ?_
                refine ez_iconst (v := 1) dX2_plugged_136 (by decide) ?_
                refine ez_isub dX2_plugged_137 ?_
                obtain ⟨r10, hq11, h⟩ := zbj_some h
                refine ez_callS (Y' := YX2_in) (vs := [.int (b1 - (5 : Int32)), .int (0 : Int32), .int ((M.A 10 b0.toNatClampNeg) - (1 : Int32))]) (rest := []) dX2_plugged_138 rfl zkX2_in q1098 q1099 q54 znX2_in (Nat.le_of_ble_eq_true rfl) (Nat.le_of_ble_eq_true rfl) rfl (wX2_in (d := d + 1) hq11 (zBack_v ?_))
                show zEF G (d + 2) K YX2_plugged 141 [some (.ref a0), some (.int b0), some (.int b1)] [.int r10] (zm a0 g0 M) Q
                refine ez_if_eq (tgt := 163) dX2_plugged_141 (by decide) (fun hc => ?_) (fun hc => ?_)
                · replace h := zif_t hc h
                  refine ez_aload_n (i := 0) (v := .ref a0) dX2_plugged_163 rfl rfl rfl ?_
                  refine ez_iconst (v := 2) dX2_plugged_164 (by decide) ?_
                  obtain ⟨r12, M13, hq13, h⟩ := zbd_some h
                  refine ez_callV (C := RX2) (Tt := TX2) (N := 53) (Y' := YX2_finds) (vs := [.int (2 : Int32)]) (rest := []) dX2_plugged_165 rfl zkX2_finds q1101 q1103 rfl slX2_finds (zm0 _ _ _) znX2_finds (Nat.le_of_ble_eq_true rfl) (Nat.le_of_ble_eq_true rfl) rfl (wX2_finds (d := d + 1) hq13 (zBack_v ?_))
                  show zEF G (d + 2) K YX2_plugged 168 [some (.ref a0), some (.int b0), some (.int b1)] [.int r12] (zm a0 g0 M13) Q
                  obtain rfl := Option.some.inj h
                  exact ez_iret dX2_plugged_168 rfl rfl kq
                · replace h := zif_f hc h
                  refine ez_aload_n (i := 0) (v := .ref a0) dX2_plugged_144 rfl rfl rfl ?_
                  refine gM_39 dX2_plugged_145 rfl ?_
                  refine ez_bipush (v := 16) dX2_plugged_148 (by decide) ?_
                  refine ez_iload_n (i := 1) (x := b0) dX2_plugged_150 rfl rfl ?_
                  refine ez_imul dX2_plugged_151 ?_
                  refine ez_iload_n (i := 2) (x := b1) dX2_plugged_152 rfl rfl ?_
                  refine ez_iadd dX2_plugged_153 ?_
                  refine ez_iconst (v := 5) dX2_plugged_154 (by decide) ?_
                  refine ez_isub dX2_plugged_155 ?_
                  obtain ⟨hg14, h⟩ := zgd_some h
                  refine lM_11 dX2_plugged_156 hg14 ?_
                  obtain ⟨r15, hq16, h⟩ := zbj_some h
                  refine ez_callS (Y' := YJ8_floatToIntBits) (vs := [.float (M.F 11 ((((16 : Int32) * b0) + b1) - (5 : Int32)).toNatClampNeg)]) (rest := []) dX2_plugged_157 rfl zkJ8_floatToIntBits q1134 q417 q65 znJ8_floatToIntBits (Nat.le_of_ble_eq_true rfl) (Nat.le_of_ble_eq_true rfl) rfl (wJ8_floatToIntBits (d := d + 0) hq16 (zBack_v ?_))
                  show zEF G (d + 2) K YX2_plugged 160 [some (.ref a0), some (.int b0), some (.int b1)] [.int r15] (zm a0 g0 M) Q
                  refine ez_goto (tgt := 168) dX2_plugged_160 (by decide) ?_
                  obtain rfl := Option.some.inj h
                  exact ez_iret dX2_plugged_168 rfl rfl kq
              · replace h := zif_t hc h
                refine ez_aload_n (i := 0) (v := .ref a0) dX2_plugged_119 rfl rfl rfl ?_
                refine gM_36 dX2_plugged_120 rfl ?_
                refine ez_iload_n (i := 1) (x := b0) dX2_plugged_123 rfl rfl ?_
                obtain ⟨hg17, h⟩ := zgd_some h
                refine lM_10 dX2_plugged_124 hg17 ?_
                obtain rfl := Option.some.inj h
                exact ez_iret dX2_plugged_125 rfl rfl kq
            · replace h := zif_t hc h
              refine ez_aload_n (i := 0) (v := .ref a0) dX2_plugged_108 rfl rfl rfl ?_
              refine ez_iconst (v := 1) dX2_plugged_109 (by decide) ?_
              obtain ⟨r18, M19, hq19, h⟩ := zbd_some h
              refine ez_callV (C := RX2) (Tt := TX2) (N := 53) (Y' := YX2_finds) (vs := [.int (1 : Int32)]) (rest := []) dX2_plugged_110 rfl zkX2_finds q1101 q1103 rfl slX2_finds (zm0 _ _ _) znX2_finds (Nat.le_of_ble_eq_true rfl) (Nat.le_of_ble_eq_true rfl) rfl (wX2_finds (d := d + 1) hq19 (zBack_v ?_))
              show zEF G (d + 2) K YX2_plugged 113 [some (.ref a0), some (.int b0), some (.int b1)] [.int r18] (zm a0 g0 M19) Q
              obtain rfl := Option.some.inj h
              exact ez_iret dX2_plugged_113 rfl rfl kq
          · replace h := zif_t hc h
            refine ez_aload_n (i := 0) (v := .ref a0) dX2_plugged_91 rfl rfl rfl ?_
            refine gM_33 dX2_plugged_92 rfl ?_
            refine ez_iload_n (i := 1) (x := b0) dX2_plugged_95 rfl rfl ?_
            obtain ⟨hg20, h⟩ := zgd_some h
            refine lM_9 dX2_plugged_96 hg20 ?_
            obtain rfl := Option.some.inj h
            exact ez_iret dX2_plugged_97 rfl rfl kq
        · replace h := zif_t hc h
          refine ez_aload_n (i := 0) (v := .ref a0) dX2_plugged_80 rfl rfl rfl ?_
          refine ez_iconst (v := 3) dX2_plugged_81 (by decide) ?_
          obtain ⟨r21, M22, hq22, h⟩ := zbd_some h
          refine ez_callV (C := RX2) (Tt := TX2) (N := 53) (Y' := YX2_finds) (vs := [.int (3 : Int32)]) (rest := []) dX2_plugged_82 rfl zkX2_finds q1101 q1103 rfl slX2_finds (zm0 _ _ _) znX2_finds (Nat.le_of_ble_eq_true rfl) (Nat.le_of_ble_eq_true rfl) rfl (wX2_finds (d := d + 1) hq22 (zBack_v ?_))
          show zEF G (d + 2) K YX2_plugged 85 [some (.ref a0), some (.int b0), some (.int b1)] [.int r21] (zm a0 g0 M22) Q
          obtain rfl := Option.some.inj h
          exact ez_iret dX2_plugged_85 rfl rfl kq
      · replace h := zif_f hc h
        refine ez_iload_n (i := 2) (x := b1) dX2_plugged_35 rfl rfl ?_
        refine ez_if_ne (tgt := 48) dX2_plugged_36 (by decide) (fun hc => ?_) (fun hc => ?_)
        · replace h := zif_f hc h
          refine ez_iload_n (i := 2) (x := b1) dX2_plugged_48 rfl rfl ?_
          refine ez_iconst (v := 1) dX2_plugged_49 (by decide) ?_
          refine ez_icmp_ne (tgt := 61) dX2_plugged_50 (by decide) (fun hc => ?_) (fun hc => ?_)
          · replace h := zif_f hc h
            refine ez_aload_n (i := 0) (v := .ref a0) dX2_plugged_61 rfl rfl rfl ?_
            refine gM_30 dX2_plugged_62 rfl ?_
            refine ez_iload_n (i := 1) (x := b0) dX2_plugged_65 rfl rfl ?_
            obtain ⟨hg23, h⟩ := zgd_some h
            refine lM_8 dX2_plugged_66 hg23 ?_
            obtain rfl := Option.some.inj h
            exact ez_iret dX2_plugged_67 rfl rfl kq
          · replace h := zif_t hc h
            refine ez_aload_n (i := 0) (v := .ref a0) dX2_plugged_53 rfl rfl rfl ?_
            refine ez_iload_n (i := 1) (x := b0) dX2_plugged_54 rfl rfl ?_
            obtain ⟨r24, M25, hq25, h⟩ := zbd_some h
            refine ez_callV (C := RX2) (Tt := TX2) (N := 53) (Y' := YX2_tail) (vs := [.int b0]) (rest := []) dX2_plugged_55 rfl zkX2_tail q1151 q1153 rfl slX2_tail (zm0 _ _ _) znX2_tail (Nat.le_of_ble_eq_true rfl) (Nat.le_of_ble_eq_true rfl) rfl (wX2_tail (d := d + 1) hq25 (zBack_v ?_))
            show zEF G (d + 2) K YX2_plugged 58 [some (.ref a0), some (.int b0), some (.int b1)] [.int r24] (zm a0 g0 M25) Q
            refine ez_goto (tgt := 67) dX2_plugged_58 (by decide) ?_
            obtain rfl := Option.some.inj h
            exact ez_iret dX2_plugged_67 rfl rfl kq
        · replace h := zif_t hc h
          refine ez_aload_n (i := 0) (v := .ref a0) dX2_plugged_39 rfl rfl rfl ?_
          refine gM_20 dX2_plugged_40 rfl ?_
          refine ez_iload_n (i := 1) (x := b0) dX2_plugged_43 rfl rfl ?_
          obtain ⟨hg26, h⟩ := zgd_some h
          refine lM_5 dX2_plugged_44 hg26 ?_
          refine ez_goto (tgt := 67) dX2_plugged_45 (by decide) ?_
          obtain rfl := Option.some.inj h
          exact ez_iret dX2_plugged_67 rfl rfl kq
    · replace h := zif_t hc h
      refine ez_bipush (v := -102) dX2_plugged_27 (by decide) ?_
      obtain rfl := Option.some.inj h
      exact ez_iret dX2_plugged_29 rfl rfl kq
  · replace h := zif_t hc h
    refine ez_bipush (v := -101) dX2_plugged_14 (by decide) ?_
    obtain rfl := Option.some.inj h
    exact ez_iret dX2_plugged_16 rfl rfl kq
def YX2_does : zM := (yX2_does, cX2_does, 7, (Option.some Jvm.ClassFile.FieldType.int), [], false)
theorem zkX2_does : zMok YX2_does := ⟨rfl, q1169, by decide +kernel, by decide +kernel⟩
theorem znX2_does : (parseMethodDescriptor YX2_does.nm.desc).map (fun d => d.parameters.length) = some 5 := by decide +kernel
theorem slX2_does : Cond.selects RX2 yX2_does yX2_does ∈ lw_all := lw_w 30 rfl rfl
noncomputable def fX2_does_L245 : Nat → MS → Int32 → Int32 → (MS → Option (Int32 × MS)) → Option (Int32 × MS)
  | 0, _, _, _, _ => none
  | n + 1, M, y2, y6, k271 => if (16 : Int32) ≤ y6 then k271 M else zgd (vp_in (((16 : Int32) * y2) + y6) 192) (zlet (mF M 11 (((16 : Int32) * y2) + y6).toNatClampNeg FP.fconst0) (fun M12 => fX2_does_L245 n M12 y2 (y6 + (1 : Int32)) k271))
noncomputable def fX2_does_L47 : Nat → MS → Int32 → Int32 → Int32 → (MS → Int32 → Int32 → Option (Int32 × MS)) → Option (Int32 × MS)
  | 0, _, _, _, _, _ => none
  | n + 1, M, y2, y3, y6, k71 => if (4 : Int32) ≤ y6 then k71 M y2 y3 else zgd (vp_in (((4 : Int32) * y2) + y6) 32) (zlet (mA M 19 (((4 : Int32) * y2) + y6).toNatClampNeg (-1 : Int32)) (fun M43 => fX2_does_L47 n M43 y2 y3 (y6 + (1 : Int32)) k71))
noncomputable def fX2_does (M : MS) (b0 : Int32) (b1 : Int32) (b2 : Int32) (b3 : Int32) (b4 : Int32) : Option (Int32 × MS) := zjoin (fun (M1 : MS) => zlet (mI M1 45 ((M1.I 45) + (1 : Int32))) (fun M2 => some ((1 : Int32), M2))) (fun j3 => if b0 = 0 then zgd (vp_in b1 8) (zlet (mA M 14 b1.toNatClampNeg b2) (fun M54 => zgd (vp_in b1 8) (zlet (mA M54 15 b1.toNatClampNeg b3) (fun M56 => zjoin (fun (M57 : MS) (v58 : Int32) (v59 : Int32) => zgd (vp_in v59 8) (zlet (mA M57 16 v59.toNatClampNeg (v58 &&& 1)) (fun M61 => j3 M61))) (fun j62 => if b4 = (1 : Int32) then j62 M56 (1 : Int32) b1 else j62 M56 (0 : Int32) b1))))) else if b0 = (1 : Int32) then fX2_does_L47 1000 M b1 b2 (0 : Int32) (fun (M44 : MS) (x45 : Int32) (x46 : Int32) => zjoin (fun (M47 : MS) (v48 : Int32) (v49 : Int32) => zgd (vp_in v49 8) (zlet (mA M47 18 v49.toNatClampNeg (v48 &&& 1)) (fun M51 => j3 M51))) (fun j52 => if x46 = (1 : Int32) then j52 M44 (1 : Int32) x45 else j52 M44 (0 : Int32) x45)) else if b0 = (2 : Int32) then zbj (fX2_in b2 (0 : Int32) (3 : Int32)) (fun r27 => if r27 = 0 then zbd (fX2_finds M (2 : Int32)) (fun r40 M41 => some (r40, M41)) else zgd (vp_in b1 8) (zjoin (fun (M30 : MS) (v31 : Int32) (v32 : Int32) (v33 : Int32) => zgd (vp_in (((4 : Int32) * v31) + v32) 32) (zlet (mA M30 19 (((4 : Int32) * v31) + v32).toNatClampNeg v33) (fun M35 => j3 M35))) (fun j36 => if (M.A 18 b1.toNatClampNeg) = 0 then j36 M b1 b2 b3 else if b3 = (-1 : Int32) then j36 M b1 b2 b3 else zgd (vp_in b3 12) (if (M.A 5 b3.toNatClampNeg) ≤ (2 : Int32) then j36 M b1 b2 b3 else zbd (fX2_finds M (4 : Int32)) (fun r38 M39 => some (r38, M39)))))) else if b0 = (3 : Int32) then zgd (vn_sni2f b2 = false) (zgd (vp_in b1 8) (zlet (mF M 17 b1.toNatClampNeg (b2.toUInt32)) (fun M26 => j3 M26))) else if b0 = (4 : Int32) then zjoin (fun (M18 : MS) (v19 : Int32) (v20 : Int32) => zgd (vp_in v20 8) (zlet (mA M18 13 v20.toNatClampNeg (v19 &&& 1)) (fun M22 => j3 M22))) (fun j23 => if b2 = (1 : Int32) then j23 M (1 : Int32) b1 else j23 M (0 : Int32) b1) else zgd (vp_in b1 12) (zbj (fX2_isEcho (M.A 5 b1.toNatClampNeg)) (fun r5 => if r5 = 0 then zbd (fX2_finds M (3 : Int32)) (fun r16 M17 => some (r16, M17)) else if (-1 : Int32) ≤ b2 then zgd (vp_in b1 12) (zlet (mA M 10 b1.toNatClampNeg b2) (fun M8 => zgd (vp_in b1 12) (zlet (mA M8 9 b1.toNatClampNeg (0 : Int32)) (fun M10 => fX2_does_L245 1000 M10 b1 (0 : Int32) (fun (M13 : MS) => j3 M13))))) else zbd (fX2_finds M (5 : Int32)) (fun r14 M15 => some (r14, M15)))))
theorem fX2_does_L245_ok {G : zG} {d : Nat} {K : List Nat} {Q : zO → zS → Prop} {a0 : Nat} {g0 : zS} : ∀ (n : Nat) (M : MS) (y2 : Int32) (y6 : Int32) (k271 : MS → Option (Int32 × MS)) (p : Int32 × MS) (h : fX2_does_L245 n M y2 y6 k271 = some p) (hk271 : ∀ (M : MS), k271 M = some p → zEF G (d + 1) K YX2_does 271 [some (.ref a0), none, none, none, none, none, none] [] (zm a0 g0 M) Q) (kq : Q (.inl (some (.int p.1))) (zm a0 g0 p.2)), zEF G (d + 1) K YX2_does 245 [some (.ref a0), none, some (.int y2), none, none, none, some (.int y6)] [] (zm a0 g0 M) Q := by
  intro n
  induction n with
  | zero =>
    intro M y2 y6 k271 p h hk271 kq
    rw [fX2_does_L245] at h
    cases h
  | succ n ih =>
    intro M y2 y6 k271 p h hk271 kq
    rw [fX2_does_L245] at h
    refine ez_iload (i := 6) (x := y6) dX2_does_245 rfl ?_
    refine ez_bipush (v := 16) dX2_does_247 (by decide) ?_
    refine ez_icmp_ge (tgt := 271) dX2_does_249 (by decide) (fun hc => ?_) (fun hc => ?_)
    · replace h := zif_t hc h
      refine ez_clr 2 ?_
      refine ez_clr 6 ?_
      exact hk271 M h
    · replace h := zif_f hc h
      refine ez_aload_n (i := 0) (v := .ref a0) dX2_does_252 rfl rfl rfl ?_
      refine gM_39 dX2_does_253 rfl ?_
      refine ez_bipush (v := 16) dX2_does_256 (by decide) ?_
      refine ez_iload_n (i := 2) (x := y2) dX2_does_258 rfl rfl ?_
      refine ez_imul dX2_does_259 ?_
      refine ez_iload (i := 6) (x := y6) dX2_does_260 rfl ?_
      refine ez_iadd dX2_does_262 ?_
      refine ez_fconst0 dX2_does_263 ?_
      obtain ⟨hg11, h⟩ := zgd_some h
      refine sM_11 dX2_does_264 hg11 ?_
      refine zlet_use (fun M12 => zEF G (d + 1) K YX2_does 265 [some (.ref a0), none, some (.int y2), none, none, none, some (.int y6)] [] (zm a0 g0 M12) Q) h (fun M12 h => ?_)
      refine ez_iinc (x := y6) (v := (y6 + (1 : Int32))) dX2_does_265 rfl rfl (show 6 < 7 by decide) ?_
      show zEF G (d + 1) K YX2_does 268 [some (.ref a0), none, some (.int y2), none, none, none, some (.int (y6 + (1 : Int32)))] [] (zm a0 g0 M12) Q
      refine ez_goto (tgt := 245) dX2_does_268 (by decide) ?_
      exact ih M12 y2 (y6 + (1 : Int32)) _ _ h hk271 kq
theorem fX2_does_L47_ok {G : zG} {d : Nat} {K : List Nat} {Q : zO → zS → Prop} {a0 : Nat} {g0 : zS} : ∀ (n : Nat) (M : MS) (y2 : Int32) (y3 : Int32) (y6 : Int32) (k71 : MS → Int32 → Int32 → Option (Int32 × MS)) (p : Int32 × MS) (h : fX2_does_L47 n M y2 y3 y6 k71 = some p) (hk71 : ∀ (M : MS) (x2 : Int32) (x3 : Int32), k71 M x2 x3 = some p → zEF G (d + 1) K YX2_does 71 [some (.ref a0), none, some (.int x2), some (.int x3), none, none, none] [] (zm a0 g0 M) Q) (kq : Q (.inl (some (.int p.1))) (zm a0 g0 p.2)), zEF G (d + 1) K YX2_does 47 [some (.ref a0), none, some (.int y2), some (.int y3), none, none, some (.int y6)] [] (zm a0 g0 M) Q := by
  intro n
  induction n with
  | zero =>
    intro M y2 y3 y6 k71 p h hk71 kq
    rw [fX2_does_L47] at h
    cases h
  | succ n ih =>
    intro M y2 y3 y6 k71 p h hk71 kq
    rw [fX2_does_L47] at h
    refine ez_iload (i := 6) (x := y6) dX2_does_47 rfl ?_
    refine ez_iconst (v := 4) dX2_does_49 (by decide) ?_
    refine ez_icmp_ge (tgt := 71) dX2_does_50 (by decide) (fun hc => ?_) (fun hc => ?_)
    · replace h := zif_t hc h
      refine ez_clr 6 ?_
      exact hk71 M y2 y3 h
    · replace h := zif_f hc h
      refine ez_aload_n (i := 0) (v := .ref a0) dX2_does_53 rfl rfl rfl ?_
      refine gM_64 dX2_does_54 rfl ?_
      refine ez_iconst (v := 4) dX2_does_57 (by decide) ?_
      refine ez_iload_n (i := 2) (x := y2) dX2_does_58 rfl rfl ?_
      refine ez_imul dX2_does_59 ?_
      refine ez_iload (i := 6) (x := y6) dX2_does_60 rfl ?_
      refine ez_iadd dX2_does_62 ?_
      refine ez_iconst (v := -1) dX2_does_63 (by decide) ?_
      obtain ⟨hg42, h⟩ := zgd_some h
      refine sM_19 dX2_does_64 hg42 ?_
      refine zlet_use (fun M43 => zEF G (d + 1) K YX2_does 65 [some (.ref a0), none, some (.int y2), some (.int y3), none, none, some (.int y6)] [] (zm a0 g0 M43) Q) h (fun M43 h => ?_)
      refine ez_iinc (x := y6) (v := (y6 + (1 : Int32))) dX2_does_65 rfl rfl (show 6 < 7 by decide) ?_
      show zEF G (d + 1) K YX2_does 68 [some (.ref a0), none, some (.int y2), some (.int y3), none, none, some (.int (y6 + (1 : Int32)))] [] (zm a0 g0 M43) Q
      refine ez_goto (tgt := 47) dX2_does_68 (by decide) ?_
      exact ih M43 y2 y3 (y6 + (1 : Int32)) _ _ h hk71 kq
theorem wX2_does {G : zG} {d : Nat} {K : List Nat} {Q : zO → zS → Prop} {a0 : Nat} {g0 : zS} {M : MS} {b0 : Int32} {b1 : Int32} {b2 : Int32} {b3 : Int32} {b4 : Int32} {p : Int32 × MS} (h : fX2_does M b0 b1 b2 b3 b4 = some p) (kq : Q (.inl (some (.int p.1))) (zm a0 g0 p.2)) : zEM G (d + 1) K YX2_does [.ref a0, .int b0, .int b1, .int b2, .int b3, .int b4] (zm a0 g0 M) Q := by
  show zEF G (d + 1) K YX2_does 0 [some (.ref a0), some (.int b0), some (.int b1), some (.int b2), some (.int b3), some (.int b4), none] [] (zm a0 g0 M) Q
  unfold fX2_does at h
  refine ez_iload_n (i := 1) (x := b0) dX2_does_0 rfl rfl ?_
  refine zjoin_use (fun (j : MS → Option (Int32 × MS)) => ∀ (M1 : MS), j M1 = some p → zEF G (d + 1) K YX2_does 271 [some (.ref a0), none, none, none, none, none, none] [] (zm a0 g0 M1) Q) h (fun M1 h => ?_) (fun j3 hj3 h => ?_)
  · refine ez_aload_n (i := 0) (v := .ref a0) dX2_does_271 rfl rfl rfl ?_
    refine ez_dup dX2_does_272 rfl ?_
    refine gM_229 dX2_does_273 rfl ?_
    refine ez_iconst (v := 1) dX2_does_276 (by decide) ?_
    refine ez_iadd dX2_does_277 ?_
    refine pM_229 dX2_does_278 rfl ?_
    refine zlet_use (fun M2 => zEF G (d + 1) K YX2_does 281 [some (.ref a0), none, none, none, none, none, none] [] (zm a0 g0 M2) Q) h (fun M2 h => ?_)
    refine ez_iconst (v := 1) dX2_does_281 (by decide) ?_
    obtain rfl := Option.some.inj h
    exact ez_iret dX2_does_282 rfl rfl kq
  · refine ez_if_ne (tgt := 39) dX2_does_1 (by decide) (fun hc => ?_) (fun hc => ?_)
    · replace h := zif_f hc h
      refine ez_iload_n (i := 1) (x := b0) dX2_does_39 rfl rfl ?_
      refine ez_iconst (v := 1) dX2_does_40 (by decide) ?_
      refine ez_icmp_ne (tgt := 90) dX2_does_41 (by decide) (fun hc => ?_) (fun hc => ?_)
      · replace h := zif_f hc h
        refine ez_iload_n (i := 1) (x := b0) dX2_does_90 rfl rfl ?_
        refine ez_iconst (v := 2) dX2_does_91 (by decide) ?_
        refine ez_icmp_ne (tgt := 157) dX2_does_92 (by decide) (fun hc => ?_) (fun hc => ?_)
        · replace h := zif_f hc h
          refine ez_iload_n (i := 1) (x := b0) dX2_does_157 rfl rfl ?_
          refine ez_iconst (v := 3) dX2_does_158 (by decide) ?_
          refine ez_icmp_ne (tgt := 175) dX2_does_159 (by decide) (fun hc => ?_) (fun hc => ?_)
          · replace h := zif_f hc h
            refine ez_iload_n (i := 1) (x := b0) dX2_does_175 rfl rfl ?_
            refine ez_iconst (v := 4) dX2_does_176 (by decide) ?_
            refine ez_icmp_ne (tgt := 199) dX2_does_177 (by decide) (fun hc => ?_) (fun hc => ?_)
            · replace h := zif_f hc h
              refine ez_aload_n (i := 0) (v := .ref a0) dX2_does_199 rfl rfl rfl ?_
              refine gM_20 dX2_does_200 rfl ?_
              refine ez_iload_n (i := 2) (x := b1) dX2_does_203 rfl rfl ?_
              obtain ⟨hg4, h⟩ := zgd_some h
              refine lM_5 dX2_does_204 hg4 ?_
              obtain ⟨r5, hq6, h⟩ := zbj_some h
              refine ez_callS (Y' := YX2_isEcho) (vs := [.int (M.A 5 b1.toNatClampNeg)]) (rest := []) dX2_does_205 rfl zkX2_isEcho q1144 q1145 q54 znX2_isEcho (Nat.le_of_ble_eq_true rfl) (Nat.le_of_ble_eq_true rfl) rfl (wX2_isEcho (d := d + 0) hq6 (zBack_v ?_))
              show zEF G (d + 1) K YX2_does 208 [some (.ref a0), some (.int b0), some (.int b1), some (.int b2), some (.int b3), some (.int b4), none] [.int r5] (zm a0 g0 M) Q
              refine ez_if_ne (tgt := 217) dX2_does_208 (by decide) (fun hc => ?_) (fun hc => ?_)
              · replace h := zif_f hc h
                refine ez_iload_n (i := 3) (x := b2) dX2_does_217 rfl rfl ?_
                refine ez_iconst (v := -1) dX2_does_218 (by decide) ?_
                refine ez_icmp_ge (tgt := 228) dX2_does_219 (by decide) (fun hc => ?_) (fun hc => ?_)
                · replace h := zif_t hc h
                  refine ez_aload_n (i := 0) (v := .ref a0) dX2_does_228 rfl rfl rfl ?_
                  refine gM_36 dX2_does_229 rfl ?_
                  refine ez_iload_n (i := 2) (x := b1) dX2_does_232 rfl rfl ?_
                  refine ez_iload_n (i := 3) (x := b2) dX2_does_233 rfl rfl ?_
                  obtain ⟨hg7, h⟩ := zgd_some h
                  refine sM_10 dX2_does_234 hg7 ?_
                  refine zlet_use (fun M8 => zEF G (d + 1) K YX2_does 235 [some (.ref a0), some (.int b0), some (.int b1), some (.int b2), some (.int b3), some (.int b4), none] [] (zm a0 g0 M8) Q) h (fun M8 h => ?_)
                  refine ez_aload_n (i := 0) (v := .ref a0) dX2_does_235 rfl rfl rfl ?_
                  refine gM_33 dX2_does_236 rfl ?_
                  refine ez_iload_n (i := 2) (x := b1) dX2_does_239 rfl rfl ?_
                  refine ez_iconst (v := 0) dX2_does_240 (by decide) ?_
                  obtain ⟨hg9, h⟩ := zgd_some h
                  refine sM_9 dX2_does_241 hg9 ?_
                  refine zlet_use (fun M10 => zEF G (d + 1) K YX2_does 242 [some (.ref a0), some (.int b0), some (.int b1), some (.int b2), some (.int b3), some (.int b4), none] [] (zm a0 g0 M10) Q) h (fun M10 h => ?_)
                  refine ez_iconst (v := 0) dX2_does_242 (by decide) ?_
                  refine ez_istore (i := 6) dX2_does_243 (show 6 < 7 by decide) ?_
                  show zEF G (d + 1) K YX2_does 245 [some (.ref a0), some (.int b0), some (.int b1), some (.int b2), some (.int b3), some (.int b4), some (.int (0 : Int32))] [] (zm a0 g0 M10) Q
                  refine ez_clr 1 ?_
                  refine ez_clr 3 ?_
                  refine ez_clr 4 ?_
                  refine ez_clr 5 ?_
                  refine fX2_does_L245_ok (d := d) (K := K) 1000 M10 b1 (0 : Int32) _ _ h (fun M13 h => ?_) kq
                  exact hj3 M13 h
                · replace h := zif_f hc h
                  refine ez_aload_n (i := 0) (v := .ref a0) dX2_does_222 rfl rfl rfl ?_
                  refine ez_iconst (v := 5) dX2_does_223 (by decide) ?_
                  obtain ⟨r14, M15, hq15, h⟩ := zbd_some h
                  refine ez_callV (C := RX2) (Tt := TX2) (N := 53) (Y' := YX2_finds) (vs := [.int (5 : Int32)]) (rest := []) dX2_does_224 rfl zkX2_finds q1101 q1103 rfl slX2_finds (zm0 _ _ _) znX2_finds (Nat.le_of_ble_eq_true rfl) (Nat.le_of_ble_eq_true rfl) rfl (wX2_finds (d := d + 0) hq15 (zBack_v ?_))
                  show zEF G (d + 1) K YX2_does 227 [some (.ref a0), some (.int b0), some (.int b1), some (.int b2), some (.int b3), some (.int b4), none] [.int r14] (zm a0 g0 M15) Q
                  obtain rfl := Option.some.inj h
                  exact ez_iret dX2_does_227 rfl rfl kq
              · replace h := zif_t hc h
                refine ez_aload_n (i := 0) (v := .ref a0) dX2_does_211 rfl rfl rfl ?_
                refine ez_iconst (v := 3) dX2_does_212 (by decide) ?_
                obtain ⟨r16, M17, hq17, h⟩ := zbd_some h
                refine ez_callV (C := RX2) (Tt := TX2) (N := 53) (Y' := YX2_finds) (vs := [.int (3 : Int32)]) (rest := []) dX2_does_213 rfl zkX2_finds q1101 q1103 rfl slX2_finds (zm0 _ _ _) znX2_finds (Nat.le_of_ble_eq_true rfl) (Nat.le_of_ble_eq_true rfl) rfl (wX2_finds (d := d + 0) hq17 (zBack_v ?_))
                show zEF G (d + 1) K YX2_does 216 [some (.ref a0), some (.int b0), some (.int b1), some (.int b2), some (.int b3), some (.int b4), none] [.int r16] (zm a0 g0 M17) Q
                obtain rfl := Option.some.inj h
                exact ez_iret dX2_does_216 rfl rfl kq
            · replace h := zif_t hc h
              refine ez_aload_n (i := 0) (v := .ref a0) dX2_does_180 rfl rfl rfl ?_
              refine gM_45 dX2_does_181 rfl ?_
              refine ez_iload_n (i := 2) (x := b1) dX2_does_184 rfl rfl ?_
              refine ez_iload_n (i := 3) (x := b2) dX2_does_185 rfl rfl ?_
              refine ez_iconst (v := 1) dX2_does_186 (by decide) ?_
              refine zjoin_use (fun (j : MS → Int32 → Int32 → Option (Int32 × MS)) => ∀ (M18 : MS) (v19 : Int32) (v20 : Int32), j M18 v19 v20 = some p → zEF G (d + 1) K YX2_does 195 [some (.ref a0), none, none, none, none, none, none] [.int v19, .int v20, .ref (a0 + 12)] (zm a0 g0 M18) Q) h (fun M18 v19 v20 h => ?_) (fun j23 hj23 h => ?_)
              · obtain ⟨hg21, h⟩ := zgd_some h
                refine sM_13 dX2_does_195 hg21 ?_
                refine zlet_use (fun M22 => zEF G (d + 1) K YX2_does 196 [some (.ref a0), none, none, none, none, none, none] [] (zm a0 g0 M22) Q) h (fun M22 h => ?_)
                refine ez_goto (tgt := 271) dX2_does_196 (by decide) ?_
                exact hj3 M22 h
              · refine ez_icmp_ne (tgt := 194) dX2_does_187 (by decide) (fun hc => ?_) (fun hc => ?_)
                · replace h := zif_f hc h
                  refine ez_iconst (v := 0) dX2_does_194 (by decide) ?_
                  refine ez_clr 1 ?_
                  refine ez_clr 2 ?_
                  refine ez_clr 3 ?_
                  refine ez_clr 4 ?_
                  refine ez_clr 5 ?_
                  exact hj23 M (0 : Int32) b1 h
                · replace h := zif_t hc h
                  refine ez_iconst (v := 1) dX2_does_190 (by decide) ?_
                  refine ez_goto (tgt := 195) dX2_does_191 (by decide) ?_
                  refine ez_clr 1 ?_
                  refine ez_clr 2 ?_
                  refine ez_clr 3 ?_
                  refine ez_clr 4 ?_
                  refine ez_clr 5 ?_
                  exact hj23 M (1 : Int32) b1 h
          · replace h := zif_t hc h
            refine ez_aload_n (i := 0) (v := .ref a0) dX2_does_162 rfl rfl rfl ?_
            refine gM_58 dX2_does_163 rfl ?_
            refine ez_iload_n (i := 2) (x := b1) dX2_does_166 rfl rfl ?_
            refine ez_iload_n (i := 3) (x := b2) dX2_does_167 rfl rfl ?_
            obtain ⟨hg24, h⟩ := zgd_some h
            refine ez_raw2f dX2_does_168 rfl q1132 q391 q390 q65 (Nat.le_of_ble_eq_true rfl) hg24 ?_
            obtain ⟨hg25, h⟩ := zgd_some h
            refine sM_17 dX2_does_171 hg25 ?_
            refine zlet_use (fun M26 => zEF G (d + 1) K YX2_does 172 [some (.ref a0), some (.int b0), some (.int b1), some (.int b2), some (.int b3), some (.int b4), none] [] (zm a0 g0 M26) Q) h (fun M26 h => ?_)
            refine ez_goto (tgt := 271) dX2_does_172 (by decide) ?_
            refine ez_clr 1 ?_
            refine ez_clr 2 ?_
            refine ez_clr 3 ?_
            refine ez_clr 4 ?_
            refine ez_clr 5 ?_
            exact hj3 M26 h
        · replace h := zif_t hc h
          refine ez_iload_n (i := 3) (x := b2) dX2_does_95 rfl rfl ?_
          refine ez_iconst (v := 0) dX2_does_96 (by decide) ?_
          refine ez_iconst (v := 3) dX2_does_97 (by decide) ?_
          obtain ⟨r27, hq28, h⟩ := zbj_some h
          refine ez_callS (Y' := YX2_in) (vs := [.int b2, .int (0 : Int32), .int (3 : Int32)]) (rest := []) dX2_does_98 rfl zkX2_in q1098 q1099 q54 znX2_in (Nat.le_of_ble_eq_true rfl) (Nat.le_of_ble_eq_true rfl) rfl (wX2_in (d := d + 0) hq28 (zBack_v ?_))
          show zEF G (d + 1) K YX2_does 101 [some (.ref a0), some (.int b0), some (.int b1), some (.int b2), some (.int b3), some (.int b4), none] [.int r27] (zm a0 g0 M) Q
          refine ez_if_ne (tgt := 110) dX2_does_101 (by decide) (fun hc => ?_) (fun hc => ?_)
          · replace h := zif_f hc h
            refine ez_aload_n (i := 0) (v := .ref a0) dX2_does_110 rfl rfl rfl ?_
            refine gM_61 dX2_does_111 rfl ?_
            refine ez_iload_n (i := 2) (x := b1) dX2_does_114 rfl rfl ?_
            obtain ⟨hg29, h⟩ := zgd_some h
            refine lM_18 dX2_does_115 hg29 ?_
            refine zjoin_use (fun (j : MS → Int32 → Int32 → Int32 → Option (Int32 × MS)) => ∀ (M30 : MS) (v31 : Int32) (v32 : Int32) (v33 : Int32), j M30 v31 v32 v33 = some p → zEF G (d + 1) K YX2_does 142 [some (.ref a0), none, some (.int v31), some (.int v32), some (.int v33), none, none] [] (zm a0 g0 M30) Q) h (fun M30 v31 v32 v33 h => ?_) (fun j36 hj36 h => ?_)
            · refine ez_aload_n (i := 0) (v := .ref a0) dX2_does_142 rfl rfl rfl ?_
              refine gM_64 dX2_does_143 rfl ?_
              refine ez_iconst (v := 4) dX2_does_146 (by decide) ?_
              refine ez_iload_n (i := 2) (x := v31) dX2_does_147 rfl rfl ?_
              refine ez_imul dX2_does_148 ?_
              refine ez_iload_n (i := 3) (x := v32) dX2_does_149 rfl rfl ?_
              refine ez_iadd dX2_does_150 ?_
              refine ez_iload (i := 4) (x := v33) dX2_does_151 rfl ?_
              obtain ⟨hg34, h⟩ := zgd_some h
              refine sM_19 dX2_does_153 hg34 ?_
              refine zlet_use (fun M35 => zEF G (d + 1) K YX2_does 154 [some (.ref a0), none, some (.int v31), some (.int v32), some (.int v33), none, none] [] (zm a0 g0 M35) Q) h (fun M35 h => ?_)
              refine ez_goto (tgt := 271) dX2_does_154 (by decide) ?_
              refine ez_clr 2 ?_
              refine ez_clr 3 ?_
              refine ez_clr 4 ?_
              exact hj3 M35 h
            · refine ez_if_eq (tgt := 142) dX2_does_116 (by decide) (fun hc => ?_) (fun hc => ?_)
              · replace h := zif_t hc h
                refine ez_clr 1 ?_
                refine ez_clr 5 ?_
                exact hj36 M b1 b2 b3 h
              · replace h := zif_f hc h
                refine ez_iload (i := 4) (x := b3) dX2_does_119 rfl ?_
                refine ez_iconst (v := -1) dX2_does_121 (by decide) ?_
                refine ez_icmp_eq (tgt := 142) dX2_does_122 (by decide) (fun hc => ?_) (fun hc => ?_)
                · replace h := zif_t hc h
                  refine ez_clr 1 ?_
                  refine ez_clr 5 ?_
                  exact hj36 M b1 b2 b3 h
                · replace h := zif_f hc h
                  refine ez_aload_n (i := 0) (v := .ref a0) dX2_does_125 rfl rfl rfl ?_
                  refine gM_20 dX2_does_126 rfl ?_
                  refine ez_iload (i := 4) (x := b3) dX2_does_129 rfl ?_
                  obtain ⟨hg37, h⟩ := zgd_some h
                  refine lM_5 dX2_does_131 hg37 ?_
                  refine ez_iconst (v := 2) dX2_does_132 (by decide) ?_
                  refine ez_icmp_le (tgt := 142) dX2_does_133 (by decide) (fun hc => ?_) (fun hc => ?_)
                  · replace h := zif_t hc h
                    refine ez_clr 1 ?_
                    refine ez_clr 5 ?_
                    exact hj36 M b1 b2 b3 h
                  · replace h := zif_f hc h
                    refine ez_aload_n (i := 0) (v := .ref a0) dX2_does_136 rfl rfl rfl ?_
                    refine ez_iconst (v := 4) dX2_does_137 (by decide) ?_
                    obtain ⟨r38, M39, hq39, h⟩ := zbd_some h
                    refine ez_callV (C := RX2) (Tt := TX2) (N := 53) (Y' := YX2_finds) (vs := [.int (4 : Int32)]) (rest := []) dX2_does_138 rfl zkX2_finds q1101 q1103 rfl slX2_finds (zm0 _ _ _) znX2_finds (Nat.le_of_ble_eq_true rfl) (Nat.le_of_ble_eq_true rfl) rfl (wX2_finds (d := d + 0) hq39 (zBack_v ?_))
                    show zEF G (d + 1) K YX2_does 141 [some (.ref a0), some (.int b0), some (.int b1), some (.int b2), some (.int b3), some (.int b4), none] [.int r38] (zm a0 g0 M39) Q
                    obtain rfl := Option.some.inj h
                    exact ez_iret dX2_does_141 rfl rfl kq
          · replace h := zif_t hc h
            refine ez_aload_n (i := 0) (v := .ref a0) dX2_does_104 rfl rfl rfl ?_
            refine ez_iconst (v := 2) dX2_does_105 (by decide) ?_
            obtain ⟨r40, M41, hq41, h⟩ := zbd_some h
            refine ez_callV (C := RX2) (Tt := TX2) (N := 53) (Y' := YX2_finds) (vs := [.int (2 : Int32)]) (rest := []) dX2_does_106 rfl zkX2_finds q1101 q1103 rfl slX2_finds (zm0 _ _ _) znX2_finds (Nat.le_of_ble_eq_true rfl) (Nat.le_of_ble_eq_true rfl) rfl (wX2_finds (d := d + 0) hq41 (zBack_v ?_))
            show zEF G (d + 1) K YX2_does 109 [some (.ref a0), some (.int b0), some (.int b1), some (.int b2), some (.int b3), some (.int b4), none] [.int r40] (zm a0 g0 M41) Q
            obtain rfl := Option.some.inj h
            exact ez_iret dX2_does_109 rfl rfl kq
      · replace h := zif_t hc h
        refine ez_iconst (v := 0) dX2_does_44 (by decide) ?_
        refine ez_istore (i := 6) dX2_does_45 (show 6 < 7 by decide) ?_
        show zEF G (d + 1) K YX2_does 47 [some (.ref a0), some (.int b0), some (.int b1), some (.int b2), some (.int b3), some (.int b4), some (.int (0 : Int32))] [] (zm a0 g0 M) Q
        refine ez_clr 1 ?_
        refine ez_clr 4 ?_
        refine ez_clr 5 ?_
        refine fX2_does_L47_ok (d := d) (K := K) 1000 M b1 b2 (0 : Int32) _ _ h (fun M44 x45 x46 h => ?_) kq
        refine ez_aload_n (i := 0) (v := .ref a0) dX2_does_71 rfl rfl rfl ?_
        refine gM_61 dX2_does_72 rfl ?_
        refine ez_iload_n (i := 2) (x := x45) dX2_does_75 rfl rfl ?_
        refine ez_iload_n (i := 3) (x := x46) dX2_does_76 rfl rfl ?_
        refine ez_iconst (v := 1) dX2_does_77 (by decide) ?_
        refine zjoin_use (fun (j : MS → Int32 → Int32 → Option (Int32 × MS)) => ∀ (M47 : MS) (v48 : Int32) (v49 : Int32), j M47 v48 v49 = some p → zEF G (d + 1) K YX2_does 86 [some (.ref a0), none, none, none, none, none, none] [.int v48, .int v49, .ref (a0 + 17)] (zm a0 g0 M47) Q) h (fun M47 v48 v49 h => ?_) (fun j52 hj52 h => ?_)
        · obtain ⟨hg50, h⟩ := zgd_some h
          refine sM_18 dX2_does_86 hg50 ?_
          refine zlet_use (fun M51 => zEF G (d + 1) K YX2_does 87 [some (.ref a0), none, none, none, none, none, none] [] (zm a0 g0 M51) Q) h (fun M51 h => ?_)
          refine ez_goto (tgt := 271) dX2_does_87 (by decide) ?_
          exact hj3 M51 h
        · refine ez_icmp_ne (tgt := 85) dX2_does_78 (by decide) (fun hc => ?_) (fun hc => ?_)
          · replace h := zif_f hc h
            refine ez_iconst (v := 0) dX2_does_85 (by decide) ?_
            refine ez_clr 2 ?_
            refine ez_clr 3 ?_
            exact hj52 M44 (0 : Int32) x45 h
          · replace h := zif_t hc h
            refine ez_iconst (v := 1) dX2_does_81 (by decide) ?_
            refine ez_goto (tgt := 86) dX2_does_82 (by decide) ?_
            refine ez_clr 2 ?_
            refine ez_clr 3 ?_
            exact hj52 M44 (1 : Int32) x45 h
    · replace h := zif_t hc h
      refine ez_aload_n (i := 0) (v := .ref a0) dX2_does_4 rfl rfl rfl ?_
      refine gM_49 dX2_does_5 rfl ?_
      refine ez_iload_n (i := 2) (x := b1) dX2_does_8 rfl rfl ?_
      refine ez_iload_n (i := 3) (x := b2) dX2_does_9 rfl rfl ?_
      obtain ⟨hg53, h⟩ := zgd_some h
      refine sM_14 dX2_does_10 hg53 ?_
      refine zlet_use (fun M54 => zEF G (d + 1) K YX2_does 11 [some (.ref a0), some (.int b0), some (.int b1), some (.int b2), some (.int b3), some (.int b4), none] [] (zm a0 g0 M54) Q) h (fun M54 h => ?_)
      refine ez_aload_n (i := 0) (v := .ref a0) dX2_does_11 rfl rfl rfl ?_
      refine gM_52 dX2_does_12 rfl ?_
      refine ez_iload_n (i := 2) (x := b1) dX2_does_15 rfl rfl ?_
      refine ez_iload (i := 4) (x := b3) dX2_does_16 rfl ?_
      obtain ⟨hg55, h⟩ := zgd_some h
      refine sM_15 dX2_does_18 hg55 ?_
      refine zlet_use (fun M56 => zEF G (d + 1) K YX2_does 19 [some (.ref a0), some (.int b0), some (.int b1), some (.int b2), some (.int b3), some (.int b4), none] [] (zm a0 g0 M56) Q) h (fun M56 h => ?_)
      refine ez_aload_n (i := 0) (v := .ref a0) dX2_does_19 rfl rfl rfl ?_
      refine gM_55 dX2_does_20 rfl ?_
      refine ez_iload_n (i := 2) (x := b1) dX2_does_23 rfl rfl ?_
      refine ez_iload (i := 5) (x := b4) dX2_does_24 rfl ?_
      refine ez_iconst (v := 1) dX2_does_26 (by decide) ?_
      refine zjoin_use (fun (j : MS → Int32 → Int32 → Option (Int32 × MS)) => ∀ (M57 : MS) (v58 : Int32) (v59 : Int32), j M57 v58 v59 = some p → zEF G (d + 1) K YX2_does 35 [some (.ref a0), none, none, none, none, none, none] [.int v58, .int v59, .ref (a0 + 15)] (zm a0 g0 M57) Q) h (fun M57 v58 v59 h => ?_) (fun j62 hj62 h => ?_)
      · obtain ⟨hg60, h⟩ := zgd_some h
        refine sM_16 dX2_does_35 hg60 ?_
        refine zlet_use (fun M61 => zEF G (d + 1) K YX2_does 36 [some (.ref a0), none, none, none, none, none, none] [] (zm a0 g0 M61) Q) h (fun M61 h => ?_)
        refine ez_goto (tgt := 271) dX2_does_36 (by decide) ?_
        exact hj3 M61 h
      · refine ez_icmp_ne (tgt := 34) dX2_does_27 (by decide) (fun hc => ?_) (fun hc => ?_)
        · replace h := zif_f hc h
          refine ez_iconst (v := 0) dX2_does_34 (by decide) ?_
          refine ez_clr 1 ?_
          refine ez_clr 2 ?_
          refine ez_clr 3 ?_
          refine ez_clr 4 ?_
          refine ez_clr 5 ?_
          exact hj62 M56 (0 : Int32) b1 h
        · replace h := zif_t hc h
          refine ez_iconst (v := 1) dX2_does_30 (by decide) ?_
          refine ez_goto (tgt := 35) dX2_does_31 (by decide) ?_
          refine ez_clr 1 ?_
          refine ez_clr 2 ?_
          refine ez_clr 3 ?_
          refine ez_clr 4 ?_
          refine ez_clr 5 ?_
          exact hj62 M56 (1 : Int32) b1 h
def YX2_edit : zM := (yX2_edit, cX2_edit, 6, (Option.some Jvm.ClassFile.FieldType.int), [], false)
theorem zkX2_edit : zMok YX2_edit := ⟨rfl, q1165, by decide +kernel, by decide +kernel⟩
theorem znX2_edit : (parseMethodDescriptor YX2_edit.nm.desc).map (fun d => d.parameters.length) = some 5 := by decide +kernel
theorem slX2_edit : Cond.selects RX2 yX2_edit yX2_edit ∈ lw_all := lw_w 29 rfl rfl
noncomputable def fX2_edit (M : MS) (b0 : Int32) (b1 : Int32) (b2 : Int32) (b3 : Int32) (b4 : Int32) : Option (Int32 × MS) := if (M.I 28) = 0 then zbd (fX2_does M b0 b1 b2 b3 b4) (fun r12 M13 => some (r12, M13)) else if (M.I 39) = (30 : Int32) then some ((-104 : Int32), M) else zgd (vp_in (M.I 39) 30) (zlet (mA M 40 (M.I 39).toNatClampNeg b0) (fun M2 => zgd (vp_in (M2.I 39) 30) (zlet (mA M2 41 (M2.I 39).toNatClampNeg b1) (fun M4 => zgd (vp_in (M4.I 39) 30) (zlet (mA M4 42 (M4.I 39).toNatClampNeg b2) (fun M6 => zgd (vp_in (M6.I 39) 30) (zlet (mA M6 43 (M6.I 39).toNatClampNeg b3) (fun M8 => zgd (vp_in (M8.I 39) 30) (zlet (mA M8 44 (M8.I 39).toNatClampNeg b4) (fun M10 => zlet (mI M10 39 ((M10.I 39) + (1 : Int32))) (fun M11 => some ((0 : Int32), M11))))))))))))
theorem wX2_edit {G : zG} {d : Nat} {K : List Nat} {Q : zO → zS → Prop} {a0 : Nat} {g0 : zS} {M : MS} {b0 : Int32} {b1 : Int32} {b2 : Int32} {b3 : Int32} {b4 : Int32} {p : Int32 × MS} (h : fX2_edit M b0 b1 b2 b3 b4 = some p) (kq : Q (.inl (some (.int p.1))) (zm a0 g0 p.2)) : zEM G (d + 2) K YX2_edit [.ref a0, .int b0, .int b1, .int b2, .int b3, .int b4] (zm a0 g0 M) Q := by
  show zEF G (d + 2) K YX2_edit 0 [some (.ref a0), some (.int b0), some (.int b1), some (.int b2), some (.int b3), some (.int b4)] [] (zm a0 g0 M) Q
  unfold fX2_edit at h
  refine ez_aload_n (i := 0) (v := .ref a0) dX2_edit_0 rfl rfl rfl ?_
  refine gM_159 dX2_edit_1 rfl ?_
  refine ez_if_ne (tgt := 19) dX2_edit_4 (by decide) (fun hc => ?_) (fun hc => ?_)
  · replace h := zif_f hc h
    refine ez_aload_n (i := 0) (v := .ref a0) dX2_edit_19 rfl rfl rfl ?_
    refine gM_226 dX2_edit_20 rfl ?_
    refine ez_bipush (v := 30) dX2_edit_23 (by decide) ?_
    refine ez_icmp_ne (tgt := 31) dX2_edit_25 (by decide) (fun hc => ?_) (fun hc => ?_)
    · replace h := zif_f hc h
      refine ez_aload_n (i := 0) (v := .ref a0) dX2_edit_31 rfl rfl rfl ?_
      refine gM_110 dX2_edit_32 rfl ?_
      refine ez_aload_n (i := 0) (v := .ref a0) dX2_edit_35 rfl rfl rfl ?_
      refine gM_226 dX2_edit_36 rfl ?_
      refine ez_iload_n (i := 1) (x := b0) dX2_edit_39 rfl rfl ?_
      obtain ⟨hg1, h⟩ := zgd_some h
      refine sM_40 dX2_edit_40 hg1 ?_
      refine zlet_use (fun M2 => zEF G (d + 2) K YX2_edit 41 [some (.ref a0), some (.int b0), some (.int b1), some (.int b2), some (.int b3), some (.int b4)] [] (zm a0 g0 M2) Q) h (fun M2 h => ?_)
      refine ez_aload_n (i := 0) (v := .ref a0) dX2_edit_41 rfl rfl rfl ?_
      refine gM_113 dX2_edit_42 rfl ?_
      refine ez_aload_n (i := 0) (v := .ref a0) dX2_edit_45 rfl rfl rfl ?_
      refine gM_226 dX2_edit_46 rfl ?_
      refine ez_iload_n (i := 2) (x := b1) dX2_edit_49 rfl rfl ?_
      obtain ⟨hg3, h⟩ := zgd_some h
      refine sM_41 dX2_edit_50 hg3 ?_
      refine zlet_use (fun M4 => zEF G (d + 2) K YX2_edit 51 [some (.ref a0), some (.int b0), some (.int b1), some (.int b2), some (.int b3), some (.int b4)] [] (zm a0 g0 M4) Q) h (fun M4 h => ?_)
      refine ez_aload_n (i := 0) (v := .ref a0) dX2_edit_51 rfl rfl rfl ?_
      refine gM_116 dX2_edit_52 rfl ?_
      refine ez_aload_n (i := 0) (v := .ref a0) dX2_edit_55 rfl rfl rfl ?_
      refine gM_226 dX2_edit_56 rfl ?_
      refine ez_iload_n (i := 3) (x := b2) dX2_edit_59 rfl rfl ?_
      obtain ⟨hg5, h⟩ := zgd_some h
      refine sM_42 dX2_edit_60 hg5 ?_
      refine zlet_use (fun M6 => zEF G (d + 2) K YX2_edit 61 [some (.ref a0), some (.int b0), some (.int b1), some (.int b2), some (.int b3), some (.int b4)] [] (zm a0 g0 M6) Q) h (fun M6 h => ?_)
      refine ez_aload_n (i := 0) (v := .ref a0) dX2_edit_61 rfl rfl rfl ?_
      refine gM_119 dX2_edit_62 rfl ?_
      refine ez_aload_n (i := 0) (v := .ref a0) dX2_edit_65 rfl rfl rfl ?_
      refine gM_226 dX2_edit_66 rfl ?_
      refine ez_iload (i := 4) (x := b3) dX2_edit_69 rfl ?_
      obtain ⟨hg7, h⟩ := zgd_some h
      refine sM_43 dX2_edit_71 hg7 ?_
      refine zlet_use (fun M8 => zEF G (d + 2) K YX2_edit 72 [some (.ref a0), some (.int b0), some (.int b1), some (.int b2), some (.int b3), some (.int b4)] [] (zm a0 g0 M8) Q) h (fun M8 h => ?_)
      refine ez_aload_n (i := 0) (v := .ref a0) dX2_edit_72 rfl rfl rfl ?_
      refine gM_122 dX2_edit_73 rfl ?_
      refine ez_aload_n (i := 0) (v := .ref a0) dX2_edit_76 rfl rfl rfl ?_
      refine gM_226 dX2_edit_77 rfl ?_
      refine ez_iload (i := 5) (x := b4) dX2_edit_80 rfl ?_
      obtain ⟨hg9, h⟩ := zgd_some h
      refine sM_44 dX2_edit_82 hg9 ?_
      refine zlet_use (fun M10 => zEF G (d + 2) K YX2_edit 83 [some (.ref a0), some (.int b0), some (.int b1), some (.int b2), some (.int b3), some (.int b4)] [] (zm a0 g0 M10) Q) h (fun M10 h => ?_)
      refine ez_aload_n (i := 0) (v := .ref a0) dX2_edit_83 rfl rfl rfl ?_
      refine ez_dup dX2_edit_84 rfl ?_
      refine gM_226 dX2_edit_85 rfl ?_
      refine ez_iconst (v := 1) dX2_edit_88 (by decide) ?_
      refine ez_iadd dX2_edit_89 ?_
      refine pM_226 dX2_edit_90 rfl ?_
      refine zlet_use (fun M11 => zEF G (d + 2) K YX2_edit 93 [some (.ref a0), some (.int b0), some (.int b1), some (.int b2), some (.int b3), some (.int b4)] [] (zm a0 g0 M11) Q) h (fun M11 h => ?_)
      refine ez_iconst (v := 0) dX2_edit_93 (by decide) ?_
      obtain rfl := Option.some.inj h
      exact ez_iret dX2_edit_94 rfl rfl kq
    · replace h := zif_t hc h
      refine ez_bipush (v := -104) dX2_edit_28 (by decide) ?_
      obtain rfl := Option.some.inj h
      exact ez_iret dX2_edit_30 rfl rfl kq
  · replace h := zif_t hc h
    refine ez_aload_n (i := 0) (v := .ref a0) dX2_edit_7 rfl rfl rfl ?_
    refine ez_iload_n (i := 1) (x := b0) dX2_edit_8 rfl rfl ?_
    refine ez_iload_n (i := 2) (x := b1) dX2_edit_9 rfl rfl ?_
    refine ez_iload_n (i := 3) (x := b2) dX2_edit_10 rfl rfl ?_
    refine ez_iload (i := 4) (x := b3) dX2_edit_11 rfl ?_
    refine ez_iload (i := 5) (x := b4) dX2_edit_13 rfl ?_
    obtain ⟨r12, M13, hq13, h⟩ := zbd_some h
    refine ez_callV (C := RX2) (Tt := TX2) (N := 53) (Y' := YX2_does) (vs := [.int b0, .int b1, .int b2, .int b3, .int b4]) (rest := []) dX2_edit_15 rfl zkX2_does q1166 q1168 rfl slX2_does (zm0 _ _ _) znX2_does (Nat.le_of_ble_eq_true rfl) (Nat.le_of_ble_eq_true rfl) rfl (wX2_does (d := d + 0) hq13 (zBack_v ?_))
    show zEF G (d + 2) K YX2_edit 18 [some (.ref a0), some (.int b0), some (.int b1), some (.int b2), some (.int b3), some (.int b4)] [.int r12] (zm a0 g0 M13) Q
    obtain rfl := Option.some.inj h
    exact ez_iret dX2_edit_18 rfl rfl kq
def YX2_track : zM := (yX2_track, cX2_track, 5, (Option.some Jvm.ClassFile.FieldType.int), [], false)
theorem zkX2_track : zMok YX2_track := ⟨rfl, q1158, by decide +kernel, by decide +kernel⟩
theorem znX2_track : (parseMethodDescriptor YX2_track.nm.desc).map (fun d => d.parameters.length) = some 4 := by decide +kernel
noncomputable def fX2_track (M : MS) (b0 : Int32) (b1 : Int32) (b2 : Int32) (b3 : Int32) : Option (Int32 × MS) := zbj (fX2_isTrack b0) (fun r1 => if r1 = 0 then some ((-101 : Int32), M) else zbj (fX2_in b1 (-1 : Int32) ((M.I 0) - (1 : Int32))) (fun r3 => if r3 = 0 then some ((-101 : Int32), M) else zjoin (fun (M5 : MS) (v6 : Int32) (v7 : Int32) (v8 : Int32) (v9 : Int32) (v10 : Int32) => zbd (fX2_edit M5 v10 v9 v8 v7 v6) (fun r11 M12 => some (r11, M12))) (fun j13 => if b3 = 0 then j13 M (0 : Int32) b2 b1 b0 (0 : Int32) else j13 M (1 : Int32) b2 b1 b0 (0 : Int32))))
theorem wX2_track {G : zG} {d : Nat} {K : List Nat} {Q : zO → zS → Prop} {a0 : Nat} {g0 : zS} {M : MS} {b0 : Int32} {b1 : Int32} {b2 : Int32} {b3 : Int32} {p : Int32 × MS} (h : fX2_track M b0 b1 b2 b3 = some p) (kq : Q (.inl (some (.int p.1))) (zm a0 g0 p.2)) : zEM G (d + 3) K YX2_track [.ref a0, .int b0, .int b1, .int b2, .int b3] (zm a0 g0 M) Q := by
  show zEF G (d + 3) K YX2_track 0 [some (.ref a0), some (.int b0), some (.int b1), some (.int b2), some (.int b3)] [] (zm a0 g0 M) Q
  unfold fX2_track at h
  refine ez_iload_n (i := 1) (x := b0) dX2_track_0 rfl rfl ?_
  obtain ⟨r1, hq2, h⟩ := zbj_some h
  refine ez_callS (Y' := YX2_isTrack) (vs := [.int b0]) (rest := []) dX2_track_1 rfl zkX2_isTrack q1159 q1160 q54 znX2_isTrack (Nat.le_of_ble_eq_true rfl) (Nat.le_of_ble_eq_true rfl) rfl (wX2_isTrack (d := d + 1) hq2 (zBack_v ?_))
  show zEF G (d + 3) K YX2_track 4 [some (.ref a0), some (.int b0), some (.int b1), some (.int b2), some (.int b3)] [.int r1] (zm a0 g0 M) Q
  refine ez_if_eq (tgt := 21) dX2_track_4 (by decide) (fun hc => ?_) (fun hc => ?_)
  · replace h := zif_t hc h
    refine ez_bipush (v := -101) dX2_track_21 (by decide) ?_
    obtain rfl := Option.some.inj h
    exact ez_iret dX2_track_23 rfl rfl kq
  · replace h := zif_f hc h
    refine ez_iload_n (i := 2) (x := b1) dX2_track_7 rfl rfl ?_
    refine ez_iconst (v := -1) dX2_track_8 (by decide) ?_
    refine ez_aload_n (i := 0) (v := .ref a0) dX2_track_9 rfl rfl rfl ?_
    refine gM_140 dX2_track_10 rfl ?_
    refine ez_iconst (v := 1) dX2_track_13 (by decide) ?_
    refine ez_isub dX2_track_14 ?_
    obtain ⟨r3, hq4, h⟩ := zbj_some h
    refine ez_callS (Y' := YX2_in) (vs := [.int b1, .int (-1 : Int32), .int ((M.I 0) - (1 : Int32))]) (rest := []) dX2_track_15 rfl zkX2_in q1098 q1099 q54 znX2_in (Nat.le_of_ble_eq_true rfl) (Nat.le_of_ble_eq_true rfl) rfl (wX2_in (d := d + 2) hq4 (zBack_v ?_))
    show zEF G (d + 3) K YX2_track 18 [some (.ref a0), some (.int b0), some (.int b1), some (.int b2), some (.int b3)] [.int r3] (zm a0 g0 M) Q
    refine ez_if_ne (tgt := 24) dX2_track_18 (by decide) (fun hc => ?_) (fun hc => ?_)
    · replace h := zif_f hc h
      refine ez_aload_n (i := 0) (v := .ref a0) dX2_track_24 rfl rfl rfl ?_
      refine ez_iconst (v := 0) dX2_track_25 (by decide) ?_
      refine ez_iload_n (i := 1) (x := b0) dX2_track_26 rfl rfl ?_
      refine ez_iload_n (i := 2) (x := b1) dX2_track_27 rfl rfl ?_
      refine ez_iload_n (i := 3) (x := b2) dX2_track_28 rfl rfl ?_
      refine ez_iload (i := 4) (x := b3) dX2_track_29 rfl ?_
      refine zjoin_use (fun (j : MS → Int32 → Int32 → Int32 → Int32 → Int32 → Option (Int32 × MS)) => ∀ (M5 : MS) (v6 : Int32) (v7 : Int32) (v8 : Int32) (v9 : Int32) (v10 : Int32), j M5 v6 v7 v8 v9 v10 = some p → zEF G (d + 3) K YX2_track 39 [none, none, none, none, none] [.int v6, .int v7, .int v8, .int v9, .int v10, .ref a0] (zm a0 g0 M5) Q) h (fun M5 v6 v7 v8 v9 v10 h => ?_) (fun j13 hj13 h => ?_)
      · obtain ⟨r11, M12, hq12, h⟩ := zbd_some h
        refine ez_callV (C := RX2) (Tt := TX2) (N := 53) (Y' := YX2_edit) (vs := [.int v10, .int v9, .int v8, .int v7, .int v6]) (rest := []) dX2_track_39 rfl zkX2_edit q1162 q1164 rfl slX2_edit (zm0 _ _ _) znX2_edit (Nat.le_of_ble_eq_true rfl) (Nat.le_of_ble_eq_true rfl) rfl (wX2_edit (d := d + 0) hq12 (zBack_v ?_))
        show zEF G (d + 3) K YX2_track 42 [none, none, none, none, none] [.int r11] (zm a0 g0 M12) Q
        obtain rfl := Option.some.inj h
        exact ez_iret dX2_track_42 rfl rfl kq
      · refine ez_if_eq (tgt := 38) dX2_track_31 (by decide) (fun hc => ?_) (fun hc => ?_)
        · replace h := zif_t hc h
          refine ez_iconst (v := 0) dX2_track_38 (by decide) ?_
          refine ez_clr 0 ?_
          refine ez_clr 1 ?_
          refine ez_clr 2 ?_
          refine ez_clr 3 ?_
          refine ez_clr 4 ?_
          exact hj13 M (0 : Int32) b2 b1 b0 (0 : Int32) h
        · replace h := zif_f hc h
          refine ez_iconst (v := 1) dX2_track_34 (by decide) ?_
          refine ez_goto (tgt := 39) dX2_track_35 (by decide) ?_
          refine ez_clr 0 ?_
          refine ez_clr 1 ?_
          refine ez_clr 2 ?_
          refine ez_clr 3 ?_
          refine ez_clr 4 ?_
          exact hj13 M (1 : Int32) b2 b1 b0 (0 : Int32) h
    · replace h := zif_t hc h
      refine ez_bipush (v := -101) dX2_track_21 (by decide) ?_
      obtain rfl := Option.some.inj h
      exact ez_iret dX2_track_23 rfl rfl kq
def YX2_pure : zM := (yX2_pure, cX2_pure, 3, (Option.some Jvm.ClassFile.FieldType.int), [], false)
theorem zkX2_pure : zMok YX2_pure := ⟨rfl, q1173, by decide +kernel, by decide +kernel⟩
theorem znX2_pure : (parseMethodDescriptor YX2_pure.nm.desc).map (fun d => d.parameters.length) = some 2 := by decide +kernel
noncomputable def fX2_pure (M : MS) (b0 : Int32) (b1 : Int32) : Option (Int32 × MS) := zbj (fX2_isTrack b0) (fun r1 => if r1 = 0 then some ((-101 : Int32), M) else zjoin (fun (M3 : MS) (v4 : Int32) (v5 : Int32) (v6 : Int32) => zbd (fX2_edit M3 v6 v5 v4 (0 : Int32) (0 : Int32)) (fun r7 M8 => some (r7, M8))) (fun j9 => if b1 = 0 then j9 M (0 : Int32) b0 (1 : Int32) else j9 M (1 : Int32) b0 (1 : Int32)))
theorem wX2_pure {G : zG} {d : Nat} {K : List Nat} {Q : zO → zS → Prop} {a0 : Nat} {g0 : zS} {M : MS} {b0 : Int32} {b1 : Int32} {p : Int32 × MS} (h : fX2_pure M b0 b1 = some p) (kq : Q (.inl (some (.int p.1))) (zm a0 g0 p.2)) : zEM G (d + 3) K YX2_pure [.ref a0, .int b0, .int b1] (zm a0 g0 M) Q := by
  show zEF G (d + 3) K YX2_pure 0 [some (.ref a0), some (.int b0), some (.int b1)] [] (zm a0 g0 M) Q
  unfold fX2_pure at h
  refine ez_iload_n (i := 1) (x := b0) dX2_pure_0 rfl rfl ?_
  obtain ⟨r1, hq2, h⟩ := zbj_some h
  refine ez_callS (Y' := YX2_isTrack) (vs := [.int b0]) (rest := []) dX2_pure_1 rfl zkX2_isTrack q1159 q1160 q54 znX2_isTrack (Nat.le_of_ble_eq_true rfl) (Nat.le_of_ble_eq_true rfl) rfl (wX2_isTrack (d := d + 1) hq2 (zBack_v ?_))
  show zEF G (d + 3) K YX2_pure 4 [some (.ref a0), some (.int b0), some (.int b1)] [.int r1] (zm a0 g0 M) Q
  refine ez_if_eq (tgt := 27) dX2_pure_4 (by decide) (fun hc => ?_) (fun hc => ?_)
  · replace h := zif_t hc h
    refine ez_bipush (v := -101) dX2_pure_27 (by decide) ?_
    obtain rfl := Option.some.inj h
    exact ez_iret dX2_pure_29 rfl rfl kq
  · replace h := zif_f hc h
    refine ez_aload_n (i := 0) (v := .ref a0) dX2_pure_7 rfl rfl rfl ?_
    refine ez_iconst (v := 1) dX2_pure_8 (by decide) ?_
    refine ez_iload_n (i := 1) (x := b0) dX2_pure_9 rfl rfl ?_
    refine ez_iload_n (i := 2) (x := b1) dX2_pure_10 rfl rfl ?_
    refine zjoin_use (fun (j : MS → Int32 → Int32 → Int32 → Option (Int32 × MS)) => ∀ (M3 : MS) (v4 : Int32) (v5 : Int32) (v6 : Int32), j M3 v4 v5 v6 = some p → zEF G (d + 3) K YX2_pure 19 [none, none, none] [.int v4, .int v5, .int v6, .ref a0] (zm a0 g0 M3) Q) h (fun M3 v4 v5 v6 h => ?_) (fun j9 hj9 h => ?_)
    · refine ez_iconst (v := 0) dX2_pure_19 (by decide) ?_
      refine ez_iconst (v := 0) dX2_pure_20 (by decide) ?_
      obtain ⟨r7, M8, hq8, h⟩ := zbd_some h
      refine ez_callV (C := RX2) (Tt := TX2) (N := 53) (Y' := YX2_edit) (vs := [.int v6, .int v5, .int v4, .int (0 : Int32), .int (0 : Int32)]) (rest := []) dX2_pure_21 rfl zkX2_edit q1162 q1164 rfl slX2_edit (zm0 _ _ _) znX2_edit (Nat.le_of_ble_eq_true rfl) (Nat.le_of_ble_eq_true rfl) rfl (wX2_edit (d := d + 0) hq8 (zBack_v ?_))
      show zEF G (d + 3) K YX2_pure 24 [none, none, none] [.int r7] (zm a0 g0 M8) Q
      refine ez_goto (tgt := 29) dX2_pure_24 (by decide) ?_
      obtain rfl := Option.some.inj h
      exact ez_iret dX2_pure_29 rfl rfl kq
    · refine ez_if_eq (tgt := 18) dX2_pure_11 (by decide) (fun hc => ?_) (fun hc => ?_)
      · replace h := zif_t hc h
        refine ez_iconst (v := 0) dX2_pure_18 (by decide) ?_
        refine ez_clr 0 ?_
        refine ez_clr 1 ?_
        refine ez_clr 2 ?_
        exact hj9 M (0 : Int32) b0 (1 : Int32) h
      · replace h := zif_f hc h
        refine ez_iconst (v := 1) dX2_pure_14 (by decide) ?_
        refine ez_goto (tgt := 19) dX2_pure_15 (by decide) ?_
        refine ez_clr 0 ?_
        refine ez_clr 1 ?_
        refine ez_clr 2 ?_
        exact hj9 M (1 : Int32) b0 (1 : Int32) h

/-! the Model: methods, walked, 1 -/
set_option maxRecDepth 100000

def YX2_chain : zM := (yX2_chain, cX2_chain, 4, (Option.some Jvm.ClassFile.FieldType.int), [], false)
theorem zkX2_chain : zMok YX2_chain := ⟨rfl, q1177, by decide +kernel, by decide +kernel⟩
theorem znX2_chain : (parseMethodDescriptor YX2_chain.nm.desc).map (fun d => d.parameters.length) = some 3 := by decide +kernel
noncomputable def fX2_chain (M : MS) (b0 : Int32) (b1 : Int32) (b2 : Int32) : Option (Int32 × MS) := zbj (fX2_isTrack b0) (fun r1 => if r1 = 0 then some ((-101 : Int32), M) else zbj (fX2_in b2 (-1 : Int32) ((M.I 4) - (1 : Int32))) (fun r3 => if r3 = 0 then some ((-101 : Int32), M) else zbd (fX2_edit M (2 : Int32) b0 b1 b2 (0 : Int32)) (fun r5 M6 => some (r5, M6))))
theorem wX2_chain {G : zG} {d : Nat} {K : List Nat} {Q : zO → zS → Prop} {a0 : Nat} {g0 : zS} {M : MS} {b0 : Int32} {b1 : Int32} {b2 : Int32} {p : Int32 × MS} (h : fX2_chain M b0 b1 b2 = some p) (kq : Q (.inl (some (.int p.1))) (zm a0 g0 p.2)) : zEM G (d + 3) K YX2_chain [.ref a0, .int b0, .int b1, .int b2] (zm a0 g0 M) Q := by
  show zEF G (d + 3) K YX2_chain 0 [some (.ref a0), some (.int b0), some (.int b1), some (.int b2)] [] (zm a0 g0 M) Q
  unfold fX2_chain at h
  refine ez_iload_n (i := 1) (x := b0) dX2_chain_0 rfl rfl ?_
  obtain ⟨r1, hq2, h⟩ := zbj_some h
  refine ez_callS (Y' := YX2_isTrack) (vs := [.int b0]) (rest := []) dX2_chain_1 rfl zkX2_isTrack q1159 q1160 q54 znX2_isTrack (Nat.le_of_ble_eq_true rfl) (Nat.le_of_ble_eq_true rfl) rfl (wX2_isTrack (d := d + 1) hq2 (zBack_v ?_))
  show zEF G (d + 3) K YX2_chain 4 [some (.ref a0), some (.int b0), some (.int b1), some (.int b2)] [.int r1] (zm a0 g0 M) Q
  refine ez_if_eq (tgt := 21) dX2_chain_4 (by decide) (fun hc => ?_) (fun hc => ?_)
  · replace h := zif_t hc h
    refine ez_bipush (v := -101) dX2_chain_21 (by decide) ?_
    obtain rfl := Option.some.inj h
    exact ez_iret dX2_chain_23 rfl rfl kq
  · replace h := zif_f hc h
    refine ez_iload_n (i := 3) (x := b2) dX2_chain_7 rfl rfl ?_
    refine ez_iconst (v := -1) dX2_chain_8 (by decide) ?_
    refine ez_aload_n (i := 0) (v := .ref a0) dX2_chain_9 rfl rfl rfl ?_
    refine gM_203 dX2_chain_10 rfl ?_
    refine ez_iconst (v := 1) dX2_chain_13 (by decide) ?_
    refine ez_isub dX2_chain_14 ?_
    obtain ⟨r3, hq4, h⟩ := zbj_some h
    refine ez_callS (Y' := YX2_in) (vs := [.int b2, .int (-1 : Int32), .int ((M.I 4) - (1 : Int32))]) (rest := []) dX2_chain_15 rfl zkX2_in q1098 q1099 q54 znX2_in (Nat.le_of_ble_eq_true rfl) (Nat.le_of_ble_eq_true rfl) rfl (wX2_in (d := d + 2) hq4 (zBack_v ?_))
    show zEF G (d + 3) K YX2_chain 18 [some (.ref a0), some (.int b0), some (.int b1), some (.int b2)] [.int r3] (zm a0 g0 M) Q
    refine ez_if_ne (tgt := 24) dX2_chain_18 (by decide) (fun hc => ?_) (fun hc => ?_)
    · replace h := zif_f hc h
      refine ez_aload_n (i := 0) (v := .ref a0) dX2_chain_24 rfl rfl rfl ?_
      refine ez_iconst (v := 2) dX2_chain_25 (by decide) ?_
      refine ez_iload_n (i := 1) (x := b0) dX2_chain_26 rfl rfl ?_
      refine ez_iload_n (i := 2) (x := b1) dX2_chain_27 rfl rfl ?_
      refine ez_iload_n (i := 3) (x := b2) dX2_chain_28 rfl rfl ?_
      refine ez_iconst (v := 0) dX2_chain_29 (by decide) ?_
      obtain ⟨r5, M6, hq6, h⟩ := zbd_some h
      refine ez_callV (C := RX2) (Tt := TX2) (N := 53) (Y' := YX2_edit) (vs := [.int (2 : Int32), .int b0, .int b1, .int b2, .int (0 : Int32)]) (rest := []) dX2_chain_30 rfl zkX2_edit q1162 q1164 rfl slX2_edit (zm0 _ _ _) znX2_edit (Nat.le_of_ble_eq_true rfl) (Nat.le_of_ble_eq_true rfl) rfl (wX2_edit (d := d + 0) hq6 (zBack_v ?_))
      show zEF G (d + 3) K YX2_chain 33 [some (.ref a0), some (.int b0), some (.int b1), some (.int b2)] [.int r5] (zm a0 g0 M6) Q
      obtain rfl := Option.some.inj h
      exact ez_iret dX2_chain_33 rfl rfl kq
    · replace h := zif_t hc h
      refine ez_bipush (v := -101) dX2_chain_21 (by decide) ?_
      obtain rfl := Option.some.inj h
      exact ez_iret dX2_chain_23 rfl rfl kq
def YX2_level : zM := (yX2_level, cX2_level, 3, (Option.some Jvm.ClassFile.FieldType.int), [], false)
theorem zkX2_level : zMok YX2_level := ⟨rfl, q1181, by decide +kernel, by decide +kernel⟩
theorem znX2_level : (parseMethodDescriptor YX2_level.nm.desc).map (fun d => d.parameters.length) = some 2 := by decide +kernel
noncomputable def fX2_level (M : MS) (b0 : Int32) (b1 : Int32) : Option (Int32 × MS) := zbj (fX2_isTrack b0) (fun r1 => if r1 = 0 then some ((-101 : Int32), M) else zbj (fX2_isWithin b1 FP.fconst0) (fun r3 => if r3 = 0 then some ((-102 : Int32), M) else zbd (fX2_edit M (3 : Int32) b0 b1 (0 : Int32) (0 : Int32)) (fun r5 M6 => some (r5, M6))))
theorem wX2_level {G : zG} {d : Nat} {K : List Nat} {Q : zO → zS → Prop} {a0 : Nat} {g0 : zS} {M : MS} {b0 : Int32} {b1 : Int32} {p : Int32 × MS} (h : fX2_level M b0 b1 = some p) (kq : Q (.inl (some (.int p.1))) (zm a0 g0 p.2)) : zEM G (d + 3) K YX2_level [.ref a0, .int b0, .int b1] (zm a0 g0 M) Q := by
  show zEF G (d + 3) K YX2_level 0 [some (.ref a0), some (.int b0), some (.int b1)] [] (zm a0 g0 M) Q
  unfold fX2_level at h
  refine ez_iload_n (i := 1) (x := b0) dX2_level_0 rfl rfl ?_
  obtain ⟨r1, hq2, h⟩ := zbj_some h
  refine ez_callS (Y' := YX2_isTrack) (vs := [.int b0]) (rest := []) dX2_level_1 rfl zkX2_isTrack q1159 q1160 q54 znX2_isTrack (Nat.le_of_ble_eq_true rfl) (Nat.le_of_ble_eq_true rfl) rfl (wX2_isTrack (d := d + 1) hq2 (zBack_v ?_))
  show zEF G (d + 3) K YX2_level 4 [some (.ref a0), some (.int b0), some (.int b1)] [.int r1] (zm a0 g0 M) Q
  refine ez_if_ne (tgt := 10) dX2_level_4 (by decide) (fun hc => ?_) (fun hc => ?_)
  · replace h := zif_f hc h
    refine ez_iload_n (i := 2) (x := b1) dX2_level_10 rfl rfl ?_
    refine ez_fconst0 dX2_level_11 ?_
    obtain ⟨r3, hq4, h⟩ := zbj_some h
    refine ez_callS (Y' := YX2_isWithin) (vs := [.int b1, .float FP.fconst0]) (rest := []) dX2_level_12 rfl zkX2_isWithin q1139 q1140 q54 znX2_isWithin (Nat.le_of_ble_eq_true rfl) (Nat.le_of_ble_eq_true rfl) rfl (wX2_isWithin (d := d + 1) hq4 (zBack_v ?_))
    show zEF G (d + 3) K YX2_level 15 [some (.ref a0), some (.int b0), some (.int b1)] [.int r3] (zm a0 g0 M) Q
    refine ez_if_eq (tgt := 30) dX2_level_15 (by decide) (fun hc => ?_) (fun hc => ?_)
    · replace h := zif_t hc h
      refine ez_bipush (v := -102) dX2_level_30 (by decide) ?_
      obtain rfl := Option.some.inj h
      exact ez_iret dX2_level_32 rfl rfl kq
    · replace h := zif_f hc h
      refine ez_aload_n (i := 0) (v := .ref a0) dX2_level_18 rfl rfl rfl ?_
      refine ez_iconst (v := 3) dX2_level_19 (by decide) ?_
      refine ez_iload_n (i := 1) (x := b0) dX2_level_20 rfl rfl ?_
      refine ez_iload_n (i := 2) (x := b1) dX2_level_21 rfl rfl ?_
      refine ez_iconst (v := 0) dX2_level_22 (by decide) ?_
      refine ez_iconst (v := 0) dX2_level_23 (by decide) ?_
      obtain ⟨r5, M6, hq6, h⟩ := zbd_some h
      refine ez_callV (C := RX2) (Tt := TX2) (N := 53) (Y' := YX2_edit) (vs := [.int (3 : Int32), .int b0, .int b1, .int (0 : Int32), .int (0 : Int32)]) (rest := []) dX2_level_24 rfl zkX2_edit q1162 q1164 rfl slX2_edit (zm0 _ _ _) znX2_edit (Nat.le_of_ble_eq_true rfl) (Nat.le_of_ble_eq_true rfl) rfl (wX2_edit (d := d + 0) hq6 (zBack_v ?_))
      show zEF G (d + 3) K YX2_level 27 [some (.ref a0), some (.int b0), some (.int b1)] [.int r5] (zm a0 g0 M6) Q
      refine ez_goto (tgt := 32) dX2_level_27 (by decide) ?_
      obtain rfl := Option.some.inj h
      exact ez_iret dX2_level_32 rfl rfl kq
  · replace h := zif_t hc h
    refine ez_bipush (v := -101) dX2_level_7 (by decide) ?_
    obtain rfl := Option.some.inj h
    exact ez_iret dX2_level_9 rfl rfl kq
def YX2_on : zM := (yX2_on, cX2_on, 3, (Option.some Jvm.ClassFile.FieldType.int), [], false)
theorem zkX2_on : zMok YX2_on := ⟨rfl, q1185, by decide +kernel, by decide +kernel⟩
theorem znX2_on : (parseMethodDescriptor YX2_on.nm.desc).map (fun d => d.parameters.length) = some 2 := by decide +kernel
noncomputable def fX2_on (M : MS) (b0 : Int32) (b1 : Int32) : Option (Int32 × MS) := zbj (fX2_isTrack b0) (fun r1 => if r1 = 0 then some ((-101 : Int32), M) else zjoin (fun (M3 : MS) (v4 : Int32) (v5 : Int32) (v6 : Int32) => zbd (fX2_edit M3 v6 v5 v4 (0 : Int32) (0 : Int32)) (fun r7 M8 => some (r7, M8))) (fun j9 => if b1 = 0 then j9 M (0 : Int32) b0 (4 : Int32) else j9 M (1 : Int32) b0 (4 : Int32)))
theorem wX2_on {G : zG} {d : Nat} {K : List Nat} {Q : zO → zS → Prop} {a0 : Nat} {g0 : zS} {M : MS} {b0 : Int32} {b1 : Int32} {p : Int32 × MS} (h : fX2_on M b0 b1 = some p) (kq : Q (.inl (some (.int p.1))) (zm a0 g0 p.2)) : zEM G (d + 3) K YX2_on [.ref a0, .int b0, .int b1] (zm a0 g0 M) Q := by
  show zEF G (d + 3) K YX2_on 0 [some (.ref a0), some (.int b0), some (.int b1)] [] (zm a0 g0 M) Q
  unfold fX2_on at h
  refine ez_iload_n (i := 1) (x := b0) dX2_on_0 rfl rfl ?_
  obtain ⟨r1, hq2, h⟩ := zbj_some h
  refine ez_callS (Y' := YX2_isTrack) (vs := [.int b0]) (rest := []) dX2_on_1 rfl zkX2_isTrack q1159 q1160 q54 znX2_isTrack (Nat.le_of_ble_eq_true rfl) (Nat.le_of_ble_eq_true rfl) rfl (wX2_isTrack (d := d + 1) hq2 (zBack_v ?_))
  show zEF G (d + 3) K YX2_on 4 [some (.ref a0), some (.int b0), some (.int b1)] [.int r1] (zm a0 g0 M) Q
  refine ez_if_eq (tgt := 27) dX2_on_4 (by decide) (fun hc => ?_) (fun hc => ?_)
  · replace h := zif_t hc h
    refine ez_bipush (v := -101) dX2_on_27 (by decide) ?_
    obtain rfl := Option.some.inj h
    exact ez_iret dX2_on_29 rfl rfl kq
  · replace h := zif_f hc h
    refine ez_aload_n (i := 0) (v := .ref a0) dX2_on_7 rfl rfl rfl ?_
    refine ez_iconst (v := 4) dX2_on_8 (by decide) ?_
    refine ez_iload_n (i := 1) (x := b0) dX2_on_9 rfl rfl ?_
    refine ez_iload_n (i := 2) (x := b1) dX2_on_10 rfl rfl ?_
    refine zjoin_use (fun (j : MS → Int32 → Int32 → Int32 → Option (Int32 × MS)) => ∀ (M3 : MS) (v4 : Int32) (v5 : Int32) (v6 : Int32), j M3 v4 v5 v6 = some p → zEF G (d + 3) K YX2_on 19 [none, none, none] [.int v4, .int v5, .int v6, .ref a0] (zm a0 g0 M3) Q) h (fun M3 v4 v5 v6 h => ?_) (fun j9 hj9 h => ?_)
    · refine ez_iconst (v := 0) dX2_on_19 (by decide) ?_
      refine ez_iconst (v := 0) dX2_on_20 (by decide) ?_
      obtain ⟨r7, M8, hq8, h⟩ := zbd_some h
      refine ez_callV (C := RX2) (Tt := TX2) (N := 53) (Y' := YX2_edit) (vs := [.int v6, .int v5, .int v4, .int (0 : Int32), .int (0 : Int32)]) (rest := []) dX2_on_21 rfl zkX2_edit q1162 q1164 rfl slX2_edit (zm0 _ _ _) znX2_edit (Nat.le_of_ble_eq_true rfl) (Nat.le_of_ble_eq_true rfl) rfl (wX2_edit (d := d + 0) hq8 (zBack_v ?_))
      show zEF G (d + 3) K YX2_on 24 [none, none, none] [.int r7] (zm a0 g0 M8) Q
      refine ez_goto (tgt := 29) dX2_on_24 (by decide) ?_
      obtain rfl := Option.some.inj h
      exact ez_iret dX2_on_29 rfl rfl kq
    · refine ez_if_eq (tgt := 18) dX2_on_11 (by decide) (fun hc => ?_) (fun hc => ?_)
      · replace h := zif_t hc h
        refine ez_iconst (v := 0) dX2_on_18 (by decide) ?_
        refine ez_clr 0 ?_
        refine ez_clr 1 ?_
        refine ez_clr 2 ?_
        exact hj9 M (0 : Int32) b0 (4 : Int32) h
      · replace h := zif_f hc h
        refine ez_iconst (v := 1) dX2_on_14 (by decide) ?_
        refine ez_goto (tgt := 19) dX2_on_15 (by decide) ?_
        refine ez_clr 0 ?_
        refine ez_clr 1 ?_
        refine ez_clr 2 ?_
        exact hj9 M (1 : Int32) b0 (4 : Int32) h
def YX2_line : zM := (yX2_line, cX2_line, 3, (Option.some Jvm.ClassFile.FieldType.int), [], false)
theorem zkX2_line : zMok YX2_line := ⟨rfl, q1189, by decide +kernel, by decide +kernel⟩
theorem znX2_line : (parseMethodDescriptor YX2_line.nm.desc).map (fun d => d.parameters.length) = some 2 := by decide +kernel
noncomputable def fX2_line (M : MS) (b0 : Int32) (b1 : Int32) : Option (Int32 × MS) := zbj (fX2_in b0 (0 : Int32) ((M.I 4) - (1 : Int32))) (fun r1 => if r1 = 0 then some ((-101 : Int32), M) else if b1 ≤ (16 : Int32) then zbd (fX2_edit M (5 : Int32) b0 b1 (0 : Int32) (0 : Int32)) (fun r3 M4 => some (r3, M4)) else some ((-102 : Int32), M))
theorem wX2_line {G : zG} {d : Nat} {K : List Nat} {Q : zO → zS → Prop} {a0 : Nat} {g0 : zS} {M : MS} {b0 : Int32} {b1 : Int32} {p : Int32 × MS} (h : fX2_line M b0 b1 = some p) (kq : Q (.inl (some (.int p.1))) (zm a0 g0 p.2)) : zEM G (d + 3) K YX2_line [.ref a0, .int b0, .int b1] (zm a0 g0 M) Q := by
  show zEF G (d + 3) K YX2_line 0 [some (.ref a0), some (.int b0), some (.int b1)] [] (zm a0 g0 M) Q
  unfold fX2_line at h
  refine ez_iload_n (i := 1) (x := b0) dX2_line_0 rfl rfl ?_
  refine ez_iconst (v := 0) dX2_line_1 (by decide) ?_
  refine ez_aload_n (i := 0) (v := .ref a0) dX2_line_2 rfl rfl rfl ?_
  refine gM_203 dX2_line_3 rfl ?_
  refine ez_iconst (v := 1) dX2_line_6 (by decide) ?_
  refine ez_isub dX2_line_7 ?_
  obtain ⟨r1, hq2, h⟩ := zbj_some h
  refine ez_callS (Y' := YX2_in) (vs := [.int b0, .int (0 : Int32), .int ((M.I 4) - (1 : Int32))]) (rest := []) dX2_line_8 rfl zkX2_in q1098 q1099 q54 znX2_in (Nat.le_of_ble_eq_true rfl) (Nat.le_of_ble_eq_true rfl) rfl (wX2_in (d := d + 2) hq2 (zBack_v ?_))
  show zEF G (d + 3) K YX2_line 11 [some (.ref a0), some (.int b0), some (.int b1)] [.int r1] (zm a0 g0 M) Q
  refine ez_if_ne (tgt := 17) dX2_line_11 (by decide) (fun hc => ?_) (fun hc => ?_)
  · replace h := zif_f hc h
    refine ez_iload_n (i := 2) (x := b1) dX2_line_17 rfl rfl ?_
    refine ez_bipush (v := 16) dX2_line_18 (by decide) ?_
    refine ez_icmp_le (tgt := 28) dX2_line_20 (by decide) (fun hc => ?_) (fun hc => ?_)
    · replace h := zif_t hc h
      refine ez_aload_n (i := 0) (v := .ref a0) dX2_line_28 rfl rfl rfl ?_
      refine ez_iconst (v := 5) dX2_line_29 (by decide) ?_
      refine ez_iload_n (i := 1) (x := b0) dX2_line_30 rfl rfl ?_
      refine ez_iload_n (i := 2) (x := b1) dX2_line_31 rfl rfl ?_
      refine ez_iconst (v := 0) dX2_line_32 (by decide) ?_
      refine ez_iconst (v := 0) dX2_line_33 (by decide) ?_
      obtain ⟨r3, M4, hq4, h⟩ := zbd_some h
      refine ez_callV (C := RX2) (Tt := TX2) (N := 53) (Y' := YX2_edit) (vs := [.int (5 : Int32), .int b0, .int b1, .int (0 : Int32), .int (0 : Int32)]) (rest := []) dX2_line_34 rfl zkX2_edit q1162 q1164 rfl slX2_edit (zm0 _ _ _) znX2_edit (Nat.le_of_ble_eq_true rfl) (Nat.le_of_ble_eq_true rfl) rfl (wX2_edit (d := d + 0) hq4 (zBack_v ?_))
      show zEF G (d + 3) K YX2_line 37 [some (.ref a0), some (.int b0), some (.int b1)] [.int r3] (zm a0 g0 M4) Q
      obtain rfl := Option.some.inj h
      exact ez_iret dX2_line_37 rfl rfl kq
    · replace h := zif_f hc h
      refine ez_bipush (v := -102) dX2_line_23 (by decide) ?_
      refine ez_goto (tgt := 37) dX2_line_25 (by decide) ?_
      obtain rfl := Option.some.inj h
      exact ez_iret dX2_line_37 rfl rfl kq
  · replace h := zif_t hc h
    refine ez_bipush (v := -101) dX2_line_14 (by decide) ?_
    obtain rfl := Option.some.inj h
    exact ez_iret dX2_line_16 rfl rfl kq
def YX2_hire : zM := (yX2_hire, cX2_hire, 3, (Option.some Jvm.ClassFile.FieldType.int), [], false)
theorem zkX2_hire : zMok YX2_hire := ⟨rfl, q1193, by decide +kernel, by decide +kernel⟩
theorem znX2_hire : (parseMethodDescriptor YX2_hire.nm.desc).map (fun d => d.parameters.length) = some 1 := by decide +kernel
noncomputable def fX2_hire (M : MS) (b0 : Int32) : Option (Int32 × MS) := zbj (fX2_in b0 (1 : Int32) (4 : Int32)) (fun r1 => if r1 = 0 then some ((-102 : Int32), M) else if (M.I 28) = 0 then zlet (mI M 26 b0) (fun M3 => some ((M.I 26), M3)) else some ((-103 : Int32), M))
theorem wX2_hire {G : zG} {d : Nat} {K : List Nat} {Q : zO → zS → Prop} {a0 : Nat} {g0 : zS} {M : MS} {b0 : Int32} {p : Int32 × MS} (h : fX2_hire M b0 = some p) (kq : Q (.inl (some (.int p.1))) (zm a0 g0 p.2)) : zEM G (d + 1) K YX2_hire [.ref a0, .int b0] (zm a0 g0 M) Q := by
  show zEF G (d + 1) K YX2_hire 0 [some (.ref a0), some (.int b0), none] [] (zm a0 g0 M) Q
  unfold fX2_hire at h
  refine ez_iload_n (i := 1) (x := b0) dX2_hire_0 rfl rfl ?_
  refine ez_iconst (v := 1) dX2_hire_1 (by decide) ?_
  refine ez_iconst (v := 4) dX2_hire_2 (by decide) ?_
  obtain ⟨r1, hq2, h⟩ := zbj_some h
  refine ez_callS (Y' := YX2_in) (vs := [.int b0, .int (1 : Int32), .int (4 : Int32)]) (rest := []) dX2_hire_3 rfl zkX2_in q1098 q1099 q54 znX2_in (Nat.le_of_ble_eq_true rfl) (Nat.le_of_ble_eq_true rfl) rfl (wX2_in (d := d + 0) hq2 (zBack_v ?_))
  show zEF G (d + 1) K YX2_hire 6 [some (.ref a0), some (.int b0), none] [.int r1] (zm a0 g0 M) Q
  refine ez_if_ne (tgt := 12) dX2_hire_6 (by decide) (fun hc => ?_) (fun hc => ?_)
  · replace h := zif_f hc h
    refine ez_aload_n (i := 0) (v := .ref a0) dX2_hire_12 rfl rfl rfl ?_
    refine gM_159 dX2_hire_13 rfl ?_
    refine ez_if_eq (tgt := 22) dX2_hire_16 (by decide) (fun hc => ?_) (fun hc => ?_)
    · replace h := zif_t hc h
      refine ez_aload_n (i := 0) (v := .ref a0) dX2_hire_22 rfl rfl rfl ?_
      refine gM_85 dX2_hire_23 rfl ?_
      refine ez_istore_n (i := 2) dX2_hire_26 rfl (show 2 < 3 by decide) ?_
      show zEF G (d + 1) K YX2_hire 27 [some (.ref a0), some (.int b0), some (.int (M.I 26))] [] (zm a0 g0 M) Q
      refine ez_aload_n (i := 0) (v := .ref a0) dX2_hire_27 rfl rfl rfl ?_
      refine ez_iload_n (i := 1) (x := b0) dX2_hire_28 rfl rfl ?_
      refine pM_85 dX2_hire_29 rfl ?_
      refine zlet_use (fun M3 => zEF G (d + 1) K YX2_hire 32 [some (.ref a0), some (.int b0), some (.int (M.I 26))] [] (zm a0 g0 M3) Q) h (fun M3 h => ?_)
      refine ez_iload_n (i := 2) (x := (M.I 26)) dX2_hire_32 rfl rfl ?_
      obtain rfl := Option.some.inj h
      exact ez_iret dX2_hire_33 rfl rfl kq
    · replace h := zif_f hc h
      refine ez_bipush (v := -103) dX2_hire_19 (by decide) ?_
      obtain rfl := Option.some.inj h
      exact ez_iret dX2_hire_21 rfl rfl kq
  · replace h := zif_t hc h
    refine ez_bipush (v := -102) dX2_hire_9 (by decide) ?_
    obtain rfl := Option.some.inj h
    exact ez_iret dX2_hire_11 rfl rfl kq
def YX2_beginBlock : zM := (yX2_beginBlock, cX2_beginBlock, 2, (Option.none : Option Jvm.ClassFile.FieldType), [], false)
theorem zkX2_beginBlock : zMok YX2_beginBlock := ⟨rfl, q1201, by decide +kernel, by decide +kernel⟩
theorem znX2_beginBlock : (parseMethodDescriptor YX2_beginBlock.nm.desc).map (fun d => d.parameters.length) = some 0 := by decide +kernel
theorem slX2_beginBlock : Cond.selects RX2 yX2_beginBlock yX2_beginBlock ∈ lw_all := lw_w 31 rfl rfl
noncomputable def fX2_beginBlock_L2 : Nat → MS → Int32 → Option (Unit × MS)
  | 0, _, _ => none
  | n + 1, M, y1 => if (8 : Int32) ≤ y1 then some ((), M) else zgd (vp_in y1 8) (zjoin (fun (M2 : MS) (v3 : Int32) (v4 : Int32) (v5 : Int32) => zgd (vp_in v5 8) (zlet (mA M2 20 v5.toNatClampNeg v4) (fun M7 => zgd (vp_in v3 8) (zlet (mA M7 21 v3.toNatClampNeg (0 : Int32)) (fun M9 => zgd (vp_in v3 8) (zlet (mA M9 22 v3.toNatClampNeg (0 : Int32)) (fun M11 => fX2_beginBlock_L2 n M11 (v3 + (1 : Int32))))))))) (fun j12 => if (M.A 13 y1.toNatClampNeg) = 0 then j12 M y1 (0 : Int32) y1 else j12 M y1 (1 : Int32) y1))
noncomputable def fX2_beginBlock (M : MS) : Option (Unit × MS) := fX2_beginBlock_L2 1000 M (0 : Int32) 
theorem fX2_beginBlock_L2_ok {G : zG} {d : Nat} {K : List Nat} {Q : zO → zS → Prop} {a0 : Nat} {g0 : zS} : ∀ (n : Nat) (M : MS) (y1 : Int32) (p : Unit × MS) (h : fX2_beginBlock_L2 n M y1 = some p) (kq : Q (.inl none) (zm a0 g0 p.2)), zEF G (d + 0) K YX2_beginBlock 2 [some (.ref a0), some (.int y1)] [] (zm a0 g0 M) Q := by
  intro n
  induction n with
  | zero =>
    intro M y1 p h kq
    rw [fX2_beginBlock_L2] at h
    cases h
  | succ n ih =>
    intro M y1 p h kq
    rw [fX2_beginBlock_L2] at h
    refine ez_iload_n (i := 1) (x := y1) dX2_beginBlock_2 rfl rfl ?_
    refine ez_bipush (v := 8) dX2_beginBlock_3 (by decide) ?_
    refine ez_icmp_ge (tgt := 48) dX2_beginBlock_5 (by decide) (fun hc => ?_) (fun hc => ?_)
    · replace h := zif_t hc h
      obtain rfl := Option.some.inj h
      exact ez_vret dX2_beginBlock_48 rfl kq
    · replace h := zif_f hc h
      refine ez_aload_n (i := 0) (v := .ref a0) dX2_beginBlock_8 rfl rfl rfl ?_
      refine gM_67 dX2_beginBlock_9 rfl ?_
      refine ez_iload_n (i := 1) (x := y1) dX2_beginBlock_12 rfl rfl ?_
      refine ez_aload_n (i := 0) (v := .ref a0) dX2_beginBlock_13 rfl rfl rfl ?_
      refine gM_45 dX2_beginBlock_14 rfl ?_
      refine ez_iload_n (i := 1) (x := y1) dX2_beginBlock_17 rfl rfl ?_
      obtain ⟨hg1, h⟩ := zgd_some h
      refine lM_13 dX2_beginBlock_18 hg1 ?_
      refine zjoin_use (fun (j : MS → Int32 → Int32 → Int32 → Option (Unit × MS)) => ∀ (M2 : MS) (v3 : Int32) (v4 : Int32) (v5 : Int32), j M2 v3 v4 v5 = some p → zEF G (d + 0) K YX2_beginBlock 27 [some (.ref a0), some (.int v3)] [.int v4, .int v5, .ref (a0 + 19)] (zm a0 g0 M2) Q) h (fun M2 v3 v4 v5 h => ?_) (fun j12 hj12 h => ?_)
      · obtain ⟨hg6, h⟩ := zgd_some h
        refine sM_20 dX2_beginBlock_27 hg6 ?_
        refine zlet_use (fun M7 => zEF G (d + 0) K YX2_beginBlock 28 [some (.ref a0), some (.int v3)] [] (zm a0 g0 M7) Q) h (fun M7 h => ?_)
        refine ez_aload_n (i := 0) (v := .ref a0) dX2_beginBlock_28 rfl rfl rfl ?_
        refine gM_70 dX2_beginBlock_29 rfl ?_
        refine ez_iload_n (i := 1) (x := v3) dX2_beginBlock_32 rfl rfl ?_
        refine ez_iconst (v := 0) dX2_beginBlock_33 (by decide) ?_
        obtain ⟨hg8, h⟩ := zgd_some h
        refine sM_21 dX2_beginBlock_34 hg8 ?_
        refine zlet_use (fun M9 => zEF G (d + 0) K YX2_beginBlock 35 [some (.ref a0), some (.int v3)] [] (zm a0 g0 M9) Q) h (fun M9 h => ?_)
        refine ez_aload_n (i := 0) (v := .ref a0) dX2_beginBlock_35 rfl rfl rfl ?_
        refine gM_73 dX2_beginBlock_36 rfl ?_
        refine ez_iload_n (i := 1) (x := v3) dX2_beginBlock_39 rfl rfl ?_
        refine ez_iconst (v := 0) dX2_beginBlock_40 (by decide) ?_
        obtain ⟨hg10, h⟩ := zgd_some h
        refine sM_22 dX2_beginBlock_41 hg10 ?_
        refine zlet_use (fun M11 => zEF G (d + 0) K YX2_beginBlock 42 [some (.ref a0), some (.int v3)] [] (zm a0 g0 M11) Q) h (fun M11 h => ?_)
        refine ez_iinc (x := v3) (v := (v3 + (1 : Int32))) dX2_beginBlock_42 rfl rfl (show 1 < 2 by decide) ?_
        show zEF G (d + 0) K YX2_beginBlock 45 [some (.ref a0), some (.int (v3 + (1 : Int32)))] [] (zm a0 g0 M11) Q
        refine ez_goto (tgt := 2) dX2_beginBlock_45 (by decide) ?_
        exact ih M11 (v3 + (1 : Int32)) _ h kq
      · refine ez_if_eq (tgt := 26) dX2_beginBlock_19 (by decide) (fun hc => ?_) (fun hc => ?_)
        · replace h := zif_t hc h
          refine ez_iconst (v := 0) dX2_beginBlock_26 (by decide) ?_
          exact hj12 M y1 (0 : Int32) y1 h
        · replace h := zif_f hc h
          refine ez_iconst (v := 1) dX2_beginBlock_22 (by decide) ?_
          refine ez_goto (tgt := 27) dX2_beginBlock_23 (by decide) ?_
          exact hj12 M y1 (1 : Int32) y1 h
theorem wX2_beginBlock {G : zG} {d : Nat} {K : List Nat} {Q : zO → zS → Prop} {a0 : Nat} {g0 : zS} {M : MS} {p : Unit × MS} (h : fX2_beginBlock M = some p) (kq : Q (.inl none) (zm a0 g0 p.2)) : zEM G (d + 0) K YX2_beginBlock [.ref a0] (zm a0 g0 M) Q := by
  show zEF G (d + 0) K YX2_beginBlock 0 [some (.ref a0), none] [] (zm a0 g0 M) Q
  unfold fX2_beginBlock at h
  refine ez_iconst (v := 0) dX2_beginBlock_0 (by decide) ?_
  refine ez_istore_n (i := 1) dX2_beginBlock_1 rfl (show 1 < 2 by decide) ?_
  show zEF G (d + 0) K YX2_beginBlock 2 [some (.ref a0), some (.int (0 : Int32))] [] (zm a0 g0 M) Q
  refine fX2_beginBlock_L2_ok (d := d) (K := K) 1000 M (0 : Int32) _ h  kq
def YX2_render : zM := (yX2_render, cX2_render, 2, (Option.some Jvm.ClassFile.FieldType.int), [], false)
theorem zkX2_render : zMok YX2_render := ⟨rfl, q1197, by decide +kernel, by decide +kernel⟩
theorem znX2_render : (parseMethodDescriptor YX2_render.nm.desc).map (fun d => d.parameters.length) = some 1 := by decide +kernel
noncomputable def fX2_render (M : MS) (b0 : Int32) : Option (Int32 × MS) := zbj (fX2_in b0 (1 : Int32) (8 : Int32)) (fun r1 => if r1 = 0 then some ((-102 : Int32), M) else if (M.I 28) = 0 then if ((M.I 31) + b0) ≤ (64 : Int32) then zlet (mI M 28 (1 : Int32)) (fun M3 => zlet (mI M3 29 (0 : Int32)) (fun M4 => zlet (mI M4 30 b0) (fun M5 => zbd (fX2_beginBlock M5) (fun _ M7 => some ((M7.I 31), M7))))) else some ((-104 : Int32), M) else some ((-103 : Int32), M))
theorem wX2_render {G : zG} {d : Nat} {K : List Nat} {Q : zO → zS → Prop} {a0 : Nat} {g0 : zS} {M : MS} {b0 : Int32} {p : Int32 × MS} (h : fX2_render M b0 = some p) (kq : Q (.inl (some (.int p.1))) (zm a0 g0 p.2)) : zEM G (d + 1) K YX2_render [.ref a0, .int b0] (zm a0 g0 M) Q := by
  show zEF G (d + 1) K YX2_render 0 [some (.ref a0), some (.int b0)] [] (zm a0 g0 M) Q
  unfold fX2_render at h
  refine ez_iload_n (i := 1) (x := b0) dX2_render_0 rfl rfl ?_
  refine ez_iconst (v := 1) dX2_render_1 (by decide) ?_
  refine ez_bipush (v := 8) dX2_render_2 (by decide) ?_
  obtain ⟨r1, hq2, h⟩ := zbj_some h
  refine ez_callS (Y' := YX2_in) (vs := [.int b0, .int (1 : Int32), .int (8 : Int32)]) (rest := []) dX2_render_4 rfl zkX2_in q1098 q1099 q54 znX2_in (Nat.le_of_ble_eq_true rfl) (Nat.le_of_ble_eq_true rfl) rfl (wX2_in (d := d + 0) hq2 (zBack_v ?_))
  show zEF G (d + 1) K YX2_render 7 [some (.ref a0), some (.int b0)] [.int r1] (zm a0 g0 M) Q
  refine ez_if_ne (tgt := 13) dX2_render_7 (by decide) (fun hc => ?_) (fun hc => ?_)
  · replace h := zif_f hc h
    refine ez_aload_n (i := 0) (v := .ref a0) dX2_render_13 rfl rfl rfl ?_
    refine gM_159 dX2_render_14 rfl ?_
    refine ez_if_eq (tgt := 23) dX2_render_17 (by decide) (fun hc => ?_) (fun hc => ?_)
    · replace h := zif_t hc h
      refine ez_aload_n (i := 0) (v := .ref a0) dX2_render_23 rfl rfl rfl ?_
      refine gM_238 dX2_render_24 rfl ?_
      refine ez_iload_n (i := 1) (x := b0) dX2_render_27 rfl rfl ?_
      refine ez_iadd dX2_render_28 ?_
      refine ez_bipush (v := 64) dX2_render_29 (by decide) ?_
      refine ez_icmp_le (tgt := 37) dX2_render_31 (by decide) (fun hc => ?_) (fun hc => ?_)
      · replace h := zif_t hc h
        refine ez_aload_n (i := 0) (v := .ref a0) dX2_render_37 rfl rfl rfl ?_
        refine ez_iconst (v := 1) dX2_render_38 (by decide) ?_
        refine pM_159 dX2_render_39 rfl ⟨rfl, rfl⟩ ?_
        refine zlet_use (fun M3 => zEF G (d + 1) K YX2_render 42 [some (.ref a0), some (.int b0)] [] (zm a0 g0 M3) Q) h (fun M3 h => ?_)
        refine ez_aload_n (i := 0) (v := .ref a0) dX2_render_42 rfl rfl rfl ?_
        refine ez_iconst (v := 0) dX2_render_43 (by decide) ?_
        refine pM_241 dX2_render_44 rfl ⟨rfl, rfl⟩ ?_
        refine zlet_use (fun M4 => zEF G (d + 1) K YX2_render 47 [some (.ref a0), some (.int b0)] [] (zm a0 g0 M4) Q) h (fun M4 h => ?_)
        refine ez_aload_n (i := 0) (v := .ref a0) dX2_render_47 rfl rfl rfl ?_
        refine ez_iload_n (i := 1) (x := b0) dX2_render_48 rfl rfl ?_
        refine pM_244 dX2_render_49 rfl ?_
        refine zlet_use (fun M5 => zEF G (d + 1) K YX2_render 52 [some (.ref a0), some (.int b0)] [] (zm a0 g0 M5) Q) h (fun M5 h => ?_)
        refine ez_aload_n (i := 0) (v := .ref a0) dX2_render_52 rfl rfl rfl ?_
        obtain ⟨_, M7, hq7, h⟩ := zbd_some h
        refine ez_callV (C := RX2) (Tt := TX2) (N := 53) (Y' := YX2_beginBlock) (vs := []) (rest := []) dX2_render_53 rfl zkX2_beginBlock q1198 q1200 rfl slX2_beginBlock (zm0 _ _ _) znX2_beginBlock (Nat.le_of_ble_eq_true rfl) (Nat.le_of_ble_eq_true rfl) rfl (wX2_beginBlock (d := d + 0) hq7 (zBack_n ?_))
        show zEF G (d + 1) K YX2_render 56 [some (.ref a0), some (.int b0)] [] (zm a0 g0 M7) Q
        refine ez_aload_n (i := 0) (v := .ref a0) dX2_render_56 rfl rfl rfl ?_
        refine gM_238 dX2_render_57 rfl ?_
        obtain rfl := Option.some.inj h
        exact ez_iret dX2_render_60 rfl rfl kq
      · replace h := zif_f hc h
        refine ez_bipush (v := -104) dX2_render_34 (by decide) ?_
        obtain rfl := Option.some.inj h
        exact ez_iret dX2_render_36 rfl rfl kq
    · replace h := zif_f hc h
      refine ez_bipush (v := -103) dX2_render_20 (by decide) ?_
      obtain rfl := Option.some.inj h
      exact ez_iret dX2_render_22 rfl rfl kq
  · replace h := zif_t hc h
    refine ez_bipush (v := -102) dX2_render_10 (by decide) ?_
    obtain rfl := Option.some.inj h
    exact ez_iret dX2_render_12 rfl rfl kq
def YX2_isWorker : zM := (yX2_isWorker, cX2_isWorker, 2, (Option.some Jvm.ClassFile.FieldType.boolean), [], false)
theorem zkX2_isWorker : zMok YX2_isWorker := ⟨rfl, q1209, by decide +kernel, by decide +kernel⟩
theorem znX2_isWorker : (parseMethodDescriptor YX2_isWorker.nm.desc).map (fun d => d.parameters.length) = some 1 := by decide +kernel
theorem slX2_isWorker : Cond.selects RX2 yX2_isWorker yX2_isWorker ∈ lw_all := lw_w 32 rfl rfl
noncomputable def fX2_isWorker (M : MS) (b0 : Int32) : Option (Int32 × MS) := zbj (fX2_in b0 (0 : Int32) ((M.I 26) - (1 : Int32))) (fun r1 => zgd (zbl r1) (some (r1, M)))
theorem wX2_isWorker {G : zG} {d : Nat} {K : List Nat} {Q : zO → zS → Prop} {a0 : Nat} {g0 : zS} {M : MS} {b0 : Int32} {p : Int32 × MS} (h : fX2_isWorker M b0 = some p) (kq : Q (.inl (some (.int p.1))) (zm a0 g0 p.2)) : zEM G (d + 1) K YX2_isWorker [.ref a0, .int b0] (zm a0 g0 M) Q := by
  show zEF G (d + 1) K YX2_isWorker 0 [some (.ref a0), some (.int b0)] [] (zm a0 g0 M) Q
  unfold fX2_isWorker at h
  refine ez_iload_n (i := 1) (x := b0) dX2_isWorker_0 rfl rfl ?_
  refine ez_iconst (v := 0) dX2_isWorker_1 (by decide) ?_
  refine ez_aload_n (i := 0) (v := .ref a0) dX2_isWorker_2 rfl rfl rfl ?_
  refine gM_85 dX2_isWorker_3 rfl ?_
  refine ez_iconst (v := 1) dX2_isWorker_6 (by decide) ?_
  refine ez_isub dX2_isWorker_7 ?_
  obtain ⟨r1, hq2, h⟩ := zbj_some h
  refine ez_callS (Y' := YX2_in) (vs := [.int b0, .int (0 : Int32), .int ((M.I 26) - (1 : Int32))]) (rest := []) dX2_isWorker_8 rfl zkX2_in q1098 q1099 q54 znX2_in (Nat.le_of_ble_eq_true rfl) (Nat.le_of_ble_eq_true rfl) rfl (wX2_in (d := d + 0) hq2 (zBack_v ?_))
  show zEF G (d + 1) K YX2_isWorker 11 [some (.ref a0), some (.int b0)] [.int r1] (zm a0 g0 M) Q
  obtain ⟨hb, h⟩ := zgd_some h
  obtain rfl := Option.some.inj h
  exact ez_iret dX2_isWorker_11 rfl hb.1 kq
def YX2_mayPass : zM := (yX2_mayPass, cX2_mayPass, 5, (Option.some Jvm.ClassFile.FieldType.boolean), [], false)
theorem zkX2_mayPass : zMok YX2_mayPass := ⟨rfl, q1217, by decide +kernel, by decide +kernel⟩
theorem znX2_mayPass : (parseMethodDescriptor YX2_mayPass.nm.desc).map (fun d => d.parameters.length) = some 2 := by decide +kernel
theorem slX2_mayPass : Cond.selects RX2 yX2_mayPass yX2_mayPass ∈ lw_all := lw_w 34 rfl rfl
noncomputable def fX2_mayPass_L35 : Nat → MS → Int32 → Int32 → Int32 → Int32 → (MS → Int32 → Int32 → Int32 → Option (Int32 × MS)) → Option (Int32 × MS)
  | 0, _, _, _, _, _, _ => none
  | n + 1, M, y1, y2, y3, y4, k64 => if (4 : Int32) ≤ y4 then k64 M y1 y2 y3 else zgd (vp_in (((4 : Int32) * y3) + y4) 32) (if (M.A 19 (((4 : Int32) * y3) + y4).toNatClampNeg) = y2 then some ((0 : Int32), M) else fX2_mayPass_L35 n M y1 y2 y3 (y4 + (1 : Int32)) k64)
noncomputable def fX2_mayPass_L2 : Nat → MS → Int32 → Int32 → Int32 → Option (Int32 × MS)
  | 0, _, _, _, _ => none
  | n + 1, M, y1, y2, y3 => if y1 ≤ y3 then some ((1 : Int32), M) else zgd (vp_in y3 8) (zjoin (fun (M2 : MS) (v3 : Int32) (v4 : Int32) (v5 : Int32) => fX2_mayPass_L2 n M2 v3 v4 (v5 + (1 : Int32))) (fun j6 => zjoin (fun (M7 : MS) (v8 : Int32) (v9 : Int32) (v10 : Int32) => zgd (vp_in v10 8) (zlet (M7.A 21 v10.toNatClampNeg) (fun a12 => fX2_mayPass_L35 1000 M7 v8 v9 v10 a12 (fun (M14 : MS) (x15 : Int32) (x16 : Int32) (x17 : Int32) => j6 M14 x15 x16 x17)))) (fun j18 => if (M.A 20 y3.toNatClampNeg) = (1 : Int32) then j18 M y1 y2 y3 else zgd (vp_in y3 8) (if (M.A 20 y3.toNatClampNeg) = (2 : Int32) then j18 M y1 y2 y3 else j6 M y1 y2 y3))))
noncomputable def fX2_mayPass (M : MS) (b0 : Int32) (b1 : Int32) : Option (Int32 × MS) := fX2_mayPass_L2 1000 M b0 b1 (0 : Int32) 
theorem fX2_mayPass_L35_ok {G : zG} {d : Nat} {K : List Nat} {Q : zO → zS → Prop} {a0 : Nat} {g0 : zS} : ∀ (n : Nat) (M : MS) (y1 : Int32) (y2 : Int32) (y3 : Int32) (y4 : Int32) (k64 : MS → Int32 → Int32 → Int32 → Option (Int32 × MS)) (p : Int32 × MS) (h : fX2_mayPass_L35 n M y1 y2 y3 y4 k64 = some p) (hk64 : ∀ (M : MS) (x1 : Int32) (x2 : Int32) (x3 : Int32), k64 M x1 x2 x3 = some p → zEF G (d + 0) K YX2_mayPass 64 [some (.ref a0), some (.int x1), some (.int x2), some (.int x3), none] [] (zm a0 g0 M) Q) (kq : Q (.inl (some (.int p.1))) (zm a0 g0 p.2)), zEF G (d + 0) K YX2_mayPass 35 [some (.ref a0), some (.int y1), some (.int y2), some (.int y3), some (.int y4)] [] (zm a0 g0 M) Q := by
  intro n
  induction n with
  | zero =>
    intro M y1 y2 y3 y4 k64 p h hk64 kq
    rw [fX2_mayPass_L35] at h
    cases h
  | succ n ih =>
    intro M y1 y2 y3 y4 k64 p h hk64 kq
    rw [fX2_mayPass_L35] at h
    refine ez_iload (i := 4) (x := y4) dX2_mayPass_35 rfl ?_
    refine ez_iconst (v := 4) dX2_mayPass_37 (by decide) ?_
    refine ez_icmp_ge (tgt := 64) dX2_mayPass_38 (by decide) (fun hc => ?_) (fun hc => ?_)
    · replace h := zif_t hc h
      refine ez_clr 4 ?_
      exact hk64 M y1 y2 y3 h
    · replace h := zif_f hc h
      refine ez_aload_n (i := 0) (v := .ref a0) dX2_mayPass_41 rfl rfl rfl ?_
      refine gM_64 dX2_mayPass_42 rfl ?_
      refine ez_iconst (v := 4) dX2_mayPass_45 (by decide) ?_
      refine ez_iload_n (i := 3) (x := y3) dX2_mayPass_46 rfl rfl ?_
      refine ez_imul dX2_mayPass_47 ?_
      refine ez_iload (i := 4) (x := y4) dX2_mayPass_48 rfl ?_
      refine ez_iadd dX2_mayPass_50 ?_
      obtain ⟨hg13, h⟩ := zgd_some h
      refine lM_19 dX2_mayPass_51 hg13 ?_
      refine ez_iload_n (i := 2) (x := y2) dX2_mayPass_52 rfl rfl ?_
      refine ez_icmp_ne (tgt := 58) dX2_mayPass_53 (by decide) (fun hc => ?_) (fun hc => ?_)
      · replace h := zif_f hc h
        refine ez_iinc (x := y4) (v := (y4 + (1 : Int32))) dX2_mayPass_58 rfl rfl (show 4 < 5 by decide) ?_
        show zEF G (d + 0) K YX2_mayPass 61 [some (.ref a0), some (.int y1), some (.int y2), some (.int y3), some (.int (y4 + (1 : Int32)))] [] (zm a0 g0 M) Q
        refine ez_goto (tgt := 35) dX2_mayPass_61 (by decide) ?_
        exact ih M y1 y2 y3 (y4 + (1 : Int32)) _ _ h hk64 kq
      · replace h := zif_t hc h
        refine ez_iconst (v := 0) dX2_mayPass_56 (by decide) ?_
        obtain rfl := Option.some.inj h
        exact ez_iret dX2_mayPass_57 rfl rfl kq
theorem fX2_mayPass_L2_ok {G : zG} {d : Nat} {K : List Nat} {Q : zO → zS → Prop} {a0 : Nat} {g0 : zS} : ∀ (n : Nat) (M : MS) (y1 : Int32) (y2 : Int32) (y3 : Int32) (p : Int32 × MS) (h : fX2_mayPass_L2 n M y1 y2 y3 = some p) (kq : Q (.inl (some (.int p.1))) (zm a0 g0 p.2)), zEF G (d + 0) K YX2_mayPass 2 [some (.ref a0), some (.int y1), some (.int y2), some (.int y3), none] [] (zm a0 g0 M) Q := by
  intro n
  induction n with
  | zero =>
    intro M y1 y2 y3 p h kq
    rw [fX2_mayPass_L2] at h
    cases h
  | succ n ih =>
    intro M y1 y2 y3 p h kq
    rw [fX2_mayPass_L2] at h
    refine ez_iload_n (i := 3) (x := y3) dX2_mayPass_2 rfl rfl ?_
    refine ez_iload_n (i := 1) (x := y1) dX2_mayPass_3 rfl rfl ?_
    refine ez_icmp_ge (tgt := 70) dX2_mayPass_4 (by decide) (fun hc => ?_) (fun hc => ?_)
    · replace h := zif_t hc h
      refine ez_iconst (v := 1) dX2_mayPass_70 (by decide) ?_
      obtain rfl := Option.some.inj h
      exact ez_iret dX2_mayPass_71 rfl rfl kq
    · replace h := zif_f hc h
      refine ez_aload_n (i := 0) (v := .ref a0) dX2_mayPass_7 rfl rfl rfl ?_
      refine gM_67 dX2_mayPass_8 rfl ?_
      refine ez_iload_n (i := 3) (x := y3) dX2_mayPass_11 rfl rfl ?_
      obtain ⟨hg1, h⟩ := zgd_some h
      refine lM_20 dX2_mayPass_12 hg1 ?_
      refine ez_iconst (v := 1) dX2_mayPass_13 (by decide) ?_
      refine zjoin_use (fun (j : MS → Int32 → Int32 → Int32 → Option (Int32 × MS)) => ∀ (M2 : MS) (v3 : Int32) (v4 : Int32) (v5 : Int32), j M2 v3 v4 v5 = some p → zEF G (d + 0) K YX2_mayPass 64 [some (.ref a0), some (.int v3), some (.int v4), some (.int v5), none] [] (zm a0 g0 M2) Q) h (fun M2 v3 v4 v5 h => ?_) (fun j6 hj6 h => ?_)
      · refine ez_iinc (x := v5) (v := (v5 + (1 : Int32))) dX2_mayPass_64 rfl rfl (show 3 < 5 by decide) ?_
        show zEF G (d + 0) K YX2_mayPass 67 [some (.ref a0), some (.int v3), some (.int v4), some (.int (v5 + (1 : Int32))), none] [] (zm a0 g0 M2) Q
        refine ez_goto (tgt := 2) dX2_mayPass_67 (by decide) ?_
        exact ih M2 v3 v4 (v5 + (1 : Int32)) _ h kq
      · refine zjoin_use (fun (j : MS → Int32 → Int32 → Int32 → Option (Int32 × MS)) => ∀ (M7 : MS) (v8 : Int32) (v9 : Int32) (v10 : Int32), j M7 v8 v9 v10 = some p → zEF G (d + 0) K YX2_mayPass 27 [some (.ref a0), some (.int v8), some (.int v9), some (.int v10), none] [] (zm a0 g0 M7) Q) h (fun M7 v8 v9 v10 h => ?_) (fun j18 hj18 h => ?_)
        · refine ez_aload_n (i := 0) (v := .ref a0) dX2_mayPass_27 rfl rfl rfl ?_
          refine gM_70 dX2_mayPass_28 rfl ?_
          refine ez_iload_n (i := 3) (x := v10) dX2_mayPass_31 rfl rfl ?_
          obtain ⟨hg11, h⟩ := zgd_some h
          refine lM_21 dX2_mayPass_32 hg11 ?_
          refine ez_istore (i := 4) dX2_mayPass_33 (show 4 < 5 by decide) ?_
          refine zlet_use (fun a12 => zEF G (d + 0) K YX2_mayPass 35 [some (.ref a0), some (.int v8), some (.int v9), some (.int v10), some (.int a12)] [] (zm a0 g0 M7) Q) h (fun a12 h => ?_)
          refine fX2_mayPass_L35_ok (d := d) (K := K) 1000 M7 v8 v9 v10 a12 _ _ h (fun M14 x15 x16 x17 h => ?_) kq
          exact hj6 M14 x15 x16 x17 h
        · refine ez_icmp_eq (tgt := 27) dX2_mayPass_14 (by decide) (fun hc => ?_) (fun hc => ?_)
          · replace h := zif_t hc h
            exact hj18 M y1 y2 y3 h
          · replace h := zif_f hc h
            refine ez_aload_n (i := 0) (v := .ref a0) dX2_mayPass_17 rfl rfl rfl ?_
            refine gM_67 dX2_mayPass_18 rfl ?_
            refine ez_iload_n (i := 3) (x := y3) dX2_mayPass_21 rfl rfl ?_
            obtain ⟨hg19, h⟩ := zgd_some h
            refine lM_20 dX2_mayPass_22 hg19 ?_
            refine ez_iconst (v := 2) dX2_mayPass_23 (by decide) ?_
            refine ez_icmp_ne (tgt := 64) dX2_mayPass_24 (by decide) (fun hc => ?_) (fun hc => ?_)
            · replace h := zif_f hc h
              exact hj6 M y1 y2 y3 h
            · replace h := zif_t hc h
              exact hj18 M y1 y2 y3 h
theorem wX2_mayPass {G : zG} {d : Nat} {K : List Nat} {Q : zO → zS → Prop} {a0 : Nat} {g0 : zS} {M : MS} {b0 : Int32} {b1 : Int32} {p : Int32 × MS} (h : fX2_mayPass M b0 b1 = some p) (kq : Q (.inl (some (.int p.1))) (zm a0 g0 p.2)) : zEM G (d + 0) K YX2_mayPass [.ref a0, .int b0, .int b1] (zm a0 g0 M) Q := by
  show zEF G (d + 0) K YX2_mayPass 0 [some (.ref a0), some (.int b0), some (.int b1), none, none] [] (zm a0 g0 M) Q
  unfold fX2_mayPass at h
  refine ez_iconst (v := 0) dX2_mayPass_0 (by decide) ?_
  refine ez_istore_n (i := 3) dX2_mayPass_1 rfl (show 3 < 5 by decide) ?_
  show zEF G (d + 0) K YX2_mayPass 2 [some (.ref a0), some (.int b0), some (.int b1), some (.int (0 : Int32)), none] [] (zm a0 g0 M) Q
  refine fX2_mayPass_L2_ok (d := d) (K := K) 1000 M b0 b1 (0 : Int32) _ h  kq
def YX2_echo : zM := (yX2_echo, cX2_echo, 5, (Option.some Jvm.ClassFile.FieldType.float), [], false)
theorem zkX2_echo : zMok YX2_echo := ⟨rfl, q1233, by decide +kernel, by decide +kernel⟩
theorem znX2_echo : (parseMethodDescriptor YX2_echo.nm.desc).map (fun d => d.parameters.length) = some 2 := by decide +kernel
theorem slX2_echo : Cond.selects RX2 yX2_echo yX2_echo ∈ lw_all := lw_w 37 rfl rfl
noncomputable def fX2_echo (M : MS) (b0 : Int32) (b1 : UInt32) : Option (UInt32 × MS) := zgd (vp_in b0 12) (if (M.A 10 b0.toNatClampNeg) = (-1 : Int32) then zlet (mI M 49 (1 : Int32)) (fun M24 => some (FP.fconst0, M24)) else zgd (vp_in b0 12) (if (M.A 10 b0.toNatClampNeg) = 0 then zlet (mI M 49 (2 : Int32)) (fun M23 => some (FP.fconst0, M23)) else zgd (vp_in b0 12) (zlet (((16 : Int32) * b0) + (M.A 9 b0.toNatClampNeg)) (fun a4 => zgd (vp_in b0 12) (zgd (vp_in a4 192) (zgd (vf_n32 (FP.fmul (M.F 6 b0.toNatClampNeg) (M.F 11 a4.toNatClampNeg))) (zlet (FP.fmul (M.F 6 b0.toNatClampNeg) (M.F 11 a4.toNatClampNeg)) (fun a8 => zgd (vf_n32 (FP.fadd b1 a8)) (zbj (fX2_clipped (FP.fadd b1 a8)) (fun r10 => zgd (vp_in a4 192) (zlet (mF M 11 a4.toNatClampNeg r10) (fun M13 => zgd (vp_in b0 12) (zgd (vp_in b0 12) (if ((M13.A 9 b0.toNatClampNeg) + (1 : Int32)) = (M13.A 10 b0.toNatClampNeg) then zgd (vp_in b0 12) (zlet (mA M13 9 b0.toNatClampNeg (0 : Int32)) (fun M21 => zgd (vp_in a4 192) (some ((M21.F 11 a4.toNatClampNeg), M21)))) else zgd (vp_in b0 12) (zgd (vp_in b0 12) (zlet (mA M13 9 b0.toNatClampNeg ((M13.A 9 b0.toNatClampNeg) + (1 : Int32))) (fun M18 => zgd (vp_in a4 192) (some ((M18.F 11 a4.toNatClampNeg), M18)))))))))))))))))))
theorem wX2_echo {G : zG} {d : Nat} {K : List Nat} {Q : zO → zS → Prop} {a0 : Nat} {g0 : zS} {M : MS} {b0 : Int32} {b1 : UInt32} {p : UInt32 × MS} (h : fX2_echo M b0 b1 = some p) (kq : Q (.inl (some (.float p.1))) (zm a0 g0 p.2)) : zEM G (d + 1) K YX2_echo [.ref a0, .int b0, .float b1] (zm a0 g0 M) Q := by
  show zEF G (d + 1) K YX2_echo 0 [some (.ref a0), some (.int b0), some (.float b1), none, none] [] (zm a0 g0 M) Q
  unfold fX2_echo at h
  refine ez_aload_n (i := 0) (v := .ref a0) dX2_echo_0 rfl rfl rfl ?_
  refine gM_36 dX2_echo_1 rfl ?_
  refine ez_iload_n (i := 1) (x := b0) dX2_echo_4 rfl rfl ?_
  obtain ⟨hg1, h⟩ := zgd_some h
  refine lM_10 dX2_echo_5 hg1 ?_
  refine ez_iconst (v := -1) dX2_echo_6 (by decide) ?_
  refine ez_icmp_ne (tgt := 17) dX2_echo_7 (by decide) (fun hc => ?_) (fun hc => ?_)
  · replace h := zif_f hc h
    refine ez_aload_n (i := 0) (v := .ref a0) dX2_echo_17 rfl rfl rfl ?_
    refine gM_36 dX2_echo_18 rfl ?_
    refine ez_iload_n (i := 1) (x := b0) dX2_echo_21 rfl rfl ?_
    obtain ⟨hg2, h⟩ := zgd_some h
    refine lM_10 dX2_echo_22 hg2 ?_
    refine ez_if_ne (tgt := 33) dX2_echo_23 (by decide) (fun hc => ?_) (fun hc => ?_)
    · replace h := zif_f hc h
      refine ez_bipush (v := 16) dX2_echo_33 (by decide) ?_
      refine ez_iload_n (i := 1) (x := b0) dX2_echo_35 rfl rfl ?_
      refine ez_imul dX2_echo_36 ?_
      refine ez_aload_n (i := 0) (v := .ref a0) dX2_echo_37 rfl rfl rfl ?_
      refine gM_33 dX2_echo_38 rfl ?_
      refine ez_iload_n (i := 1) (x := b0) dX2_echo_41 rfl rfl ?_
      obtain ⟨hg3, h⟩ := zgd_some h
      refine lM_9 dX2_echo_42 hg3 ?_
      refine ez_iadd dX2_echo_43 ?_
      refine ez_istore_n (i := 3) dX2_echo_44 rfl (show 3 < 5 by decide) ?_
      refine zlet_use (fun a4 => zEF G (d + 1) K YX2_echo 45 [some (.ref a0), some (.int b0), some (.float b1), some (.int a4), none] [] (zm a0 g0 M) Q) h (fun a4 h => ?_)
      refine ez_aload_n (i := 0) (v := .ref a0) dX2_echo_45 rfl rfl rfl ?_
      refine gM_23 dX2_echo_46 rfl ?_
      refine ez_iload_n (i := 1) (x := b0) dX2_echo_49 rfl rfl ?_
      obtain ⟨hg5, h⟩ := zgd_some h
      refine lM_6 dX2_echo_50 hg5 ?_
      refine ez_aload_n (i := 0) (v := .ref a0) dX2_echo_51 rfl rfl rfl ?_
      refine gM_39 dX2_echo_52 rfl ?_
      refine ez_iload_n (i := 3) (x := a4) dX2_echo_55 rfl rfl ?_
      obtain ⟨hg6, h⟩ := zgd_some h
      refine lM_11 dX2_echo_56 hg6 ?_
      obtain ⟨hg7, h⟩ := zgd_some h
      refine ez_fmul dX2_echo_57 hg7 ?_
      refine ez_fstore (i := 4) dX2_echo_58 (show 4 < 5 by decide) ?_
      refine zlet_use (fun a8 => zEF G (d + 1) K YX2_echo 60 [some (.ref a0), some (.int b0), some (.float b1), some (.int a4), some (.float a8)] [] (zm a0 g0 M) Q) h (fun a8 h => ?_)
      refine ez_aload_n (i := 0) (v := .ref a0) dX2_echo_60 rfl rfl rfl ?_
      refine gM_39 dX2_echo_61 rfl ?_
      refine ez_iload_n (i := 3) (x := a4) dX2_echo_64 rfl rfl ?_
      refine ez_fload_n (i := 2) (x := b1) dX2_echo_65 rfl rfl ?_
      refine ez_fload (i := 4) (x := a8) dX2_echo_66 rfl ?_
      obtain ⟨hg9, h⟩ := zgd_some h
      refine ez_fadd dX2_echo_68 hg9 ?_
      obtain ⟨r10, hq11, h⟩ := zbj_some h
      refine ez_callS (Y' := YX2_clipped) (vs := [.float (FP.fadd b1 a8)]) (rest := [.int a4, .ref (a0 + 10)]) dX2_echo_69 rfl zkX2_clipped q1125 q1126 q54 znX2_clipped (Nat.le_of_ble_eq_true rfl) (Nat.le_of_ble_eq_true rfl) rfl (wX2_clipped (d := d + 0) hq11 (zBack_v ?_))
      show zEF G (d + 1) K YX2_echo 72 [some (.ref a0), some (.int b0), some (.float b1), some (.int a4), some (.float a8)] [.float r10, .int a4, .ref (a0 + 10)] (zm a0 g0 M) Q
      obtain ⟨hg12, h⟩ := zgd_some h
      refine sM_11 dX2_echo_72 hg12 ?_
      refine zlet_use (fun M13 => zEF G (d + 1) K YX2_echo 73 [some (.ref a0), some (.int b0), some (.float b1), some (.int a4), some (.float a8)] [] (zm a0 g0 M13) Q) h (fun M13 h => ?_)
      refine ez_aload_n (i := 0) (v := .ref a0) dX2_echo_73 rfl rfl rfl ?_
      refine gM_33 dX2_echo_74 rfl ?_
      refine ez_iload_n (i := 1) (x := b0) dX2_echo_77 rfl rfl ?_
      refine ez_aload_n (i := 0) (v := .ref a0) dX2_echo_78 rfl rfl rfl ?_
      refine gM_33 dX2_echo_79 rfl ?_
      refine ez_iload_n (i := 1) (x := b0) dX2_echo_82 rfl rfl ?_
      obtain ⟨hg14, h⟩ := zgd_some h
      refine lM_9 dX2_echo_83 hg14 ?_
      refine ez_iconst (v := 1) dX2_echo_84 (by decide) ?_
      refine ez_iadd dX2_echo_85 ?_
      refine ez_aload_n (i := 0) (v := .ref a0) dX2_echo_86 rfl rfl rfl ?_
      refine gM_36 dX2_echo_87 rfl ?_
      refine ez_iload_n (i := 1) (x := b0) dX2_echo_90 rfl rfl ?_
      obtain ⟨hg15, h⟩ := zgd_some h
      refine lM_10 dX2_echo_91 hg15 ?_
      refine ez_icmp_ne (tgt := 99) dX2_echo_92 (by decide) (fun hc => ?_) (fun hc => ?_)
      · replace h := zif_f hc h
        refine ez_aload_n (i := 0) (v := .ref a0) dX2_echo_99 rfl rfl rfl ?_
        refine gM_33 dX2_echo_100 rfl ?_
        refine ez_iload_n (i := 1) (x := b0) dX2_echo_103 rfl rfl ?_
        obtain ⟨hg16, h⟩ := zgd_some h
        refine lM_9 dX2_echo_104 hg16 ?_
        refine ez_iconst (v := 1) dX2_echo_105 (by decide) ?_
        refine ez_iadd dX2_echo_106 ?_
        obtain ⟨hg17, h⟩ := zgd_some h
        refine sM_9 dX2_echo_107 hg17 ?_
        refine zlet_use (fun M18 => zEF G (d + 1) K YX2_echo 108 [some (.ref a0), some (.int b0), some (.float b1), some (.int a4), some (.float a8)] [] (zm a0 g0 M18) Q) h (fun M18 h => ?_)
        refine ez_aload_n (i := 0) (v := .ref a0) dX2_echo_108 rfl rfl rfl ?_
        refine gM_39 dX2_echo_109 rfl ?_
        refine ez_iload_n (i := 3) (x := a4) dX2_echo_112 rfl rfl ?_
        obtain ⟨hg19, h⟩ := zgd_some h
        refine lM_11 dX2_echo_113 hg19 ?_
        obtain rfl := Option.some.inj h
        exact ez_fret dX2_echo_114 rfl kq
      · replace h := zif_t hc h
        refine ez_iconst (v := 0) dX2_echo_95 (by decide) ?_
        refine ez_goto (tgt := 107) dX2_echo_96 (by decide) ?_
        obtain ⟨hg20, h⟩ := zgd_some h
        refine sM_9 dX2_echo_107 hg20 ?_
        refine zlet_use (fun M21 => zEF G (d + 1) K YX2_echo 108 [some (.ref a0), some (.int b0), some (.float b1), some (.int a4), some (.float a8)] [] (zm a0 g0 M21) Q) h (fun M21 h => ?_)
        refine ez_aload_n (i := 0) (v := .ref a0) dX2_echo_108 rfl rfl rfl ?_
        refine gM_39 dX2_echo_109 rfl ?_
        refine ez_iload_n (i := 3) (x := a4) dX2_echo_112 rfl rfl ?_
        obtain ⟨hg22, h⟩ := zgd_some h
        refine lM_11 dX2_echo_113 hg22 ?_
        obtain rfl := Option.some.inj h
        exact ez_fret dX2_echo_114 rfl kq
    · replace h := zif_t hc h
      refine ez_aload_n (i := 0) (v := .ref a0) dX2_echo_26 rfl rfl rfl ?_
      refine ez_iconst (v := 2) dX2_echo_27 (by decide) ?_
      refine pM_210 dX2_echo_28 rfl ?_
      refine zlet_use (fun M23 => zEF G (d + 1) K YX2_echo 31 [some (.ref a0), some (.int b0), some (.float b1), none, none] [] (zm a0 g0 M23) Q) h (fun M23 h => ?_)
      refine ez_fconst0 dX2_echo_31 ?_
      obtain rfl := Option.some.inj h
      exact ez_fret dX2_echo_32 rfl kq
  · replace h := zif_t hc h
    refine ez_aload_n (i := 0) (v := .ref a0) dX2_echo_10 rfl rfl rfl ?_
    refine ez_iconst (v := 1) dX2_echo_11 (by decide) ?_
    refine pM_210 dX2_echo_12 rfl ?_
    refine zlet_use (fun M24 => zEF G (d + 1) K YX2_echo 15 [some (.ref a0), some (.int b0), some (.float b1), none, none] [] (zm a0 g0 M24) Q) h (fun M24 h => ?_)
    refine ez_fconst0 dX2_echo_15 ?_
    obtain rfl := Option.some.inj h
    exact ez_fret dX2_echo_16 rfl kq
def YX2_through : zM := (yX2_through, cX2_through, 8, (Option.some Jvm.ClassFile.FieldType.float), [], false)
theorem zkX2_through : zMok YX2_through := ⟨rfl, q1225, by decide +kernel, by decide +kernel⟩
theorem znX2_through : (parseMethodDescriptor YX2_through.nm.desc).map (fun d => d.parameters.length) = some 2 := by decide +kernel
theorem slX2_through : Cond.selects RX2 yX2_through yX2_through ∈ lw_all := lw_w 36 rfl rfl
noncomputable def fX2_through (M : MS) (b0 : Int32) (b1 : UInt32) : Option (UInt32 × MS) := zgd (vp_in b0 12) (zgd (vp_in b0 12) (if (M.A 5 b0.toNatClampNeg) = (0 : Int32) then zgd (vf_n32 (FP.fmul b1 (M.F 6 b0.toNatClampNeg))) (zbj (fX2_clipped (FP.fmul b1 (M.F 6 b0.toNatClampNeg))) (fun r4 => some (r4, M))) else if (M.A 5 b0.toNatClampNeg) = (1 : Int32) then zgd (vf_n32 (FP.fmul b1 (M.F 6 b0.toNatClampNeg))) (zbj (fX2_clipped (FP.fmul b1 (M.F 6 b0.toNatClampNeg))) (fun r7 => some (r7, M))) else if (M.A 5 b0.toNatClampNeg) = (2 : Int32) then zgd (vf_n32 (FP.fmul b1 (M.F 6 b0.toNatClampNeg))) (zbj (fX2_clipped (FP.fmul b1 (M.F 6 b0.toNatClampNeg))) (fun r10 => zgd (vf_n32 (FP.frem r10 FP.fconst1)) (some ((FP.frem r10 FP.fconst1), M)))) else if (M.A 5 b0.toNatClampNeg) = (3 : Int32) then zgd (vp_in b0 12) (if (M.A 7 b0.toNatClampNeg) = 0 then zlet (mI M 49 (6 : Int32)) (fun M23 => some (FP.fconst0, M23)) else zgd (vp_in b0 12) (zgd (¬ (M.A 7 b0.toNatClampNeg) = 0) (zlet (FP.i2f ((64 : Int32) / (M.A 7 b0.toNatClampNeg))) (fun a16 => zgd (vf_n32 (FP.fmul b1 a16)) (zbj (fX2_nearest (FP.fmul b1 a16)) (fun r18 => zgd (vf_n32 (FP.fdiv r18 a16)) (zbj (fX2_clipped (FP.fdiv r18 a16)) (fun r21 => some (r21, M))))))))) else if (M.A 5 b0.toNatClampNeg) = (4 : Int32) then zbd (fX2_echo M b0 b1) (fun r24 M25 => some (r24, M25)) else if (M.A 5 b0.toNatClampNeg) = (5 : Int32) then zbd (fX2_echo M b0 b1) (fun r26 M27 => if 0 < (Op.cmpValue (FP.fcmp r26 (M.F 6 b0.toNatClampNeg)) .l) then some (r26, M27) else if (Op.cmpValue (FP.fcmp r26 (M.F 6 b0.toNatClampNeg)) .l) = 0 then zbj (fJ8_floatToIntBits r26) (fun r28 => if r28 < 0 then some ((M.F 6 b0.toNatClampNeg), M27) else some (r26, M27)) else some ((M.F 6 b0.toNatClampNeg), M27)) else if (M.A 5 b0.toNatClampNeg) = (6 : Int32) then zjoin (fun (M30 : MS) (v31 : UInt32) (v32 : UInt32) (v33 : UInt32) => zjoin (fun (M34 : MS) (v35 : UInt32) (v36 : UInt32) (v37 : UInt32) => if (Op.cmpValue (FP.fcmp v37 v36) .l) < 0 then zbj (fJ8_floatToIntBits v35) (fun r38 => zgd (vn_sni2f (r38 &&& (-2147483648 : Int32)) = false) (some (((r38 &&& (-2147483648 : Int32)).toUInt32), M34))) else some (v35, M34)) (fun j41 => if 0 ≤ (Op.cmpValue (FP.fcmp v32 FP.fconst0) .g) then j41 M30 v31 v32 v33 else j41 M30 v31 (FP.fneg v32) v33)) (fun j42 => if 0 ≤ (Op.cmpValue (FP.fcmp b1 FP.fconst0) .g) then j42 M b1 (M.F 6 b0.toNatClampNeg) b1 else j42 M b1 (M.F 6 b0.toNatClampNeg) (FP.fneg b1)) else zgd (vf_n32 (FP.fadd b1 (1090519040 : UInt32))) (zgd (vf_n32 (FP.fmul (FP.fadd b1 (1090519040 : UInt32)) (1082130432 : UInt32))) (zlet (FP.fmul (FP.fadd b1 (1090519040 : UInt32)) (1082130432 : UInt32)) (fun a45 => zgd (vp_in b0 12) (zgd (vp_in (M.A 7 b0.toNatClampNeg) 16) (zbj (fX2_in (FP.f2i a45) (0 : Int32) ((M.A 2 (M.A 7 b0.toNatClampNeg).toNatClampNeg) - (1 : Int32))) (fun r48 => if r48 = 0 then zlet (mI M 49 (2 : Int32)) (fun M53 => some (FP.fconst0, M53)) else zgd (vp_in b0 12) (zbd (fX2_sampleAt M (M.A 7 b0.toNatClampNeg) (FP.f2i a45)) (fun r51 M52 => some (r51, M52)))))))))))
theorem wX2_through {G : zG} {d : Nat} {K : List Nat} {Q : zO → zS → Prop} {a0 : Nat} {g0 : zS} {M : MS} {b0 : Int32} {b1 : UInt32} {p : UInt32 × MS} (h : fX2_through M b0 b1 = some p) (kq : Q (.inl (some (.float p.1))) (zm a0 g0 p.2)) : zEM G (d + 2) K YX2_through [.ref a0, .int b0, .float b1] (zm a0 g0 M) Q := by
  show zEF G (d + 2) K YX2_through 0 [some (.ref a0), some (.int b0), some (.float b1), none, none, none, none, none] [] (zm a0 g0 M) Q
  unfold fX2_through at h
  refine ez_aload_n (i := 0) (v := .ref a0) dX2_through_0 rfl rfl rfl ?_
  refine gM_23 dX2_through_1 rfl ?_
  refine ez_iload_n (i := 1) (x := b0) dX2_through_4 rfl rfl ?_
  obtain ⟨hg1, h⟩ := zgd_some h
  refine lM_6 dX2_through_5 hg1 ?_
  refine ez_fstore_n (i := 3) dX2_through_6 rfl (show 3 < 8 by decide) ?_
  show zEF G (d + 2) K YX2_through 7 [some (.ref a0), some (.int b0), some (.float b1), some (.float (M.F 6 b0.toNatClampNeg)), none, none, none, none] [] (zm a0 g0 M) Q
  refine ez_aload_n (i := 0) (v := .ref a0) dX2_through_7 rfl rfl rfl ?_
  refine gM_20 dX2_through_8 rfl ?_
  refine ez_iload_n (i := 1) (x := b0) dX2_through_11 rfl rfl ?_
  obtain ⟨hg2, h⟩ := zgd_some h
  refine lM_5 dX2_through_12 hg2 ?_
  by_cases hs0 : (M.A 5 b0.toNatClampNeg) = (0 : Int32)
  · replace h := zif_t hs0 h
    refine ez_tableIn (tgt := 56) (off := 43) dX2_through_13 (by rw [hs0]; decide) (by rw [hs0]; decide) (by rw [hs0]; rfl) (by decide) ?_
    refine ez_fload_n (i := 2) (x := b1) dX2_through_56 rfl rfl ?_
    refine ez_fload_n (i := 3) (x := (M.F 6 b0.toNatClampNeg)) dX2_through_57 rfl rfl ?_
    obtain ⟨hg3, h⟩ := zgd_some h
    refine ez_fmul dX2_through_58 hg3 ?_
    obtain ⟨r4, hq5, h⟩ := zbj_some h
    refine ez_callS (Y' := YX2_clipped) (vs := [.float (FP.fmul b1 (M.F 6 b0.toNatClampNeg))]) (rest := []) dX2_through_59 rfl zkX2_clipped q1125 q1126 q54 znX2_clipped (Nat.le_of_ble_eq_true rfl) (Nat.le_of_ble_eq_true rfl) rfl (wX2_clipped (d := d + 1) hq5 (zBack_v ?_))
    show zEF G (d + 2) K YX2_through 62 [some (.ref a0), some (.int b0), some (.float b1), some (.float (M.F 6 b0.toNatClampNeg)), none, none, none, none] [.float r4] (zm a0 g0 M) Q
    obtain rfl := Option.some.inj h
    exact ez_fret dX2_through_62 rfl kq
  · replace h := zif_f hs0 h
    by_cases hs1 : (M.A 5 b0.toNatClampNeg) = (1 : Int32)
    · replace h := zif_t hs1 h
      refine ez_tableIn (tgt := 56) (off := 43) dX2_through_13 (by rw [hs1]; decide) (by rw [hs1]; decide) (by rw [hs1]; rfl) (by decide) ?_
      refine ez_fload_n (i := 2) (x := b1) dX2_through_56 rfl rfl ?_
      refine ez_fload_n (i := 3) (x := (M.F 6 b0.toNatClampNeg)) dX2_through_57 rfl rfl ?_
      obtain ⟨hg6, h⟩ := zgd_some h
      refine ez_fmul dX2_through_58 hg6 ?_
      obtain ⟨r7, hq8, h⟩ := zbj_some h
      refine ez_callS (Y' := YX2_clipped) (vs := [.float (FP.fmul b1 (M.F 6 b0.toNatClampNeg))]) (rest := []) dX2_through_59 rfl zkX2_clipped q1125 q1126 q54 znX2_clipped (Nat.le_of_ble_eq_true rfl) (Nat.le_of_ble_eq_true rfl) rfl (wX2_clipped (d := d + 1) hq8 (zBack_v ?_))
      show zEF G (d + 2) K YX2_through 62 [some (.ref a0), some (.int b0), some (.float b1), some (.float (M.F 6 b0.toNatClampNeg)), none, none, none, none] [.float r7] (zm a0 g0 M) Q
      obtain rfl := Option.some.inj h
      exact ez_fret dX2_through_62 rfl kq
    · replace h := zif_f hs1 h
      by_cases hs2 : (M.A 5 b0.toNatClampNeg) = (2 : Int32)
      · replace h := zif_t hs2 h
        refine ez_tableIn (tgt := 63) (off := 50) dX2_through_13 (by rw [hs2]; decide) (by rw [hs2]; decide) (by rw [hs2]; rfl) (by decide) ?_
        refine ez_fload_n (i := 2) (x := b1) dX2_through_63 rfl rfl ?_
        refine ez_fload_n (i := 3) (x := (M.F 6 b0.toNatClampNeg)) dX2_through_64 rfl rfl ?_
        obtain ⟨hg9, h⟩ := zgd_some h
        refine ez_fmul dX2_through_65 hg9 ?_
        obtain ⟨r10, hq11, h⟩ := zbj_some h
        refine ez_callS (Y' := YX2_clipped) (vs := [.float (FP.fmul b1 (M.F 6 b0.toNatClampNeg))]) (rest := []) dX2_through_66 rfl zkX2_clipped q1125 q1126 q54 znX2_clipped (Nat.le_of_ble_eq_true rfl) (Nat.le_of_ble_eq_true rfl) rfl (wX2_clipped (d := d + 1) hq11 (zBack_v ?_))
        show zEF G (d + 2) K YX2_through 69 [some (.ref a0), some (.int b0), some (.float b1), some (.float (M.F 6 b0.toNatClampNeg)), none, none, none, none] [.float r10] (zm a0 g0 M) Q
        refine ez_fconst1 dX2_through_69 ?_
        obtain ⟨hg12, h⟩ := zgd_some h
        refine ez_frem dX2_through_70 hg12 ?_
        obtain rfl := Option.some.inj h
        exact ez_fret dX2_through_71 rfl kq
      · replace h := zif_f hs2 h
        by_cases hs3 : (M.A 5 b0.toNatClampNeg) = (3 : Int32)
        · replace h := zif_t hs3 h
          refine ez_tableIn (tgt := 72) (off := 59) dX2_through_13 (by rw [hs3]; decide) (by rw [hs3]; decide) (by rw [hs3]; rfl) (by decide) ?_
          refine ez_aload_n (i := 0) (v := .ref a0) dX2_through_72 rfl rfl rfl ?_
          refine gM_27 dX2_through_73 rfl ?_
          refine ez_iload_n (i := 1) (x := b0) dX2_through_76 rfl rfl ?_
          obtain ⟨hg13, h⟩ := zgd_some h
          refine lM_7 dX2_through_77 hg13 ?_
          refine ez_if_ne (tgt := 89) dX2_through_78 (by decide) (fun hc => ?_) (fun hc => ?_)
          · replace h := zif_f hc h
            refine ez_bipush (v := 64) dX2_through_89 (by decide) ?_
            refine ez_aload_n (i := 0) (v := .ref a0) dX2_through_91 rfl rfl rfl ?_
            refine gM_27 dX2_through_92 rfl ?_
            refine ez_iload_n (i := 1) (x := b0) dX2_through_95 rfl rfl ?_
            obtain ⟨hg14, h⟩ := zgd_some h
            refine lM_7 dX2_through_96 hg14 ?_
            obtain ⟨hg15, h⟩ := zgd_some h
            refine ez_idiv dX2_through_97 hg15 ?_
            refine ez_i2f dX2_through_98 ?_
            refine ez_fstore (i := 4) dX2_through_99 (show 4 < 8 by decide) ?_
            refine zlet_use (fun a16 => zEF G (d + 2) K YX2_through 101 [some (.ref a0), some (.int b0), some (.float b1), some (.float (M.F 6 b0.toNatClampNeg)), some (.float a16), none, none, none] [] (zm a0 g0 M) Q) h (fun a16 h => ?_)
            refine ez_fload_n (i := 2) (x := b1) dX2_through_101 rfl rfl ?_
            refine ez_fload (i := 4) (x := a16) dX2_through_102 rfl ?_
            obtain ⟨hg17, h⟩ := zgd_some h
            refine ez_fmul dX2_through_104 hg17 ?_
            obtain ⟨r18, hq19, h⟩ := zbj_some h
            refine ez_callS (Y' := YX2_nearest) (vs := [.float (FP.fmul b1 a16)]) (rest := []) dX2_through_105 rfl zkX2_nearest q1226 q1227 q54 znX2_nearest (Nat.le_of_ble_eq_true rfl) (Nat.le_of_ble_eq_true rfl) rfl (wX2_nearest (d := d + 1) hq19 (zBack_v ?_))
            show zEF G (d + 2) K YX2_through 108 [some (.ref a0), some (.int b0), some (.float b1), some (.float (M.F 6 b0.toNatClampNeg)), some (.float a16), none, none, none] [.float r18] (zm a0 g0 M) Q
            refine ez_fload (i := 4) (x := a16) dX2_through_108 rfl ?_
            obtain ⟨hg20, h⟩ := zgd_some h
            refine ez_fdiv dX2_through_110 hg20 ?_
            obtain ⟨r21, hq22, h⟩ := zbj_some h
            refine ez_callS (Y' := YX2_clipped) (vs := [.float (FP.fdiv r18 a16)]) (rest := []) dX2_through_111 rfl zkX2_clipped q1125 q1126 q54 znX2_clipped (Nat.le_of_ble_eq_true rfl) (Nat.le_of_ble_eq_true rfl) rfl (wX2_clipped (d := d + 1) hq22 (zBack_v ?_))
            show zEF G (d + 2) K YX2_through 114 [some (.ref a0), some (.int b0), some (.float b1), some (.float (M.F 6 b0.toNatClampNeg)), some (.float a16), none, none, none] [.float r21] (zm a0 g0 M) Q
            obtain rfl := Option.some.inj h
            exact ez_fret dX2_through_114 rfl kq
          · replace h := zif_t hc h
            refine ez_aload_n (i := 0) (v := .ref a0) dX2_through_81 rfl rfl rfl ?_
            refine ez_bipush (v := 6) dX2_through_82 (by decide) ?_
            refine pM_210 dX2_through_84 rfl ?_
            refine zlet_use (fun M23 => zEF G (d + 2) K YX2_through 87 [some (.ref a0), some (.int b0), some (.float b1), some (.float (M.F 6 b0.toNatClampNeg)), none, none, none, none] [] (zm a0 g0 M23) Q) h (fun M23 h => ?_)
            refine ez_fconst0 dX2_through_87 ?_
            obtain rfl := Option.some.inj h
            exact ez_fret dX2_through_88 rfl kq
        · replace h := zif_f hs3 h
          by_cases hs4 : (M.A 5 b0.toNatClampNeg) = (4 : Int32)
          · replace h := zif_t hs4 h
            refine ez_tableIn (tgt := 115) (off := 102) dX2_through_13 (by rw [hs4]; decide) (by rw [hs4]; decide) (by rw [hs4]; rfl) (by decide) ?_
            refine ez_aload_n (i := 0) (v := .ref a0) dX2_through_115 rfl rfl rfl ?_
            refine ez_iload_n (i := 1) (x := b0) dX2_through_116 rfl rfl ?_
            refine ez_fload_n (i := 2) (x := b1) dX2_through_117 rfl rfl ?_
            obtain ⟨r24, M25, hq25, h⟩ := zbd_some h
            refine ez_callV (C := RX2) (Tt := TX2) (N := 53) (Y' := YX2_echo) (vs := [.int b0, .float b1]) (rest := []) dX2_through_118 rfl zkX2_echo q1230 q1232 rfl slX2_echo (zm0 _ _ _) znX2_echo (Nat.le_of_ble_eq_true rfl) (Nat.le_of_ble_eq_true rfl) rfl (wX2_echo (d := d + 0) hq25 (zBack_v ?_))
            show zEF G (d + 2) K YX2_through 121 [some (.ref a0), some (.int b0), some (.float b1), some (.float (M.F 6 b0.toNatClampNeg)), none, none, none, none] [.float r24] (zm a0 g0 M25) Q
            obtain rfl := Option.some.inj h
            exact ez_fret dX2_through_121 rfl kq
          · replace h := zif_f hs4 h
            by_cases hs5 : (M.A 5 b0.toNatClampNeg) = (5 : Int32)
            · replace h := zif_t hs5 h
              refine ez_tableIn (tgt := 122) (off := 109) dX2_through_13 (by rw [hs5]; decide) (by rw [hs5]; decide) (by rw [hs5]; rfl) (by decide) ?_
              refine ez_aload_n (i := 0) (v := .ref a0) dX2_through_122 rfl rfl rfl ?_
              refine ez_iload_n (i := 1) (x := b0) dX2_through_123 rfl rfl ?_
              refine ez_fload_n (i := 2) (x := b1) dX2_through_124 rfl rfl ?_
              obtain ⟨r26, M27, hq27, h⟩ := zbd_some h
              refine ez_callV (C := RX2) (Tt := TX2) (N := 53) (Y' := YX2_echo) (vs := [.int b0, .float b1]) (rest := []) dX2_through_125 rfl zkX2_echo q1230 q1232 rfl slX2_echo (zm0 _ _ _) znX2_echo (Nat.le_of_ble_eq_true rfl) (Nat.le_of_ble_eq_true rfl) rfl (wX2_echo (d := d + 0) hq27 (zBack_v ?_))
              show zEF G (d + 2) K YX2_through 128 [some (.ref a0), some (.int b0), some (.float b1), some (.float (M.F 6 b0.toNatClampNeg)), none, none, none, none] [.float r26] (zm a0 g0 M27) Q
              refine ez_fstore (i := 5) dX2_through_128 (show 5 < 8 by decide) ?_
              show zEF G (d + 2) K YX2_through 130 [some (.ref a0), some (.int b0), some (.float b1), some (.float (M.F 6 b0.toNatClampNeg)), none, some (.float r26), none, none] [] (zm a0 g0 M27) Q
              refine ez_fload (i := 5) (x := r26) dX2_through_130 rfl ?_
              refine ez_fload_n (i := 3) (x := (M.F 6 b0.toNatClampNeg)) dX2_through_132 rfl rfl ?_
              refine ez_fcmp dX2_through_133 ?_
              refine ez_if_gt (tgt := 152) dX2_through_134 (by decide) (fun hc => ?_) (fun hc => ?_)
              · replace h := zif_t hc h
                refine ez_fload (i := 5) (x := r26) dX2_through_152 rfl ?_
                refine ez_goto (tgt := 158) dX2_through_154 (by decide) ?_
                obtain rfl := Option.some.inj h
                exact ez_fret dX2_through_158 rfl kq
              · replace h := zif_f hc h
                refine ez_fload (i := 5) (x := r26) dX2_through_137 rfl ?_
                refine ez_fload_n (i := 3) (x := (M.F 6 b0.toNatClampNeg)) dX2_through_139 rfl rfl ?_
                refine ez_fcmp dX2_through_140 ?_
                refine ez_if_ne (tgt := 157) dX2_through_141 (by decide) (fun hc => ?_) (fun hc => ?_)
                · replace h := zif_f hc h
                  refine ez_fload_n (i := 3) (x := (M.F 6 b0.toNatClampNeg)) dX2_through_157 rfl rfl ?_
                  obtain rfl := Option.some.inj h
                  exact ez_fret dX2_through_158 rfl kq
                · replace h := zif_t hc h
                  refine ez_fload (i := 5) (x := r26) dX2_through_144 rfl ?_
                  obtain ⟨r28, hq29, h⟩ := zbj_some h
                  refine ez_callS (Y' := YJ8_floatToIntBits) (vs := [.float r26]) (rest := []) dX2_through_146 rfl zkJ8_floatToIntBits q1134 q417 q65 znJ8_floatToIntBits (Nat.le_of_ble_eq_true rfl) (Nat.le_of_ble_eq_true rfl) rfl (wJ8_floatToIntBits (d := d + 0) hq29 (zBack_v ?_))
                  show zEF G (d + 2) K YX2_through 149 [some (.ref a0), some (.int b0), some (.float b1), some (.float (M.F 6 b0.toNatClampNeg)), none, some (.float r26), none, none] [.int r28] (zm a0 g0 M27) Q
                  refine ez_if_lt (tgt := 157) dX2_through_149 (by decide) (fun hc => ?_) (fun hc => ?_)
                  · replace h := zif_t hc h
                    refine ez_fload_n (i := 3) (x := (M.F 6 b0.toNatClampNeg)) dX2_through_157 rfl rfl ?_
                    obtain rfl := Option.some.inj h
                    exact ez_fret dX2_through_158 rfl kq
                  · replace h := zif_f hc h
                    refine ez_fload (i := 5) (x := r26) dX2_through_152 rfl ?_
                    refine ez_goto (tgt := 158) dX2_through_154 (by decide) ?_
                    obtain rfl := Option.some.inj h
                    exact ez_fret dX2_through_158 rfl kq
            · replace h := zif_f hs5 h
              by_cases hs6 : (M.A 5 b0.toNatClampNeg) = (6 : Int32)
              · replace h := zif_t hs6 h
                refine ez_tableIn (tgt := 159) (off := 146) dX2_through_13 (by rw [hs6]; decide) (by rw [hs6]; decide) (by rw [hs6]; rfl) (by decide) ?_
                refine ez_fload_n (i := 2) (x := b1) dX2_through_159 rfl rfl ?_
                refine ez_fconst0 dX2_through_160 ?_
                refine ez_fcmp dX2_through_161 ?_
                refine zjoin_use (fun (j : MS → UInt32 → UInt32 → UInt32 → Option (UInt32 × MS)) => ∀ (M30 : MS) (v31 : UInt32) (v32 : UInt32) (v33 : UInt32), j M30 v31 v32 v33 = some p → zEF G (d + 2) K YX2_through 171 [none, none, some (.float v31), some (.float v32), none, none, none, none] [.float v33] (zm a0 g0 M30) Q) h (fun M30 v31 v32 v33 h => ?_) (fun j42 hj42 h => ?_)
                · refine ez_fload_n (i := 3) (x := v32) dX2_through_171 rfl rfl ?_
                  refine ez_fconst0 dX2_through_172 ?_
                  refine ez_fcmp dX2_through_173 ?_
                  refine zjoin_use (fun (j : MS → UInt32 → UInt32 → UInt32 → Option (UInt32 × MS)) => ∀ (M34 : MS) (v35 : UInt32) (v36 : UInt32) (v37 : UInt32), j M34 v35 v36 v37 = some p → zEF G (d + 2) K YX2_through 183 [none, none, some (.float v35), none, none, none, none, none] [.float v36, .float v37] (zm a0 g0 M34) Q) h (fun M34 v35 v36 v37 h => ?_) (fun j41 hj41 h => ?_)
                  · refine ez_fcmp dX2_through_183 ?_
                    refine ez_if_lt (tgt := 191) dX2_through_184 (by decide) (fun hc => ?_) (fun hc => ?_)
                    · replace h := zif_t hc h
                      refine ez_fload_n (i := 2) (x := v35) dX2_through_191 rfl rfl ?_
                      obtain ⟨r38, hq39, h⟩ := zbj_some h
                      refine ez_callS (Y' := YJ8_floatToIntBits) (vs := [.float v35]) (rest := []) dX2_through_192 rfl zkJ8_floatToIntBits q1134 q417 q65 znJ8_floatToIntBits (Nat.le_of_ble_eq_true rfl) (Nat.le_of_ble_eq_true rfl) rfl (wJ8_floatToIntBits (d := d + 0) hq39 (zBack_v ?_))
                      show zEF G (d + 2) K YX2_through 195 [none, none, some (.float v35), none, none, none, none, none] [.int r38] (zm a0 g0 M34) Q
                      refine ez_ldci dX2_through_195 rfl q1234 ?_
                      refine ez_iand dX2_through_197 ?_
                      obtain ⟨hg40, h⟩ := zgd_some h
                      refine ez_raw2f dX2_through_198 rfl q1132 q391 q390 q65 (Nat.le_of_ble_eq_true rfl) hg40 ?_
                      obtain rfl := Option.some.inj h
                      exact ez_fret dX2_through_201 rfl kq
                    · replace h := zif_f hc h
                      refine ez_fload_n (i := 2) (x := v35) dX2_through_187 rfl rfl ?_
                      refine ez_goto (tgt := 201) dX2_through_188 (by decide) ?_
                      obtain rfl := Option.some.inj h
                      exact ez_fret dX2_through_201 rfl kq
                  · refine ez_if_ge (tgt := 182) dX2_through_174 (by decide) (fun hc => ?_) (fun hc => ?_)
                    · replace h := zif_t hc h
                      refine ez_fload_n (i := 3) (x := v32) dX2_through_182 rfl rfl ?_
                      refine ez_clr 3 ?_
                      exact hj41 M30 v31 v32 v33 h
                    · replace h := zif_f hc h
                      refine ez_fload_n (i := 3) (x := v32) dX2_through_177 rfl rfl ?_
                      refine ez_fneg dX2_through_178 ?_
                      refine ez_goto (tgt := 183) dX2_through_179 (by decide) ?_
                      refine ez_clr 3 ?_
                      exact hj41 M30 v31 (FP.fneg v32) v33 h
                · refine ez_if_ge (tgt := 170) dX2_through_162 (by decide) (fun hc => ?_) (fun hc => ?_)
                  · replace h := zif_t hc h
                    refine ez_fload_n (i := 2) (x := b1) dX2_through_170 rfl rfl ?_
                    refine ez_clr 0 ?_
                    refine ez_clr 1 ?_
                    exact hj42 M b1 (M.F 6 b0.toNatClampNeg) b1 h
                  · replace h := zif_f hc h
                    refine ez_fload_n (i := 2) (x := b1) dX2_through_165 rfl rfl ?_
                    refine ez_fneg dX2_through_166 ?_
                    refine ez_goto (tgt := 171) dX2_through_167 (by decide) ?_
                    refine ez_clr 0 ?_
                    refine ez_clr 1 ?_
                    exact hj42 M b1 (M.F 6 b0.toNatClampNeg) (FP.fneg b1) h
              · replace h := zif_f hs6 h
                have he0 : (M.A 5 b0.toNatClampNeg).toInt ≠ 0 := zsw_ne hs0
                have he1 : (M.A 5 b0.toNatClampNeg).toInt ≠ 1 := zsw_ne hs1
                have he2 : (M.A 5 b0.toNatClampNeg).toInt ≠ 2 := zsw_ne hs2
                have he3 : (M.A 5 b0.toNatClampNeg).toInt ≠ 3 := zsw_ne hs3
                have he4 : (M.A 5 b0.toNatClampNeg).toInt ≠ 4 := zsw_ne hs4
                have he5 : (M.A 5 b0.toNatClampNeg).toInt ≠ 5 := zsw_ne hs5
                have he6 : (M.A 5 b0.toNatClampNeg).toInt ≠ 6 := zsw_ne hs6
                refine ez_tableOut (tgt := 202) dX2_through_13 (by omega) (by decide) ?_
                refine ez_fload_n (i := 2) (x := b1) dX2_through_202 rfl rfl ?_
                refine ez_ldcf dX2_through_203 rfl q1128 ?_
                obtain ⟨hg43, h⟩ := zgd_some h
                refine ez_fadd dX2_through_205 hg43 ?_
                refine ez_ldcf dX2_through_206 rfl q1235 ?_
                obtain ⟨hg44, h⟩ := zgd_some h
                refine ez_fmul dX2_through_208 hg44 ?_
                refine ez_fstore (i := 6) dX2_through_209 (show 6 < 8 by decide) ?_
                refine zlet_use (fun a45 => zEF G (d + 2) K YX2_through 211 [some (.ref a0), some (.int b0), some (.float b1), some (.float (M.F 6 b0.toNatClampNeg)), none, none, some (.float a45), none] [] (zm a0 g0 M) Q) h (fun a45 h => ?_)
                refine ez_fload (i := 6) (x := a45) dX2_through_211 rfl ?_
                refine ez_f2i dX2_through_213 ?_
                refine ez_istore (i := 7) dX2_through_214 (show 7 < 8 by decide) ?_
                show zEF G (d + 2) K YX2_through 216 [some (.ref a0), some (.int b0), some (.float b1), some (.float (M.F 6 b0.toNatClampNeg)), none, none, some (.float a45), some (.int (FP.f2i a45))] [] (zm a0 g0 M) Q
                refine ez_iload (i := 7) (x := (FP.f2i a45)) dX2_through_216 rfl ?_
                refine ez_iconst (v := 0) dX2_through_218 (by decide) ?_
                refine ez_aload_n (i := 0) (v := .ref a0) dX2_through_219 rfl rfl rfl ?_
                refine gM_13 dX2_through_220 rfl ?_
                refine ez_aload_n (i := 0) (v := .ref a0) dX2_through_223 rfl rfl rfl ?_
                refine gM_27 dX2_through_224 rfl ?_
                refine ez_iload_n (i := 1) (x := b0) dX2_through_227 rfl rfl ?_
                obtain ⟨hg46, h⟩ := zgd_some h
                refine lM_7 dX2_through_228 hg46 ?_
                obtain ⟨hg47, h⟩ := zgd_some h
                refine lM_2 dX2_through_229 hg47 ?_
                refine ez_iconst (v := 1) dX2_through_230 (by decide) ?_
                refine ez_isub dX2_through_231 ?_
                obtain ⟨r48, hq49, h⟩ := zbj_some h
                refine ez_callS (Y' := YX2_in) (vs := [.int (FP.f2i a45), .int (0 : Int32), .int ((M.A 2 (M.A 7 b0.toNatClampNeg).toNatClampNeg) - (1 : Int32))]) (rest := []) dX2_through_232 rfl zkX2_in q1098 q1099 q54 znX2_in (Nat.le_of_ble_eq_true rfl) (Nat.le_of_ble_eq_true rfl) rfl (wX2_in (d := d + 1) hq49 (zBack_v ?_))
                show zEF G (d + 2) K YX2_through 235 [some (.ref a0), some (.int b0), some (.float b1), some (.float (M.F 6 b0.toNatClampNeg)), none, none, some (.float a45), some (.int (FP.f2i a45))] [.int r48] (zm a0 g0 M) Q
                refine ez_if_ne (tgt := 245) dX2_through_235 (by decide) (fun hc => ?_) (fun hc => ?_)
                · replace h := zif_f hc h
                  refine ez_aload_n (i := 0) (v := .ref a0) dX2_through_245 rfl rfl rfl ?_
                  refine ez_aload_n (i := 0) (v := .ref a0) dX2_through_246 rfl rfl rfl ?_
                  refine gM_27 dX2_through_247 rfl ?_
                  refine ez_iload_n (i := 1) (x := b0) dX2_through_250 rfl rfl ?_
                  obtain ⟨hg50, h⟩ := zgd_some h
                  refine lM_7 dX2_through_251 hg50 ?_
                  refine ez_iload (i := 7) (x := (FP.f2i a45)) dX2_through_252 rfl ?_
                  obtain ⟨r51, M52, hq52, h⟩ := zbd_some h
                  refine ez_callV (C := RX2) (Tt := TX2) (N := 53) (Y' := YX2_sampleAt) (vs := [.int (M.A 7 b0.toNatClampNeg), .int (FP.f2i a45)]) (rest := []) dX2_through_254 rfl zkX2_sampleAt q1120 q1122 rfl slX2_sampleAt (zm0 _ _ _) znX2_sampleAt (Nat.le_of_ble_eq_true rfl) (Nat.le_of_ble_eq_true rfl) rfl (wX2_sampleAt (d := d + 0) hq52 (zBack_v ?_))
                  show zEF G (d + 2) K YX2_through 257 [some (.ref a0), some (.int b0), some (.float b1), some (.float (M.F 6 b0.toNatClampNeg)), none, none, some (.float a45), some (.int (FP.f2i a45))] [.float r51] (zm a0 g0 M52) Q
                  obtain rfl := Option.some.inj h
                  exact ez_fret dX2_through_257 rfl kq
                · replace h := zif_t hc h
                  refine ez_aload_n (i := 0) (v := .ref a0) dX2_through_238 rfl rfl rfl ?_
                  refine ez_iconst (v := 2) dX2_through_239 (by decide) ?_
                  refine pM_210 dX2_through_240 rfl ?_
                  refine zlet_use (fun M53 => zEF G (d + 2) K YX2_through 243 [some (.ref a0), some (.int b0), some (.float b1), some (.float (M.F 6 b0.toNatClampNeg)), none, none, some (.float a45), some (.int (FP.f2i a45))] [] (zm a0 g0 M53) Q) h (fun M53 h => ?_)
                  refine ez_fconst0 dX2_through_243 ?_
                  obtain rfl := Option.some.inj h
                  exact ez_fret dX2_through_244 rfl kq
def YX2_fails : zM := (yX2_fails, cX2_fails, 5, (Option.some Jvm.ClassFile.FieldType.int), [], false)
theorem zkX2_fails : zMok YX2_fails := ⟨rfl, q1239, by decide +kernel, by decide +kernel⟩
theorem znX2_fails : (parseMethodDescriptor YX2_fails.nm.desc).map (fun d => d.parameters.length) = some 3 := by decide +kernel
theorem slX2_fails : Cond.selects RX2 yX2_fails yX2_fails ∈ lw_all := lw_w 38 rfl rfl
noncomputable def fX2_fails_L76 : Nat → MS → Int32 → Int32 → Option (Int32 × MS)
  | 0, _, _, _ => none
  | n + 1, M, y1, y4 => if (8 : Int32) ≤ y4 then some ((2 : Int32), M) else zgd (vp_in y1 8) (if (M.A 22 y1.toNatClampNeg) = (2 : Int32) then zgd (vp_in (((8 : Int32) * y1) + y4) 64) (zlet (mF M 25 (((8 : Int32) * y1) + y4).toNatClampNeg FP.fconst0) (fun M21 => fX2_fails_L76 n M21 y1 (y4 + (1 : Int32)))) else some ((2 : Int32), M))
noncomputable def fX2_fails (M : MS) (b0 : Int32) (b1 : Int32) (b2 : Int32) : Option (Int32 × MS) := zgd (vp_in b0 8) (zgd (vp_in (((2 : Int32) * b0) + (M.A 22 b0.toNatClampNeg)) 16) (zlet (mA M 23 (((2 : Int32) * b0) + (M.A 22 b0.toNatClampNeg)).toNatClampNeg b1) (fun M3 => zgd (vp_in b0 8) (zgd (vp_in (((2 : Int32) * b0) + (M3.A 22 b0.toNatClampNeg)) 16) (zlet (mA M3 24 (((2 : Int32) * b0) + (M3.A 22 b0.toNatClampNeg)).toNatClampNeg (M3.I 49)) (fun M6 => zgd (vp_in b0 8) (zgd (vp_in b0 8) (zlet (mA M6 22 b0.toNatClampNeg ((M6.A 22 b0.toNatClampNeg) + (1 : Int32))) (fun M9 => zgd (vp_in b2 4) (zlet (mA M9 27 b2.toNatClampNeg (-1 : Int32)) (fun M11 => zgd (vp_in b0 8) (zjoin (fun (M13 : MS) (v14 : Int32) (v15 : Int32) (v16 : Int32) => zgd (vp_in v16 8) (zlet (mA M13 20 v16.toNatClampNeg v15) (fun M18 => fX2_fails_L76 1000 M18 v14 (0 : Int32) ))) (fun j22 => if (M11.A 22 b0.toNatClampNeg) = (1 : Int32) then j22 M11 b0 (4 : Int32) b0 else j22 M11 b0 (5 : Int32) b0)))))))))))))
theorem fX2_fails_L76_ok {G : zG} {d : Nat} {K : List Nat} {Q : zO → zS → Prop} {a0 : Nat} {g0 : zS} : ∀ (n : Nat) (M : MS) (y1 : Int32) (y4 : Int32) (p : Int32 × MS) (h : fX2_fails_L76 n M y1 y4 = some p) (kq : Q (.inl (some (.int p.1))) (zm a0 g0 p.2)), zEF G (d + 0) K YX2_fails 76 [some (.ref a0), some (.int y1), none, none, some (.int y4)] [] (zm a0 g0 M) Q := by
  intro n
  induction n with
  | zero =>
    intro M y1 y4 p h kq
    rw [fX2_fails_L76] at h
    cases h
  | succ n ih =>
    intro M y1 y4 p h kq
    rw [fX2_fails_L76] at h
    refine ez_iload (i := 4) (x := y4) dX2_fails_76 rfl ?_
    refine ez_bipush (v := 8) dX2_fails_78 (by decide) ?_
    refine ez_icmp_ge (tgt := 112) dX2_fails_80 (by decide) (fun hc => ?_) (fun hc => ?_)
    · replace h := zif_t hc h
      refine ez_iconst (v := 2) dX2_fails_112 (by decide) ?_
      obtain rfl := Option.some.inj h
      exact ez_iret dX2_fails_113 rfl rfl kq
    · replace h := zif_f hc h
      refine ez_aload_n (i := 0) (v := .ref a0) dX2_fails_83 rfl rfl rfl ?_
      refine gM_73 dX2_fails_84 rfl ?_
      refine ez_iload_n (i := 1) (x := y1) dX2_fails_87 rfl rfl ?_
      obtain ⟨hg19, h⟩ := zgd_some h
      refine lM_22 dX2_fails_88 hg19 ?_
      refine ez_iconst (v := 2) dX2_fails_89 (by decide) ?_
      refine ez_icmp_ne (tgt := 112) dX2_fails_90 (by decide) (fun hc => ?_) (fun hc => ?_)
      · replace h := zif_f hc h
        refine ez_iconst (v := 2) dX2_fails_112 (by decide) ?_
        obtain rfl := Option.some.inj h
        exact ez_iret dX2_fails_113 rfl rfl kq
      · replace h := zif_t hc h
        refine ez_aload_n (i := 0) (v := .ref a0) dX2_fails_93 rfl rfl rfl ?_
        refine gM_82 dX2_fails_94 rfl ?_
        refine ez_bipush (v := 8) dX2_fails_97 (by decide) ?_
        refine ez_iload_n (i := 1) (x := y1) dX2_fails_99 rfl rfl ?_
        refine ez_imul dX2_fails_100 ?_
        refine ez_iload (i := 4) (x := y4) dX2_fails_101 rfl ?_
        refine ez_iadd dX2_fails_103 ?_
        refine ez_fconst0 dX2_fails_104 ?_
        obtain ⟨hg20, h⟩ := zgd_some h
        refine sM_25 dX2_fails_105 hg20 ?_
        refine zlet_use (fun M21 => zEF G (d + 0) K YX2_fails 106 [some (.ref a0), some (.int y1), none, none, some (.int y4)] [] (zm a0 g0 M21) Q) h (fun M21 h => ?_)
        refine ez_iinc (x := y4) (v := (y4 + (1 : Int32))) dX2_fails_106 rfl rfl (show 4 < 5 by decide) ?_
        show zEF G (d + 0) K YX2_fails 109 [some (.ref a0), some (.int y1), none, none, some (.int (y4 + (1 : Int32)))] [] (zm a0 g0 M21) Q
        refine ez_goto (tgt := 76) dX2_fails_109 (by decide) ?_
        exact ih M21 y1 (y4 + (1 : Int32)) _ h kq
theorem wX2_fails {G : zG} {d : Nat} {K : List Nat} {Q : zO → zS → Prop} {a0 : Nat} {g0 : zS} {M : MS} {b0 : Int32} {b1 : Int32} {b2 : Int32} {p : Int32 × MS} (h : fX2_fails M b0 b1 b2 = some p) (kq : Q (.inl (some (.int p.1))) (zm a0 g0 p.2)) : zEM G (d + 0) K YX2_fails [.ref a0, .int b0, .int b1, .int b2] (zm a0 g0 M) Q := by
  show zEF G (d + 0) K YX2_fails 0 [some (.ref a0), some (.int b0), some (.int b1), some (.int b2), none] [] (zm a0 g0 M) Q
  unfold fX2_fails at h
  refine ez_aload_n (i := 0) (v := .ref a0) dX2_fails_0 rfl rfl rfl ?_
  refine gM_76 dX2_fails_1 rfl ?_
  refine ez_iconst (v := 2) dX2_fails_4 (by decide) ?_
  refine ez_iload_n (i := 1) (x := b0) dX2_fails_5 rfl rfl ?_
  refine ez_imul dX2_fails_6 ?_
  refine ez_aload_n (i := 0) (v := .ref a0) dX2_fails_7 rfl rfl rfl ?_
  refine gM_73 dX2_fails_8 rfl ?_
  refine ez_iload_n (i := 1) (x := b0) dX2_fails_11 rfl rfl ?_
  obtain ⟨hg1, h⟩ := zgd_some h
  refine lM_22 dX2_fails_12 hg1 ?_
  refine ez_iadd dX2_fails_13 ?_
  refine ez_iload_n (i := 2) (x := b1) dX2_fails_14 rfl rfl ?_
  obtain ⟨hg2, h⟩ := zgd_some h
  refine sM_23 dX2_fails_15 hg2 ?_
  refine zlet_use (fun M3 => zEF G (d + 0) K YX2_fails 16 [some (.ref a0), some (.int b0), some (.int b1), some (.int b2), none] [] (zm a0 g0 M3) Q) h (fun M3 h => ?_)
  refine ez_aload_n (i := 0) (v := .ref a0) dX2_fails_16 rfl rfl rfl ?_
  refine gM_79 dX2_fails_17 rfl ?_
  refine ez_iconst (v := 2) dX2_fails_20 (by decide) ?_
  refine ez_iload_n (i := 1) (x := b0) dX2_fails_21 rfl rfl ?_
  refine ez_imul dX2_fails_22 ?_
  refine ez_aload_n (i := 0) (v := .ref a0) dX2_fails_23 rfl rfl rfl ?_
  refine gM_73 dX2_fails_24 rfl ?_
  refine ez_iload_n (i := 1) (x := b0) dX2_fails_27 rfl rfl ?_
  obtain ⟨hg4, h⟩ := zgd_some h
  refine lM_22 dX2_fails_28 hg4 ?_
  refine ez_iadd dX2_fails_29 ?_
  refine ez_aload_n (i := 0) (v := .ref a0) dX2_fails_30 rfl rfl rfl ?_
  refine gM_210 dX2_fails_31 rfl ?_
  obtain ⟨hg5, h⟩ := zgd_some h
  refine sM_24 dX2_fails_34 hg5 ?_
  refine zlet_use (fun M6 => zEF G (d + 0) K YX2_fails 35 [some (.ref a0), some (.int b0), some (.int b1), some (.int b2), none] [] (zm a0 g0 M6) Q) h (fun M6 h => ?_)
  refine ez_aload_n (i := 0) (v := .ref a0) dX2_fails_35 rfl rfl rfl ?_
  refine gM_73 dX2_fails_36 rfl ?_
  refine ez_iload_n (i := 1) (x := b0) dX2_fails_39 rfl rfl ?_
  refine ez_dup2 dX2_fails_40 rfl rfl ?_
  obtain ⟨hg7, h⟩ := zgd_some h
  refine lM_22 dX2_fails_41 hg7 ?_
  refine ez_iconst (v := 1) dX2_fails_42 (by decide) ?_
  refine ez_iadd dX2_fails_43 ?_
  obtain ⟨hg8, h⟩ := zgd_some h
  refine sM_22 dX2_fails_44 hg8 ?_
  refine zlet_use (fun M9 => zEF G (d + 0) K YX2_fails 45 [some (.ref a0), some (.int b0), some (.int b1), some (.int b2), none] [] (zm a0 g0 M9) Q) h (fun M9 h => ?_)
  refine ez_aload_n (i := 0) (v := .ref a0) dX2_fails_45 rfl rfl rfl ?_
  refine gM_89 dX2_fails_46 rfl ?_
  refine ez_iload_n (i := 3) (x := b2) dX2_fails_49 rfl rfl ?_
  refine ez_iconst (v := -1) dX2_fails_50 (by decide) ?_
  obtain ⟨hg10, h⟩ := zgd_some h
  refine sM_27 dX2_fails_51 hg10 ?_
  refine zlet_use (fun M11 => zEF G (d + 0) K YX2_fails 52 [some (.ref a0), some (.int b0), some (.int b1), some (.int b2), none] [] (zm a0 g0 M11) Q) h (fun M11 h => ?_)
  refine ez_aload_n (i := 0) (v := .ref a0) dX2_fails_52 rfl rfl rfl ?_
  refine gM_67 dX2_fails_53 rfl ?_
  refine ez_iload_n (i := 1) (x := b0) dX2_fails_56 rfl rfl ?_
  refine ez_aload_n (i := 0) (v := .ref a0) dX2_fails_57 rfl rfl rfl ?_
  refine gM_73 dX2_fails_58 rfl ?_
  refine ez_iload_n (i := 1) (x := b0) dX2_fails_61 rfl rfl ?_
  obtain ⟨hg12, h⟩ := zgd_some h
  refine lM_22 dX2_fails_62 hg12 ?_
  refine ez_iconst (v := 1) dX2_fails_63 (by decide) ?_
  refine zjoin_use (fun (j : MS → Int32 → Int32 → Int32 → Option (Int32 × MS)) => ∀ (M13 : MS) (v14 : Int32) (v15 : Int32) (v16 : Int32), j M13 v14 v15 v16 = some p → zEF G (d + 0) K YX2_fails 72 [some (.ref a0), some (.int v14), none, none, none] [.int v15, .int v16, .ref (a0 + 19)] (zm a0 g0 M13) Q) h (fun M13 v14 v15 v16 h => ?_) (fun j22 hj22 h => ?_)
  · obtain ⟨hg17, h⟩ := zgd_some h
    refine sM_20 dX2_fails_72 hg17 ?_
    refine zlet_use (fun M18 => zEF G (d + 0) K YX2_fails 73 [some (.ref a0), some (.int v14), none, none, none] [] (zm a0 g0 M18) Q) h (fun M18 h => ?_)
    refine ez_iconst (v := 0) dX2_fails_73 (by decide) ?_
    refine ez_istore (i := 4) dX2_fails_74 (show 4 < 5 by decide) ?_
    show zEF G (d + 0) K YX2_fails 76 [some (.ref a0), some (.int v14), none, none, some (.int (0 : Int32))] [] (zm a0 g0 M18) Q
    refine fX2_fails_L76_ok (d := d) (K := K) 1000 M18 v14 (0 : Int32) _ h  kq
  · refine ez_icmp_ne (tgt := 71) dX2_fails_64 (by decide) (fun hc => ?_) (fun hc => ?_)
    · replace h := zif_f hc h
      refine ez_iconst (v := 5) dX2_fails_71 (by decide) ?_
      refine ez_clr 2 ?_
      refine ez_clr 3 ?_
      exact hj22 M11 b0 (5 : Int32) b0 h
    · replace h := zif_t hc h
      refine ez_iconst (v := 4) dX2_fails_67 (by decide) ?_
      refine ez_goto (tgt := 72) dX2_fails_68 (by decide) ?_
      refine ez_clr 2 ?_
      refine ez_clr 3 ?_
      exact hj22 M11 b0 (4 : Int32) b0 h

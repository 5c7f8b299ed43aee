/-! ScoreThreads' classes: methods, walked, 3 -/
set_option maxRecDepth 100000

def YX0_waited : zM := (yX0_waited, cX0_waited, 1, (Option.some Jvm.ClassFile.FieldType.int), [], false)
theorem zkX0_waited : zMok YX0_waited := ⟨rfl, q848, by decide +kernel, by decide +kernel⟩
theorem znX0_waited : (parseMethodDescriptor YX0_waited.nm.desc).map (fun d => d.parameters.length) = some 0 := by decide +kernel
theorem slX0_waited : Cond.selects RX0 yX0_waited yX0_waited ∈ lw_all := lw_w 17 rfl rfl
noncomputable def fX0_waited (g : zS) (a0 : Nat) : Option (Int32 × zS) := zbj (zgI g [0] a0 13) (fun i1 => zbj (zpV g [0] a0 13 (.int (i1 + (1 : Int32)))) (fun g3 => some ((0 : Int32), g3)))
theorem wX0_waited {G : zG} {d : Nat} {K : List Nat} {Q : zO → zS → Prop} {g : zS} {a0 : Nat} {p : Int32 × zS} (h : fX0_waited g a0 = some p) (kq : Q (.inl (some (.int p.1))) p.2) : zEM G (d + 0) K YX0_waited [.ref a0] g Q := by
  show zEF G (d + 0) K YX0_waited 0 [some (.ref a0)] [] g Q
  unfold fX0_waited at h
  refine ez_aload_n (i := 0) (v := .ref a0) dX0_waited_0 rfl rfl rfl ?_
  refine ez_dup dX0_waited_1 rfl ?_
  obtain ⟨i1, hx2, h⟩ := zbj_some h
  refine gX0_261 dX0_waited_2 rfl hx2 ?_
  refine ez_iconst (v := 1) dX0_waited_5 (by decide) ?_
  refine ez_iadd dX0_waited_6 ?_
  obtain ⟨g3, hx4, h⟩ := zbj_some h
  refine pX0_261 (x := (i1 + (1 : Int32))) dX0_waited_7 rfl hx4 ?_
  refine ez_iconst (v := 0) dX0_waited_10 (by decide) ?_
  obtain rfl := Option.some.inj h
  exact ez_iret dX0_waited_11 rfl rfl kq
def YX0_least : zM := (yX0_least, cX0_least, 3, (Option.some Jvm.ClassFile.FieldType.int), [], false)
theorem zkX0_least : zMok YX0_least := ⟨rfl, q852, by decide +kernel, by decide +kernel⟩
theorem znX0_least : (parseMethodDescriptor YX0_least.nm.desc).map (fun d => d.parameters.length) = some 1 := by decide +kernel
theorem slX0_least : Cond.selects RX0 yX0_least yX0_least ∈ lw_all := lw_w 18 rfl rfl
noncomputable def fX0_least_L2 : Nat → zS → Nat → Int32 → Int32 → Option (Int32 × zS)
  | 0, _, _, _, _ => none
  | n + 1, g, y0, y1, y2 => if (8 : Int32) ≤ y2 then some (y2, g) else zbj (zgN g [0] y0 4) (fun a1 => zbj (zaN g 9 a1 y2) (fun a3 => zbj (zgI g [1] a3 7) (fun i5 => if i5 = y1 then some (y2, g) else fX0_least_L2 n g y0 y1 (y2 + (1 : Int32)))))
noncomputable def fX0_least (g : zS) (a0 : Nat) (b0 : Int32) : Option (Int32 × zS) := fX0_least_L2 1000 g a0 b0 (0 : Int32) 
theorem fX0_least_L2_ok {G : zG} {d : Nat} {K : List Nat} {Q : zO → zS → Prop} : ∀ (n : Nat) (g : zS) (y0 : Nat) (y1 : Int32) (y2 : Int32) (p : Int32 × zS) (h : fX0_least_L2 n g y0 y1 y2 = some p) (kq : Q (.inl (some (.int p.1))) p.2), zEF G (d + 0) K YX0_least 2 [some (.ref y0), some (.int y1), some (.int y2)] [] g Q := by
  intro n
  induction n with
  | zero =>
    intro g y0 y1 y2 p h kq
    rw [fX0_least_L2] at h
    cases h
  | succ n ih =>
    intro g y0 y1 y2 p h kq
    rw [fX0_least_L2] at h
    refine ez_iload_n (i := 2) (x := y2) dX0_least_2 rfl rfl ?_
    refine ez_bipush (v := 8) dX0_least_3 (by decide) ?_
    refine ez_icmp_ge (tgt := 27) dX0_least_5 (by decide) (fun hc => ?_) (fun hc => ?_)
    · replace h := zif_t hc h
      refine ez_iload_n (i := 2) (x := y2) dX0_least_27 rfl rfl ?_
      obtain rfl := Option.some.inj h
      exact ez_iret dX0_least_28 rfl rfl kq
    · replace h := zif_f hc h
      refine ez_aload_n (i := 0) (v := .ref y0) dX0_least_8 rfl rfl rfl ?_
      obtain ⟨a1, hx2, h⟩ := zbj_some h
      refine gX0_55 dX0_least_9 rfl (zgN_some hx2) ?_
      show zEF G (d + 0) K YX0_least 12 [some (.ref y0), some (.int y1), some (.int y2)] [.ref a1] g Q
      refine ez_iload_n (i := 2) (x := y2) dX0_least_12 rfl rfl ?_
      obtain ⟨a3, hx4, h⟩ := zbj_some h
      refine lX_aa9 dX0_least_13 (zaN_some hx4) ?_
      show zEF G (d + 0) K YX0_least 14 [some (.ref y0), some (.int y1), some (.int y2)] [.ref a3] g Q
      obtain ⟨i5, hx6, h⟩ := zbj_some h
      refine gX0_232 dX0_least_14 rfl hx6 ?_
      refine ez_iload_n (i := 1) (x := y1) dX0_least_17 rfl rfl ?_
      refine ez_icmp_eq (tgt := 27) dX0_least_18 (by decide) (fun hc => ?_) (fun hc => ?_)
      · replace h := zif_t hc h
        refine ez_iload_n (i := 2) (x := y2) dX0_least_27 rfl rfl ?_
        obtain rfl := Option.some.inj h
        exact ez_iret dX0_least_28 rfl rfl kq
      · replace h := zif_f hc h
        refine ez_iinc (x := y2) (v := (y2 + (1 : Int32))) dX0_least_21 rfl rfl (show 2 < 3 by decide) ?_
        show zEF G (d + 0) K YX0_least 24 [some (.ref y0), some (.int y1), some (.int (y2 + (1 : Int32)))] [] g Q
        refine ez_goto (tgt := 2) dX0_least_24 (by decide) ?_
        exact ih g y0 y1 (y2 + (1 : Int32)) _ h kq
theorem wX0_least {G : zG} {d : Nat} {K : List Nat} {Q : zO → zS → Prop} {g : zS} {a0 : Nat} {b0 : Int32} {p : Int32 × zS} (h : fX0_least g a0 b0 = some p) (kq : Q (.inl (some (.int p.1))) p.2) : zEM G (d + 0) K YX0_least [.ref a0, .int b0] g Q := by
  show zEF G (d + 0) K YX0_least 0 [some (.ref a0), some (.int b0), none] [] g Q
  unfold fX0_least at h
  refine ez_iconst (v := 0) dX0_least_0 (by decide) ?_
  refine ez_istore_n (i := 2) dX0_least_1 rfl (show 2 < 3 by decide) ?_
  show zEF G (d + 0) K YX0_least 2 [some (.ref a0), some (.int b0), some (.int (0 : Int32))] [] g Q
  refine fX0_least_L2_ok (d := d) (K := K) 1000 g a0 b0 (0 : Int32) _ h  kq
def YX0_levelled : zM := (yX0_levelled, cX0_levelled, 3, (Option.some Jvm.ClassFile.FieldType.float), [], false)
theorem zkX0_levelled : zMok YX0_levelled := ⟨rfl, q864, by decide +kernel, by decide +kernel⟩
theorem znX0_levelled : (parseMethodDescriptor YX0_levelled.nm.desc).map (fun d => d.parameters.length) = some 2 := by decide +kernel
theorem slX0_levelled : Cond.selects RX0 yX0_levelled yX0_levelled ∈ lw_all := lw_w 21 rfl rfl
noncomputable def fX0_levelled (g : zS) (a0 : Nat) (b0 : Int32) (b1 : Int32) : Option (UInt32 × zS) := zbj (zgN g [0] a0 4) (fun a1 => zbj (zaN g 9 a1 b0) (fun a3 => zbj (zgI g [1] a3 0) (fun i5 => if i5 = 0 then some (FP.fconst0, g) else zbj (zgN g [0] a0 4) (fun a7 => zbj (zaN g 9 a7 b0) (fun a9 => zbj (zgN g [1] a9 9) (fun a11 => zbj (zaF g 1 a11 b1) (fun e13 => zbj (zgN g [0] a0 4) (fun a15 => zbj (zaN g 9 a15 b0) (fun a17 => zbj (zgF g [1] a17 4) (fun f19 => zgd (vf_n32 (FP.fmul e13 f19)) (zbj (fX0_clipped (FP.fmul e13 f19)) (fun r22 => some (r22, g)))))))))))))
theorem wX0_levelled {G : zG} {d : Nat} {K : List Nat} {Q : zO → zS → Prop} {g : zS} {a0 : Nat} {b0 : Int32} {b1 : Int32} {p : UInt32 × zS} (h : fX0_levelled g a0 b0 b1 = some p) (kq : Q (.inl (some (.float p.1))) p.2) : zEM G (d + 1) K YX0_levelled [.ref a0, .int b0, .int b1] g Q := by
  show zEF G (d + 1) K YX0_levelled 0 [some (.ref a0), some (.int b0), some (.int b1)] [] g Q
  unfold fX0_levelled at h
  refine ez_aload_n (i := 0) (v := .ref a0) dX0_levelled_0 rfl rfl rfl ?_
  obtain ⟨a1, hx2, h⟩ := zbj_some h
  refine gX0_55 dX0_levelled_1 rfl (zgN_some hx2) ?_
  show zEF G (d + 1) K YX0_levelled 4 [some (.ref a0), some (.int b0), some (.int b1)] [.ref a1] g Q
  refine ez_iload_n (i := 1) (x := b0) dX0_levelled_4 rfl rfl ?_
  obtain ⟨a3, hx4, h⟩ := zbj_some h
  refine lX_aa9 dX0_levelled_5 (zaN_some hx4) ?_
  show zEF G (d + 1) K YX0_levelled 6 [some (.ref a0), some (.int b0), some (.int b1)] [.ref a3] g Q
  obtain ⟨i5, hx6, h⟩ := zbj_some h
  refine gX0_211 dX0_levelled_6 rfl hx6 ?_
  refine ez_if_eq (tgt := 39) dX0_levelled_9 (by decide) (fun hc => ?_) (fun hc => ?_)
  · replace h := zif_t hc h
    refine ez_fconst0 dX0_levelled_39 ?_
    obtain rfl := Option.some.inj h
    exact ez_fret dX0_levelled_40 rfl kq
  · replace h := zif_f hc h
    refine ez_aload_n (i := 0) (v := .ref a0) dX0_levelled_12 rfl rfl rfl ?_
    obtain ⟨a7, hx8, h⟩ := zbj_some h
    refine gX0_55 dX0_levelled_13 rfl (zgN_some hx8) ?_
    show zEF G (d + 1) K YX0_levelled 16 [some (.ref a0), some (.int b0), some (.int b1)] [.ref a7] g Q
    refine ez_iload_n (i := 1) (x := b0) dX0_levelled_16 rfl rfl ?_
    obtain ⟨a9, hx10, h⟩ := zbj_some h
    refine lX_aa9 dX0_levelled_17 (zaN_some hx10) ?_
    show zEF G (d + 1) K YX0_levelled 18 [some (.ref a0), some (.int b0), some (.int b1)] [.ref a9] g Q
    obtain ⟨a11, hx12, h⟩ := zbj_some h
    refine gX0_287 dX0_levelled_18 rfl (zgN_some hx12) ?_
    show zEF G (d + 1) K YX0_levelled 21 [some (.ref a0), some (.int b0), some (.int b1)] [.ref a11] g Q
    refine ez_iload_n (i := 2) (x := b1) dX0_levelled_21 rfl rfl ?_
    obtain ⟨e13, hx14, h⟩ := zbj_some h
    refine lX_fa dX0_levelled_22 hx14 ?_
    refine ez_aload_n (i := 0) (v := .ref a0) dX0_levelled_23 rfl rfl rfl ?_
    obtain ⟨a15, hx16, h⟩ := zbj_some h
    refine gX0_55 dX0_levelled_24 rfl (zgN_some hx16) ?_
    show zEF G (d + 1) K YX0_levelled 27 [some (.ref a0), some (.int b0), some (.int b1)] [.ref a15, .float e13] g Q
    refine ez_iload_n (i := 1) (x := b0) dX0_levelled_27 rfl rfl ?_
    obtain ⟨a17, hx18, h⟩ := zbj_some h
    refine lX_aa9 dX0_levelled_28 (zaN_some hx18) ?_
    show zEF G (d + 1) K YX0_levelled 29 [some (.ref a0), some (.int b0), some (.int b1)] [.ref a17, .float e13] g Q
    obtain ⟨f19, hx20, h⟩ := zbj_some h
    refine gX0_207 dX0_levelled_29 rfl hx20 ?_
    obtain ⟨hg21, h⟩ := zgd_some h
    refine ez_fmul dX0_levelled_32 hg21 ?_
    obtain ⟨r22, hq24, h⟩ := zbj_some h
    refine ez_callS (Y' := YX0_clipped) (vs := [.float (FP.fmul e13 f19)]) (rest := []) dX0_levelled_33 rfl zkX0_clipped q865 q412 q52 znX0_clipped (Nat.le_of_ble_eq_true rfl) (Nat.le_of_ble_eq_true rfl) rfl (wX0_clipped (d := d + 0) hq24 (zBack_v ?_))
    show zEF G (d + 1) K YX0_levelled 36 [some (.ref a0), some (.int b0), some (.int b1)] [.float r22] g Q
    refine ez_goto (tgt := 40) dX0_levelled_36 (by decide) ?_
    obtain rfl := Option.some.inj h
    exact ez_fret dX0_levelled_40 rfl kq
def YX0_pair : zM := (yX0_pair, cX0_pair, 3, (Option.some Jvm.ClassFile.FieldType.float), [], false)
theorem zkX0_pair : zMok YX0_pair := ⟨rfl, q860, by decide +kernel, by decide +kernel⟩
theorem znX0_pair : (parseMethodDescriptor YX0_pair.nm.desc).map (fun d => d.parameters.length) = some 2 := by decide +kernel
theorem slX0_pair : Cond.selects RX0 yX0_pair yX0_pair ∈ lw_all := lw_w 20 rfl rfl
noncomputable def fX0_pair (g : zS) (a0 : Nat) (b0 : Int32) (b1 : Int32) : Option (UInt32 × zS) := zbj (zob g [0] a0) (fun ob1 => zbd (fX0_levelled g a0 b0 b1) (fun r3 g4 => zbj (zob g4 [0] a0) (fun ob6 => zbd (fX0_levelled g4 a0 (b0 + (1 : Int32)) b1) (fun r8 g9 => zgd (vf_n32 (FP.fadd r3 r8)) (zbj (fX0_clipped (FP.fadd r3 r8)) (fun r12 => some (r12, g9)))))))
theorem wX0_pair {G : zG} {d : Nat} {K : List Nat} {Q : zO → zS → Prop} {g : zS} {a0 : Nat} {b0 : Int32} {b1 : Int32} {p : UInt32 × zS} (h : fX0_pair g a0 b0 b1 = some p) (kq : Q (.inl (some (.float p.1))) p.2) : zEM G (d + 2) K YX0_pair [.ref a0, .int b0, .int b1] g Q := by
  show zEF G (d + 2) K YX0_pair 0 [some (.ref a0), some (.int b0), some (.int b1)] [] g Q
  unfold fX0_pair at h
  refine ez_aload_n (i := 0) (v := .ref a0) dX0_pair_0 rfl rfl rfl ?_
  refine ez_iload_n (i := 1) (x := b0) dX0_pair_1 rfl rfl ?_
  refine ez_iload_n (i := 2) (x := b1) dX0_pair_2 rfl rfl ?_
  obtain ⟨ob1, hx2, h⟩ := zbj_some h
  obtain ⟨r3, g4, hq5, h⟩ := zbd_some h
  refine ez_callV (C := RX0) (Tt := TX0) (N := 20) (Y' := YX0_levelled) (a := a0) (vs := [.int b0, .int b1]) (rest := []) dX0_pair_3 rfl zkX0_levelled q861 q863 rfl slX0_levelled (zob1 hx2) znX0_levelled (Nat.le_of_ble_eq_true rfl) (Nat.le_of_ble_eq_true rfl) rfl (wX0_levelled (d := d + 0) hq5 (zBack_v ?_))
  show zEF G (d + 2) K YX0_pair 6 [some (.ref a0), some (.int b0), some (.int b1)] [.float r3] g4 Q
  refine ez_aload_n (i := 0) (v := .ref a0) dX0_pair_6 rfl rfl rfl ?_
  refine ez_iload_n (i := 1) (x := b0) dX0_pair_7 rfl rfl ?_
  refine ez_iconst (v := 1) dX0_pair_8 (by decide) ?_
  refine ez_iadd dX0_pair_9 ?_
  refine ez_iload_n (i := 2) (x := b1) dX0_pair_10 rfl rfl ?_
  obtain ⟨ob6, hx7, h⟩ := zbj_some h
  obtain ⟨r8, g9, hq10, h⟩ := zbd_some h
  refine ez_callV (C := RX0) (Tt := TX0) (N := 20) (Y' := YX0_levelled) (a := a0) (vs := [.int (b0 + (1 : Int32)), .int b1]) (rest := [.float r3]) dX0_pair_11 rfl zkX0_levelled q861 q863 rfl slX0_levelled (zob1 hx7) znX0_levelled (Nat.le_of_ble_eq_true rfl) (Nat.le_of_ble_eq_true rfl) rfl (wX0_levelled (d := d + 0) hq10 (zBack_v ?_))
  show zEF G (d + 2) K YX0_pair 14 [some (.ref a0), some (.int b0), some (.int b1)] [.float r8, .float r3] g9 Q
  obtain ⟨hg11, h⟩ := zgd_some h
  refine ez_fadd dX0_pair_14 hg11 ?_
  obtain ⟨r12, hq14, h⟩ := zbj_some h
  refine ez_callS (Y' := YX0_clipped) (vs := [.float (FP.fadd r3 r8)]) (rest := []) dX0_pair_15 rfl zkX0_clipped q865 q412 q52 znX0_clipped (Nat.le_of_ble_eq_true rfl) (Nat.le_of_ble_eq_true rfl) rfl (wX0_clipped (d := d + 1) hq14 (zBack_v ?_))
  show zEF G (d + 2) K YX0_pair 18 [some (.ref a0), some (.int b0), some (.int b1)] [.float r12] g9 Q
  obtain rfl := Option.some.inj h
  exact ez_fret dX0_pair_18 rfl kq
def YX0_note : zM := (yX0_note, cX0_note, 5, (Option.none : Option Jvm.ClassFile.FieldType), [], false)
theorem zkX0_note : zMok YX0_note := ⟨rfl, q869, by decide +kernel, by decide +kernel⟩
theorem znX0_note : (parseMethodDescriptor YX0_note.nm.desc).map (fun d => d.parameters.length) = some 4 := by decide +kernel
theorem slX0_note : Cond.selects RX0 yX0_note yX0_note ∈ lw_all := lw_w 22 rfl rfl
noncomputable def fX0_note (g : zS) (a0 : Nat) (b0 : Int32) (b1 : Int32) (b2 : Int32) (b3 : Int32) : Option (Unit × zS) := zbj (zgI g [0] a0 16) (fun i1 => zjoin (fun (g3 : zS) (v4 : Nat) => zbj (zgI g3 [0] v4 16) (fun i5 => zbj (zpV g3 [0] v4 16 (.int (i5 + (1 : Int32)))) (fun g7 => some ((), g7)))) (fun j9 => if (100 : Int32) ≤ i1 then j9 g a0 else zbj (zgN g [0] a0 15) (fun a10 => zbj (zgI g [0] a0 16) (fun i12 => zbj (zsI g 0 a10 ((5 : Int32) * i12) b0) (fun g14 => zbj (zgN g14 [0] a0 15) (fun a16 => zbj (zgI g14 [0] a0 16) (fun i18 => zbj (zgI g14 [0] a0 10) (fun i20 => zbj (zsI g14 0 a16 (((5 : Int32) * i18) + (1 : Int32)) i20) (fun g22 => zbj (zgN g22 [0] a0 15) (fun a24 => zbj (zgI g22 [0] a0 16) (fun i26 => zbj (zsI g22 0 a24 (((5 : Int32) * i26) + (2 : Int32)) b1) (fun g28 => zbj (zgN g28 [0] a0 15) (fun a30 => zbj (zgI g28 [0] a0 16) (fun i32 => zbj (zsI g28 0 a30 (((5 : Int32) * i32) + (3 : Int32)) b2) (fun g34 => zbj (zgN g34 [0] a0 15) (fun a36 => zbj (zgI g34 [0] a0 16) (fun i38 => zbj (zsI g34 0 a36 (((5 : Int32) * i38) + (4 : Int32)) b3) (fun g40 => j9 g40 a0))))))))))))))))))
theorem wX0_note {G : zG} {d : Nat} {K : List Nat} {Q : zO → zS → Prop} {g : zS} {a0 : Nat} {b0 : Int32} {b1 : Int32} {b2 : Int32} {b3 : Int32} {p : Unit × zS} (h : fX0_note g a0 b0 b1 b2 b3 = some p) (kq : Q (.inl none) p.2) : zEM G (d + 0) K YX0_note [.ref a0, .int b0, .int b1, .int b2, .int b3] g Q := by
  show zEF G (d + 0) K YX0_note 0 [some (.ref a0), some (.int b0), some (.int b1), some (.int b2), some (.int b3)] [] g Q
  unfold fX0_note at h
  refine ez_aload_n (i := 0) (v := .ref a0) dX0_note_0 rfl rfl rfl ?_
  obtain ⟨i1, hx2, h⟩ := zbj_some h
  refine gX0_314 dX0_note_1 rfl hx2 ?_
  refine ez_bipush (v := 100) dX0_note_4 (by decide) ?_
  refine zjoin_use (fun (j : zS → Nat → Option (Unit × zS)) => ∀ (g3 : zS) (v4 : Nat), j g3 v4 = some p → zEF G (d + 0) K YX0_note 81 [some (.ref v4), none, none, none, none] [] g3 Q) h (fun g3 v4 h => ?_) (fun j9 hj9 h => ?_)
  · refine ez_aload_n (i := 0) (v := .ref v4) dX0_note_81 rfl rfl rfl ?_
    refine ez_dup dX0_note_82 rfl ?_
    obtain ⟨i5, hx6, h⟩ := zbj_some h
    refine gX0_314 dX0_note_83 rfl hx6 ?_
    refine ez_iconst (v := 1) dX0_note_86 (by decide) ?_
    refine ez_iadd dX0_note_87 ?_
    obtain ⟨g7, hx8, h⟩ := zbj_some h
    refine pX0_314 (x := (i5 + (1 : Int32))) dX0_note_88 rfl hx8 ?_
    obtain rfl := Option.some.inj h
    exact ez_vret dX0_note_91 rfl kq
  · refine ez_icmp_ge (tgt := 81) dX0_note_6 (by decide) (fun hc => ?_) (fun hc => ?_)
    · replace h := zif_t hc h
      refine ez_clr 1 ?_
      refine ez_clr 2 ?_
      refine ez_clr 3 ?_
      refine ez_clr 4 ?_
      exact hj9 g a0 h
    · replace h := zif_f hc h
      refine ez_aload_n (i := 0) (v := .ref a0) dX0_note_9 rfl rfl rfl ?_
      obtain ⟨a10, hx11, h⟩ := zbj_some h
      refine gX0_74 dX0_note_10 rfl (zgN_some hx11) ?_
      show zEF G (d + 0) K YX0_note 13 [some (.ref a0), some (.int b0), some (.int b1), some (.int b2), some (.int b3)] [.ref a10] g Q
      refine ez_iconst (v := 5) dX0_note_13 (by decide) ?_
      refine ez_aload_n (i := 0) (v := .ref a0) dX0_note_14 rfl rfl rfl ?_
      obtain ⟨i12, hx13, h⟩ := zbj_some h
      refine gX0_314 dX0_note_15 rfl hx13 ?_
      refine ez_imul dX0_note_18 ?_
      refine ez_iload_n (i := 1) (x := b0) dX0_note_19 rfl rfl ?_
      obtain ⟨g14, hx15, h⟩ := zbj_some h
      refine sX_ia dX0_note_20 hx15 ?_
      refine ez_aload_n (i := 0) (v := .ref a0) dX0_note_21 rfl rfl rfl ?_
      obtain ⟨a16, hx17, h⟩ := zbj_some h
      refine gX0_74 dX0_note_22 rfl (zgN_some hx17) ?_
      show zEF G (d + 0) K YX0_note 25 [some (.ref a0), some (.int b0), some (.int b1), some (.int b2), some (.int b3)] [.ref a16] g14 Q
      refine ez_iconst (v := 5) dX0_note_25 (by decide) ?_
      refine ez_aload_n (i := 0) (v := .ref a0) dX0_note_26 rfl rfl rfl ?_
      obtain ⟨i18, hx19, h⟩ := zbj_some h
      refine gX0_314 dX0_note_27 rfl hx19 ?_
      refine ez_imul dX0_note_30 ?_
      refine ez_iconst (v := 1) dX0_note_31 (by decide) ?_
      refine ez_iadd dX0_note_32 ?_
      refine ez_aload_n (i := 0) (v := .ref a0) dX0_note_33 rfl rfl rfl ?_
      obtain ⟨i20, hx21, h⟩ := zbj_some h
      refine gX0_220 dX0_note_34 rfl hx21 ?_
      obtain ⟨g22, hx23, h⟩ := zbj_some h
      refine sX_ia dX0_note_37 hx23 ?_
      refine ez_aload_n (i := 0) (v := .ref a0) dX0_note_38 rfl rfl rfl ?_
      obtain ⟨a24, hx25, h⟩ := zbj_some h
      refine gX0_74 dX0_note_39 rfl (zgN_some hx25) ?_
      show zEF G (d + 0) K YX0_note 42 [some (.ref a0), some (.int b0), some (.int b1), some (.int b2), some (.int b3)] [.ref a24] g22 Q
      refine ez_iconst (v := 5) dX0_note_42 (by decide) ?_
      refine ez_aload_n (i := 0) (v := .ref a0) dX0_note_43 rfl rfl rfl ?_
      obtain ⟨i26, hx27, h⟩ := zbj_some h
      refine gX0_314 dX0_note_44 rfl hx27 ?_
      refine ez_imul dX0_note_47 ?_
      refine ez_iconst (v := 2) dX0_note_48 (by decide) ?_
      refine ez_iadd dX0_note_49 ?_
      refine ez_iload_n (i := 2) (x := b1) dX0_note_50 rfl rfl ?_
      obtain ⟨g28, hx29, h⟩ := zbj_some h
      refine sX_ia dX0_note_51 hx29 ?_
      refine ez_aload_n (i := 0) (v := .ref a0) dX0_note_52 rfl rfl rfl ?_
      obtain ⟨a30, hx31, h⟩ := zbj_some h
      refine gX0_74 dX0_note_53 rfl (zgN_some hx31) ?_
      show zEF G (d + 0) K YX0_note 56 [some (.ref a0), some (.int b0), some (.int b1), some (.int b2), some (.int b3)] [.ref a30] g28 Q
      refine ez_iconst (v := 5) dX0_note_56 (by decide) ?_
      refine ez_aload_n (i := 0) (v := .ref a0) dX0_note_57 rfl rfl rfl ?_
      obtain ⟨i32, hx33, h⟩ := zbj_some h
      refine gX0_314 dX0_note_58 rfl hx33 ?_
      refine ez_imul dX0_note_61 ?_
      refine ez_iconst (v := 3) dX0_note_62 (by decide) ?_
      refine ez_iadd dX0_note_63 ?_
      refine ez_iload_n (i := 3) (x := b2) dX0_note_64 rfl rfl ?_
      obtain ⟨g34, hx35, h⟩ := zbj_some h
      refine sX_ia dX0_note_65 hx35 ?_
      refine ez_aload_n (i := 0) (v := .ref a0) dX0_note_66 rfl rfl rfl ?_
      obtain ⟨a36, hx37, h⟩ := zbj_some h
      refine gX0_74 dX0_note_67 rfl (zgN_some hx37) ?_
      show zEF G (d + 0) K YX0_note 70 [some (.ref a0), some (.int b0), some (.int b1), some (.int b2), some (.int b3)] [.ref a36] g34 Q
      refine ez_iconst (v := 5) dX0_note_70 (by decide) ?_
      refine ez_aload_n (i := 0) (v := .ref a0) dX0_note_71 rfl rfl rfl ?_
      obtain ⟨i38, hx39, h⟩ := zbj_some h
      refine gX0_314 dX0_note_72 rfl hx39 ?_
      refine ez_imul dX0_note_75 ?_
      refine ez_iconst (v := 4) dX0_note_76 (by decide) ?_
      refine ez_iadd dX0_note_77 ?_
      refine ez_iload (i := 4) (x := b3) dX0_note_78 rfl ?_
      obtain ⟨g40, hx41, h⟩ := zbj_some h
      refine sX_ia dX0_note_80 hx41 ?_
      refine ez_clr 1 ?_
      refine ez_clr 2 ?_
      refine ez_clr 3 ?_
      refine ez_clr 4 ?_
      exact hj9 g40 a0 h
def YX0_mix : zM := (yX0_mix, cX0_mix, 4, (Option.some Jvm.ClassFile.FieldType.int), [], false)
theorem zkX0_mix : zMok YX0_mix := ⟨rfl, q856, by decide +kernel, by decide +kernel⟩
theorem znX0_mix : (parseMethodDescriptor YX0_mix.nm.desc).map (fun d => d.parameters.length) = some 0 := by decide +kernel
theorem slX0_mix : Cond.selects RX0 yX0_mix yX0_mix ∈ lw_all := lw_w 19 rfl rfl
noncomputable def fX0_mix_L12 : Nat → zS → Nat → Int32 → (zS → Nat → Option (Int32 × zS)) → Option (Int32 × zS)
  | 0, _, _, _, _ => none
  | n + 1, g, y0, y1, k79 => if (8 : Int32) ≤ y1 then k79 g y0 else zbj (zob g [0] y0) (fun ob5 => zbd (fX0_pair g y0 (0 : Int32) y1) (fun r7 g8 => zbj (zob g8 [0] y0) (fun ob10 => zbd (fX0_pair g8 y0 (2 : Int32) y1) (fun r12 g13 => zgd (vf_n32 (FP.fadd r7 r12)) (zbj (fX0_clipped (FP.fadd r7 r12)) (fun r16 => zbj (zob g13 [0] y0) (fun ob19 => zbd (fX0_pair g13 y0 (4 : Int32) y1) (fun r21 g22 => zbj (zob g22 [0] y0) (fun ob24 => zbd (fX0_pair g22 y0 (6 : Int32) y1) (fun r26 g27 => zgd (vf_n32 (FP.fadd r21 r26)) (zbj (fX0_clipped (FP.fadd r21 r26)) (fun r30 => zbj (zgN g27 [0] y0 11) (fun a33 => zbj (zgI g27 [0] y0 10) (fun i35 => zgd (vf_n32 (FP.fadd r16 r30)) (zbj (fX0_clipped (FP.fadd r16 r30)) (fun r38 => zbj (zsF g27 1 a33 (((8 : Int32) * i35) + y1) r38) (fun g41 => fX0_mix_L12 n g41 y0 (y1 + (1 : Int32)) k79)))))))))))))))))
noncomputable def fX0_mix_L89 : Nat → zS → Nat → Int32 → Int32 → (zS → Nat → Int32 → Option (Int32 × zS)) → Option (Int32 × zS)
  | 0, _, _, _, _, _ => none
  | n + 1, g, y0, y1, y2, k138 => zbj (zgN g [0] y0 4) (fun a45 => zbj (zaN g 9 a45 y1) (fun a47 => zbj (zgI g [1] a47 11) (fun i49 => if i49 ≤ y2 then k138 g y0 y1 else zbj (zgN g [0] y0 4) (fun a51 => zbj (zaN g 9 a51 y1) (fun a53 => zbj (zgN g [1] a53 12) (fun a55 => zbj (zaI g 0 a55 y2) (fun e57 => zbj (zgN g [0] y0 4) (fun a59 => zbj (zaN g 9 a59 y1) (fun a61 => zbj (zgN g [1] a61 13) (fun a63 => zbj (zaI g 0 a63 y2) (fun e65 => zbj (zob g [0] y0) (fun ob67 => zbd (fX0_note g y0 y1 e57 e65 (y2 + (1 : Int32))) (fun _ g70 => fX0_mix_L89 n g70 y0 y1 (y2 + (1 : Int32)) k138)))))))))))))
noncomputable def fX0_mix_L81 : Nat → zS → Nat → Int32 → (zS → Nat → Option (Int32 × zS)) → Option (Int32 × zS)
  | 0, _, _, _, _ => none
  | n + 1, g, y0, y1, k144 => if (8 : Int32) ≤ y1 then k144 g y0 else fX0_mix_L89 1000 g y0 y1 (0 : Int32) (fun (g72 : zS) (x73 : Nat) (x74 : Int32) => fX0_mix_L81 n g72 x73 (x74 + (1 : Int32)) k144)
noncomputable def fX0_mix_L189 : Nat → zS → Nat → Int32 → (zS → Nat → Option (Int32 × zS)) → Option (Int32 × zS)
  | 0, _, _, _, _ => none
  | n + 1, g, y0, y1, k265 => zbj (zgI g [0] y0 18) (fun i94 => if i94 ≤ y1 then k265 g y0 else zbj (zgN g [0] y0 17) (fun a96 => zbj (zaI g 0 a96 ((5 : Int32) * y1)) (fun e98 => zbj (zgN g [0] y0 17) (fun a100 => zbj (zaI g 0 a100 (((5 : Int32) * y1) + (1 : Int32))) (fun e102 => zbj (zgN g [0] y0 17) (fun a104 => zbj (zaI g 0 a104 (((5 : Int32) * y1) + (2 : Int32))) (fun e106 => zbj (zgN g [0] y0 17) (fun a108 => zbj (zaI g 0 a108 (((5 : Int32) * y1) + (3 : Int32))) (fun e110 => zbj (zgN g [0] y0 17) (fun a112 => zbj (zaI g 0 a112 (((5 : Int32) * y1) + (4 : Int32))) (fun e114 => zjoin (fun (g116 : zS) (v117 : Nat) (v118 : Int32) (v119 : Int32) (v120 : Int32) (v121 : Int32) (v122 : Int32) (v123 : Int32) (v124 : Nat) => zbj (zob g116 [0] v124) (fun ob125 => zbd (fX0_does g116 v124 v123 v122 v121 v120 v119) (fun r127 g128 => fX0_mix_L189 n g128 v117 (v118 + (1 : Int32)) k265))) (fun j130 => if e114 = (1 : Int32) then j130 g y0 y1 (1 : Int32) e110 e106 e102 e98 y0 else j130 g y0 y1 (0 : Int32) e110 e106 e102 e98 y0))))))))))))
noncomputable def fX0_mix (g : zS) (a0 : Nat) : Option (Int32 × zS) := zbj (zgI g [0] a0 12) (fun i1 => zbj (zpV g [0] a0 12 (.int (i1 + (1 : Int32)))) (fun g3 => fX0_mix_L12 1000 g3 a0 (0 : Int32) (fun (g43 : zS) (x44 : Nat) => fX0_mix_L81 1000 g43 x44 (0 : Int32) (fun (g75 : zS) (x76 : Nat) => zbj (zgI g75 [0] x76 10) (fun i77 => zbj (zpV g75 [0] x76 10 (.int (i77 + (1 : Int32)))) (fun g79 => zbj (zgI g79 [0] x76 9) (fun i81 => zbj (zpV g79 [0] x76 9 (.int (i81 - (1 : Int32)))) (fun g83 => zbj (zgI g83 [0] x76 9) (fun i85 => zjoin (fun (g87 : zS) (v88 : Nat) (v89 : Int32) (v90 : Nat) => zgd (zbl v89) (zbj (zpV g87 [0] v90 7 (.int v89)) (fun g92 => fX0_mix_L189 1000 g92 v88 (0 : Int32) (fun (g131 : zS) (x132 : Nat) => zbj (zpV g131 [0] x132 18 (.int (0 : Int32))) (fun g133 => zbj (zgI g133 [0] x132 7) (fun i135 => zjoin (fun (g137 : zS) (v138 : Nat) => zbj (zgI g137 [0] v138 7) (fun i139 => if i139 = 0 then some ((4 : Int32), g137) else some ((3 : Int32), g137))) (fun j141 => if i135 = 0 then zbj (zpV g133 [0] x132 9 (.int (0 : Int32))) (fun g142 => j141 g142 x132) else zbj (zob g133 [0] x132) (fun ob144 => zbd (fX0_open g133 x132) (fun _ g147 => j141 g147 x132))))))))) (fun j149 => zjoin (fun (g150 : zS) (v151 : Nat) (v152 : Nat) => j149 g150 v151 (0 : Int32) v152) (fun j153 => if i85 ≤ 0 then j153 g83 x76 x76 else zbj (zgI g83 [0] x76 8) (fun i154 => if i154 = 0 then j149 g83 x76 (1 : Int32) x76 else j153 g83 x76 x76))))))))))))
theorem fX0_mix_L12_ok {G : zG} {d : Nat} {K : List Nat} {Q : zO → zS → Prop} : ∀ (n : Nat) (g : zS) (y0 : Nat) (y1 : Int32) (k79 : zS → Nat → Option (Int32 × zS)) (p : Int32 × zS) (h : fX0_mix_L12 n g y0 y1 k79 = some p) (hk79 : ∀ (g : zS) (x0 : Nat), k79 g x0 = some p → zEF G (d + 10) K YX0_mix 79 [some (.ref x0), none, none, none] [] g Q) (kq : Q (.inl (some (.int p.1))) p.2), zEF G (d + 10) K YX0_mix 12 [some (.ref y0), some (.int y1), none, none] [] g Q := by
  intro n
  induction n with
  | zero =>
    intro g y0 y1 k79 p h hk79 kq
    rw [fX0_mix_L12] at h
    cases h
  | succ n ih =>
    intro g y0 y1 k79 p h hk79 kq
    rw [fX0_mix_L12] at h
    refine ez_iload_n (i := 1) (x := y1) dX0_mix_12 rfl rfl ?_
    refine ez_bipush (v := 8) dX0_mix_13 (by decide) ?_
    refine ez_icmp_ge (tgt := 79) dX0_mix_15 (by decide) (fun hc => ?_) (fun hc => ?_)
    · replace h := zif_t hc h
      refine ez_clr 1 ?_
      exact hk79 g y0 h
    · replace h := zif_f hc h
      refine ez_aload_n (i := 0) (v := .ref y0) dX0_mix_18 rfl rfl rfl ?_
      refine ez_iconst (v := 0) dX0_mix_19 (by decide) ?_
      refine ez_iload_n (i := 1) (x := y1) dX0_mix_20 rfl rfl ?_
      obtain ⟨ob5, hx6, h⟩ := zbj_some h
      obtain ⟨r7, g8, hq9, h⟩ := zbd_some h
      refine ez_callV (C := RX0) (Tt := TX0) (N := 20) (Y' := YX0_pair) (a := y0) (vs := [.int (0 : Int32), .int y1]) (rest := []) dX0_mix_21 rfl zkX0_pair q857 q859 rfl slX0_pair (zob1 hx6) znX0_pair (Nat.le_of_ble_eq_true rfl) (Nat.le_of_ble_eq_true rfl) rfl (wX0_pair (d := d + 7) hq9 (zBack_v ?_))
      show zEF G (d + 10) K YX0_mix 24 [some (.ref y0), some (.int y1), none, none] [.float r7] g8 Q
      refine ez_aload_n (i := 0) (v := .ref y0) dX0_mix_24 rfl rfl rfl ?_
      refine ez_iconst (v := 2) dX0_mix_25 (by decide) ?_
      refine ez_iload_n (i := 1) (x := y1) dX0_mix_26 rfl rfl ?_
      obtain ⟨ob10, hx11, h⟩ := zbj_some h
      obtain ⟨r12, g13, hq14, h⟩ := zbd_some h
      refine ez_callV (C := RX0) (Tt := TX0) (N := 20) (Y' := YX0_pair) (a := y0) (vs := [.int (2 : Int32), .int y1]) (rest := [.float r7]) dX0_mix_27 rfl zkX0_pair q857 q859 rfl slX0_pair (zob1 hx11) znX0_pair (Nat.le_of_ble_eq_true rfl) (Nat.le_of_ble_eq_true rfl) rfl (wX0_pair (d := d + 7) hq14 (zBack_v ?_))
      show zEF G (d + 10) K YX0_mix 30 [some (.ref y0), some (.int y1), none, none] [.float r12, .float r7] g13 Q
      obtain ⟨hg15, h⟩ := zgd_some h
      refine ez_fadd dX0_mix_30 hg15 ?_
      obtain ⟨r16, hq18, h⟩ := zbj_some h
      refine ez_callS (Y' := YX0_clipped) (vs := [.float (FP.fadd r7 r12)]) (rest := []) dX0_mix_31 rfl zkX0_clipped q865 q412 q52 znX0_clipped (Nat.le_of_ble_eq_true rfl) (Nat.le_of_ble_eq_true rfl) rfl (wX0_clipped (d := d + 9) hq18 (zBack_v ?_))
      show zEF G (d + 10) K YX0_mix 34 [some (.ref y0), some (.int y1), none, none] [.float r16] g13 Q
      refine ez_fstore_n (i := 2) dX0_mix_34 rfl (show 2 < 4 by decide) ?_
      show zEF G (d + 10) K YX0_mix 35 [some (.ref y0), some (.int y1), some (.float r16), none] [] g13 Q
      refine ez_aload_n (i := 0) (v := .ref y0) dX0_mix_35 rfl rfl rfl ?_
      refine ez_iconst (v := 4) dX0_mix_36 (by decide) ?_
      refine ez_iload_n (i := 1) (x := y1) dX0_mix_37 rfl rfl ?_
      obtain ⟨ob19, hx20, h⟩ := zbj_some h
      obtain ⟨r21, g22, hq23, h⟩ := zbd_some h
      refine ez_callV (C := RX0) (Tt := TX0) (N := 20) (Y' := YX0_pair) (a := y0) (vs := [.int (4 : Int32), .int y1]) (rest := []) dX0_mix_38 rfl zkX0_pair q857 q859 rfl slX0_pair (zob1 hx20) znX0_pair (Nat.le_of_ble_eq_true rfl) (Nat.le_of_ble_eq_true rfl) rfl (wX0_pair (d := d + 7) hq23 (zBack_v ?_))
      show zEF G (d + 10) K YX0_mix 41 [some (.ref y0), some (.int y1), some (.float r16), none] [.float r21] g22 Q
      refine ez_aload_n (i := 0) (v := .ref y0) dX0_mix_41 rfl rfl rfl ?_
      refine ez_bipush (v := 6) dX0_mix_42 (by decide) ?_
      refine ez_iload_n (i := 1) (x := y1) dX0_mix_44 rfl rfl ?_
      obtain ⟨ob24, hx25, h⟩ := zbj_some h
      obtain ⟨r26, g27, hq28, h⟩ := zbd_some h
      refine ez_callV (C := RX0) (Tt := TX0) (N := 20) (Y' := YX0_pair) (a := y0) (vs := [.int (6 : Int32), .int y1]) (rest := [.float r21]) dX0_mix_45 rfl zkX0_pair q857 q859 rfl slX0_pair (zob1 hx25) znX0_pair (Nat.le_of_ble_eq_true rfl) (Nat.le_of_ble_eq_true rfl) rfl (wX0_pair (d := d + 7) hq28 (zBack_v ?_))
      show zEF G (d + 10) K YX0_mix 48 [some (.ref y0), some (.int y1), some (.float r16), none] [.float r26, .float r21] g27 Q
      obtain ⟨hg29, h⟩ := zgd_some h
      refine ez_fadd dX0_mix_48 hg29 ?_
      obtain ⟨r30, hq32, h⟩ := zbj_some h
      refine ez_callS (Y' := YX0_clipped) (vs := [.float (FP.fadd r21 r26)]) (rest := []) dX0_mix_49 rfl zkX0_clipped q865 q412 q52 znX0_clipped (Nat.le_of_ble_eq_true rfl) (Nat.le_of_ble_eq_true rfl) rfl (wX0_clipped (d := d + 9) hq32 (zBack_v ?_))
      show zEF G (d + 10) K YX0_mix 52 [some (.ref y0), some (.int y1), some (.float r16), none] [.float r30] g27 Q
      refine ez_fstore_n (i := 3) dX0_mix_52 rfl (show 3 < 4 by decide) ?_
      show zEF G (d + 10) K YX0_mix 53 [some (.ref y0), some (.int y1), some (.float r16), some (.float r30)] [] g27 Q
      refine ez_aload_n (i := 0) (v := .ref y0) dX0_mix_53 rfl rfl rfl ?_
      obtain ⟨a33, hx34, h⟩ := zbj_some h
      refine gX0_67 dX0_mix_54 rfl (zgN_some hx34) ?_
      show zEF G (d + 10) K YX0_mix 57 [some (.ref y0), some (.int y1), some (.float r16), some (.float r30)] [.ref a33] g27 Q
      refine ez_bipush (v := 8) dX0_mix_57 (by decide) ?_
      refine ez_aload_n (i := 0) (v := .ref y0) dX0_mix_59 rfl rfl rfl ?_
      obtain ⟨i35, hx36, h⟩ := zbj_some h
      refine gX0_220 dX0_mix_60 rfl hx36 ?_
      refine ez_imul dX0_mix_63 ?_
      refine ez_iload_n (i := 1) (x := y1) dX0_mix_64 rfl rfl ?_
      refine ez_iadd dX0_mix_65 ?_
      refine ez_fload_n (i := 2) (x := r16) dX0_mix_66 rfl rfl ?_
      refine ez_fload_n (i := 3) (x := r30) dX0_mix_67 rfl rfl ?_
      obtain ⟨hg37, h⟩ := zgd_some h
      refine ez_fadd dX0_mix_68 hg37 ?_
      obtain ⟨r38, hq40, h⟩ := zbj_some h
      refine ez_callS (Y' := YX0_clipped) (vs := [.float (FP.fadd r16 r30)]) (rest := [.int (((8 : Int32) * i35) + y1), .ref a33]) dX0_mix_69 rfl zkX0_clipped q865 q412 q52 znX0_clipped (Nat.le_of_ble_eq_true rfl) (Nat.le_of_ble_eq_true rfl) rfl (wX0_clipped (d := d + 9) hq40 (zBack_v ?_))
      show zEF G (d + 10) K YX0_mix 72 [some (.ref y0), some (.int y1), some (.float r16), some (.float r30)] [.float r38, .int (((8 : Int32) * i35) + y1), .ref a33] g27 Q
      obtain ⟨g41, hx42, h⟩ := zbj_some h
      refine sX_fa dX0_mix_72 hx42 ?_
      refine ez_iinc (x := y1) (v := (y1 + (1 : Int32))) dX0_mix_73 rfl rfl (show 1 < 4 by decide) ?_
      show zEF G (d + 10) K YX0_mix 76 [some (.ref y0), some (.int (y1 + (1 : Int32))), some (.float r16), some (.float r30)] [] g41 Q
      refine ez_goto (tgt := 12) dX0_mix_76 (by decide) ?_
      refine ez_clr 2 ?_
      refine ez_clr 3 ?_
      exact ih g41 y0 (y1 + (1 : Int32)) _ _ h hk79 kq
theorem fX0_mix_L89_ok {G : zG} {d : Nat} {K : List Nat} {Q : zO → zS → Prop} : ∀ (n : Nat) (g : zS) (y0 : Nat) (y1 : Int32) (y2 : Int32) (k138 : zS → Nat → Int32 → Option (Int32 × zS)) (p : Int32 × zS) (h : fX0_mix_L89 n g y0 y1 y2 k138 = some p) (hk138 : ∀ (g : zS) (x0 : Nat) (x1 : Int32), k138 g x0 x1 = some p → zEF G (d + 10) K YX0_mix 138 [some (.ref x0), some (.int x1), none, none] [] g Q) (kq : Q (.inl (some (.int p.1))) p.2), zEF G (d + 10) K YX0_mix 89 [some (.ref y0), some (.int y1), some (.int y2), none] [] g Q := by
  intro n
  induction n with
  | zero =>
    intro g y0 y1 y2 k138 p h hk138 kq
    rw [fX0_mix_L89] at h
    cases h
  | succ n ih =>
    intro g y0 y1 y2 k138 p h hk138 kq
    rw [fX0_mix_L89] at h
    refine ez_iload_n (i := 2) (x := y2) dX0_mix_89 rfl rfl ?_
    refine ez_aload_n (i := 0) (v := .ref y0) dX0_mix_90 rfl rfl rfl ?_
    obtain ⟨a45, hx46, h⟩ := zbj_some h
    refine gX0_55 dX0_mix_91 rfl (zgN_some hx46) ?_
    show zEF G (d + 10) K YX0_mix 94 [some (.ref y0), some (.int y1), some (.int y2), none] [.ref a45, .int y2] g Q
    refine ez_iload_n (i := 1) (x := y1) dX0_mix_94 rfl rfl ?_
    obtain ⟨a47, hx48, h⟩ := zbj_some h
    refine lX_aa9 dX0_mix_95 (zaN_some hx48) ?_
    show zEF G (d + 10) K YX0_mix 96 [some (.ref y0), some (.int y1), some (.int y2), none] [.ref a47, .int y2] g Q
    obtain ⟨i49, hx50, h⟩ := zbj_some h
    refine gX0_238 dX0_mix_96 rfl hx50 ?_
    refine ez_icmp_ge (tgt := 138) dX0_mix_99 (by decide) (fun hc => ?_) (fun hc => ?_)
    · replace h := zif_t hc h
      refine ez_clr 2 ?_
      exact hk138 g y0 y1 h
    · replace h := zif_f hc h
      refine ez_aload_n (i := 0) (v := .ref y0) dX0_mix_102 rfl rfl rfl ?_
      refine ez_iload_n (i := 1) (x := y1) dX0_mix_103 rfl rfl ?_
      refine ez_aload_n (i := 0) (v := .ref y0) dX0_mix_104 rfl rfl rfl ?_
      obtain ⟨a51, hx52, h⟩ := zbj_some h
      refine gX0_55 dX0_mix_105 rfl (zgN_some hx52) ?_
      show zEF G (d + 10) K YX0_mix 108 [some (.ref y0), some (.int y1), some (.int y2), none] [.ref a51, .int y1, .ref y0] g Q
      refine ez_iload_n (i := 1) (x := y1) dX0_mix_108 rfl rfl ?_
      obtain ⟨a53, hx54, h⟩ := zbj_some h
      refine lX_aa9 dX0_mix_109 (zaN_some hx54) ?_
      show zEF G (d + 10) K YX0_mix 110 [some (.ref y0), some (.int y1), some (.int y2), none] [.ref a53, .int y1, .ref y0] g Q
      obtain ⟨a55, hx56, h⟩ := zbj_some h
      refine gX0_274 dX0_mix_110 rfl (zgN_some hx56) ?_
      show zEF G (d + 10) K YX0_mix 113 [some (.ref y0), some (.int y1), some (.int y2), none] [.ref a55, .int y1, .ref y0] g Q
      refine ez_iload_n (i := 2) (x := y2) dX0_mix_113 rfl rfl ?_
      obtain ⟨e57, hx58, h⟩ := zbj_some h
      refine lX_ia dX0_mix_114 hx58 ?_
      refine ez_aload_n (i := 0) (v := .ref y0) dX0_mix_115 rfl rfl rfl ?_
      obtain ⟨a59, hx60, h⟩ := zbj_some h
      refine gX0_55 dX0_mix_116 rfl (zgN_some hx60) ?_
      show zEF G (d + 10) K YX0_mix 119 [some (.ref y0), some (.int y1), some (.int y2), none] [.ref a59, .int e57, .int y1, .ref y0] g Q
      refine ez_iload_n (i := 1) (x := y1) dX0_mix_119 rfl rfl ?_
      obtain ⟨a61, hx62, h⟩ := zbj_some h
      refine lX_aa9 dX0_mix_120 (zaN_some hx62) ?_
      show zEF G (d + 10) K YX0_mix 121 [some (.ref y0), some (.int y1), some (.int y2), none] [.ref a61, .int e57, .int y1, .ref y0] g Q
      obtain ⟨a63, hx64, h⟩ := zbj_some h
      refine gX0_277 dX0_mix_121 rfl (zgN_some hx64) ?_
      show zEF G (d + 10) K YX0_mix 124 [some (.ref y0), some (.int y1), some (.int y2), none] [.ref a63, .int e57, .int y1, .ref y0] g Q
      refine ez_iload_n (i := 2) (x := y2) dX0_mix_124 rfl rfl ?_
      obtain ⟨e65, hx66, h⟩ := zbj_some h
      refine lX_ia dX0_mix_125 hx66 ?_
      refine ez_iload_n (i := 2) (x := y2) dX0_mix_126 rfl rfl ?_
      refine ez_iconst (v := 1) dX0_mix_127 (by decide) ?_
      refine ez_iadd dX0_mix_128 ?_
      obtain ⟨ob67, hx68, h⟩ := zbj_some h
      obtain ⟨r69, g70, hq71, h⟩ := zbd_some h
      refine ez_callV (C := RX0) (Tt := TX0) (N := 20) (Y' := YX0_note) (a := y0) (vs := [.int y1, .int e57, .int e65, .int (y2 + (1 : Int32))]) (rest := []) dX0_mix_129 rfl zkX0_note q866 q868 rfl slX0_note (zob1 hx68) znX0_note (Nat.le_of_ble_eq_true rfl) (Nat.le_of_ble_eq_true rfl) rfl (wX0_note (d := d + 9) hq71 (zBack_n ?_))
      show zEF G (d + 10) K YX0_mix 132 [some (.ref y0), some (.int y1), some (.int y2), none] [] g70 Q
      refine ez_iinc (x := y2) (v := (y2 + (1 : Int32))) dX0_mix_132 rfl rfl (show 2 < 4 by decide) ?_
      show zEF G (d + 10) K YX0_mix 135 [some (.ref y0), some (.int y1), some (.int (y2 + (1 : Int32))), none] [] g70 Q
      refine ez_goto (tgt := 89) dX0_mix_135 (by decide) ?_
      exact ih g70 y0 y1 (y2 + (1 : Int32)) _ _ h hk138 kq
theorem fX0_mix_L81_ok {G : zG} {d : Nat} {K : List Nat} {Q : zO → zS → Prop} : ∀ (n : Nat) (g : zS) (y0 : Nat) (y1 : Int32) (k144 : zS → Nat → Option (Int32 × zS)) (p : Int32 × zS) (h : fX0_mix_L81 n g y0 y1 k144 = some p) (hk144 : ∀ (g : zS) (x0 : Nat), k144 g x0 = some p → zEF G (d + 10) K YX0_mix 144 [some (.ref x0), none, none, none] [] g Q) (kq : Q (.inl (some (.int p.1))) p.2), zEF G (d + 10) K YX0_mix 81 [some (.ref y0), some (.int y1), none, none] [] g Q := by
  intro n
  induction n with
  | zero =>
    intro g y0 y1 k144 p h hk144 kq
    rw [fX0_mix_L81] at h
    cases h
  | succ n ih =>
    intro g y0 y1 k144 p h hk144 kq
    rw [fX0_mix_L81] at h
    refine ez_iload_n (i := 1) (x := y1) dX0_mix_81 rfl rfl ?_
    refine ez_bipush (v := 8) dX0_mix_82 (by decide) ?_
    refine ez_icmp_ge (tgt := 144) dX0_mix_84 (by decide) (fun hc => ?_) (fun hc => ?_)
    · replace h := zif_t hc h
      refine ez_clr 1 ?_
      exact hk144 g y0 h
    · replace h := zif_f hc h
      refine ez_iconst (v := 0) dX0_mix_87 (by decide) ?_
      refine ez_istore_n (i := 2) dX0_mix_88 rfl (show 2 < 4 by decide) ?_
      show zEF G (d + 10) K YX0_mix 89 [some (.ref y0), some (.int y1), some (.int (0 : Int32)), none] [] g Q
      refine fX0_mix_L89_ok (d := d) (K := K) 1000 g y0 y1 (0 : Int32) _ _ h (fun g72 x73 x74 h => ?_) kq
      refine ez_iinc (x := x74) (v := (x74 + (1 : Int32))) dX0_mix_138 rfl rfl (show 1 < 4 by decide) ?_
      show zEF G (d + 10) K YX0_mix 141 [some (.ref x73), some (.int (x74 + (1 : Int32))), none, none] [] g72 Q
      refine ez_goto (tgt := 81) dX0_mix_141 (by decide) ?_
      exact ih g72 x73 (x74 + (1 : Int32)) _ _ h hk144 kq
theorem fX0_mix_L189_ok {G : zG} {d : Nat} {K : List Nat} {Q : zO → zS → Prop} : ∀ (n : Nat) (g : zS) (y0 : Nat) (y1 : Int32) (k265 : zS → Nat → Option (Int32 × zS)) (p : Int32 × zS) (h : fX0_mix_L189 n g y0 y1 k265 = some p) (hk265 : ∀ (g : zS) (x0 : Nat), k265 g x0 = some p → zEF G (d + 10) K YX0_mix 265 [some (.ref x0), none, none, none] [] g Q) (kq : Q (.inl (some (.int p.1))) p.2), zEF G (d + 10) K YX0_mix 189 [some (.ref y0), some (.int y1), none, none] [] g Q := by
  intro n
  induction n with
  | zero =>
    intro g y0 y1 k265 p h hk265 kq
    rw [fX0_mix_L189] at h
    cases h
  | succ n ih =>
    intro g y0 y1 k265 p h hk265 kq
    rw [fX0_mix_L189] at h
    refine ez_iload_n (i := 1) (x := y1) dX0_mix_189 rfl rfl ?_
    refine ez_aload_n (i := 0) (v := .ref y0) dX0_mix_190 rfl rfl rfl ?_
    obtain ⟨i94, hx95, h⟩ := zbj_some h
    refine gX0_180 dX0_mix_191 rfl hx95 ?_
    refine ez_icmp_ge (tgt := 265) dX0_mix_194 (by decide) (fun hc => ?_) (fun hc => ?_)
    · replace h := zif_t hc h
      refine ez_clr 1 ?_
      exact hk265 g y0 h
    · replace h := zif_f hc h
      refine ez_aload_n (i := 0) (v := .ref y0) dX0_mix_197 rfl rfl rfl ?_
      refine ez_aload_n (i := 0) (v := .ref y0) dX0_mix_198 rfl rfl rfl ?_
      obtain ⟨a96, hx97, h⟩ := zbj_some h
      refine gX0_77 dX0_mix_199 rfl (zgN_some hx97) ?_
      show zEF G (d + 10) K YX0_mix 202 [some (.ref y0), some (.int y1), none, none] [.ref a96, .ref y0] g Q
      refine ez_iconst (v := 5) dX0_mix_202 (by decide) ?_
      refine ez_iload_n (i := 1) (x := y1) dX0_mix_203 rfl rfl ?_
      refine ez_imul dX0_mix_204 ?_
      obtain ⟨e98, hx99, h⟩ := zbj_some h
      refine lX_ia dX0_mix_205 hx99 ?_
      refine ez_aload_n (i := 0) (v := .ref y0) dX0_mix_206 rfl rfl rfl ?_
      obtain ⟨a100, hx101, h⟩ := zbj_some h
      refine gX0_77 dX0_mix_207 rfl (zgN_some hx101) ?_
      show zEF G (d + 10) K YX0_mix 210 [some (.ref y0), some (.int y1), none, none] [.ref a100, .int e98, .ref y0] g Q
      refine ez_iconst (v := 5) dX0_mix_210 (by decide) ?_
      refine ez_iload_n (i := 1) (x := y1) dX0_mix_211 rfl rfl ?_
      refine ez_imul dX0_mix_212 ?_
      refine ez_iconst (v := 1) dX0_mix_213 (by decide) ?_
      refine ez_iadd dX0_mix_214 ?_
      obtain ⟨e102, hx103, h⟩ := zbj_some h
      refine lX_ia dX0_mix_215 hx103 ?_
      refine ez_aload_n (i := 0) (v := .ref y0) dX0_mix_216 rfl rfl rfl ?_
      obtain ⟨a104, hx105, h⟩ := zbj_some h
      refine gX0_77 dX0_mix_217 rfl (zgN_some hx105) ?_
      show zEF G (d + 10) K YX0_mix 220 [some (.ref y0), some (.int y1), none, none] [.ref a104, .int e102, .int e98, .ref y0] g Q
      refine ez_iconst (v := 5) dX0_mix_220 (by decide) ?_
      refine ez_iload_n (i := 1) (x := y1) dX0_mix_221 rfl rfl ?_
      refine ez_imul dX0_mix_222 ?_
      refine ez_iconst (v := 2) dX0_mix_223 (by decide) ?_
      refine ez_iadd dX0_mix_224 ?_
      obtain ⟨e106, hx107, h⟩ := zbj_some h
      refine lX_ia dX0_mix_225 hx107 ?_
      refine ez_aload_n (i := 0) (v := .ref y0) dX0_mix_226 rfl rfl rfl ?_
      obtain ⟨a108, hx109, h⟩ := zbj_some h
      refine gX0_77 dX0_mix_227 rfl (zgN_some hx109) ?_
      show zEF G (d + 10) K YX0_mix 230 [some (.ref y0), some (.int y1), none, none] [.ref a108, .int e106, .int e102, .int e98, .ref y0] g Q
      refine ez_iconst (v := 5) dX0_mix_230 (by decide) ?_
      refine ez_iload_n (i := 1) (x := y1) dX0_mix_231 rfl rfl ?_
      refine ez_imul dX0_mix_232 ?_
      refine ez_iconst (v := 3) dX0_mix_233 (by decide) ?_
      refine ez_iadd dX0_mix_234 ?_
      obtain ⟨e110, hx111, h⟩ := zbj_some h
      refine lX_ia dX0_mix_235 hx111 ?_
      refine ez_aload_n (i := 0) (v := .ref y0) dX0_mix_236 rfl rfl rfl ?_
      obtain ⟨a112, hx113, h⟩ := zbj_some h
      refine gX0_77 dX0_mix_237 rfl (zgN_some hx113) ?_
      show zEF G (d + 10) K YX0_mix 240 [some (.ref y0), some (.int y1), none, none] [.ref a112, .int e110, .int e106, .int e102, .int e98, .ref y0] g Q
      refine ez_iconst (v := 5) dX0_mix_240 (by decide) ?_
      refine ez_iload_n (i := 1) (x := y1) dX0_mix_241 rfl rfl ?_
      refine ez_imul dX0_mix_242 ?_
      refine ez_iconst (v := 4) dX0_mix_243 (by decide) ?_
      refine ez_iadd dX0_mix_244 ?_
      obtain ⟨e114, hx115, h⟩ := zbj_some h
      refine lX_ia dX0_mix_245 hx115 ?_
      refine ez_iconst (v := 1) dX0_mix_246 (by decide) ?_
      refine zjoin_use (fun (j : zS → Nat → Int32 → Int32 → Int32 → Int32 → Int32 → Int32 → Nat → Option (Int32 × zS)) => ∀ (g116 : zS) (v117 : Nat) (v118 : Int32) (v119 : Int32) (v120 : Int32) (v121 : Int32) (v122 : Int32) (v123 : Int32) (v124 : Nat), j g116 v117 v118 v119 v120 v121 v122 v123 v124 = some p → zEF G (d + 10) K YX0_mix 255 [some (.ref v117), some (.int v118), none, none] [.int v119, .int v120, .int v121, .int v122, .int v123, .ref v124] g116 Q) h (fun g116 v117 v118 v119 v120 v121 v122 v123 v124 h => ?_) (fun j130 hj130 h => ?_)
      · obtain ⟨ob125, hx126, h⟩ := zbj_some h
        obtain ⟨r127, g128, hq129, h⟩ := zbd_some h
        refine ez_callV (C := RX0) (Tt := TX0) (N := 20) (Y' := YX0_does) (a := v124) (vs := [.int v123, .int v122, .int v121, .int v120, .int v119]) (rest := []) dX0_mix_255 rfl zkX0_does q652 q654 rfl slX0_does (zob1 hx126) znX0_does (Nat.le_of_ble_eq_true rfl) (Nat.le_of_ble_eq_true rfl) rfl (wX0_does (d := d + 0) hq129 (zBack_v ?_))
        show zEF G (d + 10) K YX0_mix 258 [some (.ref v117), some (.int v118), none, none] [.int r127] g128 Q
        refine ez_istore_n (i := 2) dX0_mix_258 rfl (show 2 < 4 by decide) ?_
        show zEF G (d + 10) K YX0_mix 259 [some (.ref v117), some (.int v118), some (.int r127), none] [] g128 Q
        refine ez_iinc (x := v118) (v := (v118 + (1 : Int32))) dX0_mix_259 rfl rfl (show 1 < 4 by decide) ?_
        show zEF G (d + 10) K YX0_mix 262 [some (.ref v117), some (.int (v118 + (1 : Int32))), some (.int r127), none] [] g128 Q
        refine ez_goto (tgt := 189) dX0_mix_262 (by decide) ?_
        refine ez_clr 2 ?_
        exact ih g128 v117 (v118 + (1 : Int32)) _ _ h hk265 kq
      · refine ez_icmp_ne (tgt := 254) dX0_mix_247 (by decide) (fun hc => ?_) (fun hc => ?_)
        · replace h := zif_f hc h
          refine ez_iconst (v := 0) dX0_mix_254 (by decide) ?_
          exact hj130 g y0 y1 (0 : Int32) e110 e106 e102 e98 y0 h
        · replace h := zif_t hc h
          refine ez_iconst (v := 1) dX0_mix_250 (by decide) ?_
          refine ez_goto (tgt := 255) dX0_mix_251 (by decide) ?_
          exact hj130 g y0 y1 (1 : Int32) e110 e106 e102 e98 y0 h
theorem wX0_mix {G : zG} {d : Nat} {K : List Nat} {Q : zO → zS → Prop} {g : zS} {a0 : Nat} {p : Int32 × zS} (h : fX0_mix g a0 = some p) (kq : Q (.inl (some (.int p.1))) p.2) : zEM G (d + 10) K YX0_mix [.ref a0] g Q := by
  show zEF G (d + 10) K YX0_mix 0 [some (.ref a0), none, none, none] [] g Q
  unfold fX0_mix at h
  refine ez_aload_n (i := 0) (v := .ref a0) dX0_mix_0 rfl rfl rfl ?_
  refine ez_dup dX0_mix_1 rfl ?_
  obtain ⟨i1, hx2, h⟩ := zbj_some h
  refine gX0_264 dX0_mix_2 rfl hx2 ?_
  refine ez_iconst (v := 1) dX0_mix_5 (by decide) ?_
  refine ez_iadd dX0_mix_6 ?_
  obtain ⟨g3, hx4, h⟩ := zbj_some h
  refine pX0_264 (x := (i1 + (1 : Int32))) dX0_mix_7 rfl hx4 ?_
  refine ez_iconst (v := 0) dX0_mix_10 (by decide) ?_
  refine ez_istore_n (i := 1) dX0_mix_11 rfl (show 1 < 4 by decide) ?_
  show zEF G (d + 10) K YX0_mix 12 [some (.ref a0), some (.int (0 : Int32)), none, none] [] g3 Q
  refine fX0_mix_L12_ok (d := d) (K := K) 1000 g3 a0 (0 : Int32) _ _ h (fun g43 x44 h => ?_) kq
  refine ez_iconst (v := 0) dX0_mix_79 (by decide) ?_
  refine ez_istore_n (i := 1) dX0_mix_80 rfl (show 1 < 4 by decide) ?_
  show zEF G (d + 10) K YX0_mix 81 [some (.ref x44), some (.int (0 : Int32)), none, none] [] g43 Q
  refine fX0_mix_L81_ok (d := d) (K := K) 1000 g43 x44 (0 : Int32) _ _ h (fun g75 x76 h => ?_) kq
  refine ez_aload_n (i := 0) (v := .ref x76) dX0_mix_144 rfl rfl rfl ?_
  refine ez_dup dX0_mix_145 rfl ?_
  obtain ⟨i77, hx78, h⟩ := zbj_some h
  refine gX0_220 dX0_mix_146 rfl hx78 ?_
  refine ez_iconst (v := 1) dX0_mix_149 (by decide) ?_
  refine ez_iadd dX0_mix_150 ?_
  obtain ⟨g79, hx80, h⟩ := zbj_some h
  refine pX0_220 (x := (i77 + (1 : Int32))) dX0_mix_151 rfl hx80 ?_
  refine ez_aload_n (i := 0) (v := .ref x76) dX0_mix_154 rfl rfl rfl ?_
  refine ez_dup dX0_mix_155 rfl ?_
  obtain ⟨i81, hx82, h⟩ := zbj_some h
  refine gX0_226 dX0_mix_156 rfl hx82 ?_
  refine ez_iconst (v := 1) dX0_mix_159 (by decide) ?_
  refine ez_isub dX0_mix_160 ?_
  obtain ⟨g83, hx84, h⟩ := zbj_some h
  refine pX0_226 (x := (i81 - (1 : Int32))) dX0_mix_161 rfl hx84 ?_
  refine ez_aload_n (i := 0) (v := .ref x76) dX0_mix_164 rfl rfl rfl ?_
  refine ez_aload_n (i := 0) (v := .ref x76) dX0_mix_165 rfl rfl rfl ?_
  obtain ⟨i85, hx86, h⟩ := zbj_some h
  refine gX0_226 dX0_mix_166 rfl hx86 ?_
  refine zjoin_use (fun (j : zS → Nat → Int32 → Nat → Option (Int32 × zS)) => ∀ (g87 : zS) (v88 : Nat) (v89 : Int32) (v90 : Nat), j g87 v88 v89 v90 = some p → zEF G (d + 10) K YX0_mix 184 [some (.ref v88), none, none, none] [.int v89, .ref v90] g87 Q) h (fun g87 v88 v89 v90 h => ?_) (fun j149 hj149 h => ?_)
  · obtain ⟨hg91, h⟩ := zgd_some h
    obtain ⟨g92, hx93, h⟩ := zbj_some h
    refine pX0_111 (x := v89) dX0_mix_184 rfl hg91 hx93 ?_
    refine ez_iconst (v := 0) dX0_mix_187 (by decide) ?_
    refine ez_istore_n (i := 1) dX0_mix_188 rfl (show 1 < 4 by decide) ?_
    show zEF G (d + 10) K YX0_mix 189 [some (.ref v88), some (.int (0 : Int32)), none, none] [] g92 Q
    refine fX0_mix_L189_ok (d := d) (K := K) 1000 g92 v88 (0 : Int32) _ _ h (fun g131 x132 h => ?_) kq
    refine ez_aload_n (i := 0) (v := .ref x132) dX0_mix_265 rfl rfl rfl ?_
    refine ez_iconst (v := 0) dX0_mix_266 (by decide) ?_
    obtain ⟨g133, hx134, h⟩ := zbj_some h
    refine pX0_180 (x := (0 : Int32)) dX0_mix_267 rfl hx134 ?_
    refine ez_aload_n (i := 0) (v := .ref x132) dX0_mix_270 rfl rfl rfl ?_
    obtain ⟨i135, hx136, h⟩ := zbj_some h
    refine gX0_111 dX0_mix_271 rfl hx136 ?_
    refine zjoin_use (fun (j : zS → Nat → Option (Int32 × zS)) => ∀ (g137 : zS) (v138 : Nat), j g137 v138 = some p → zEF G (d + 10) K YX0_mix 289 [some (.ref v138), none, none, none] [] g137 Q) h (fun g137 v138 h => ?_) (fun j141 hj141 h => ?_)
    · refine ez_aload_n (i := 0) (v := .ref v138) dX0_mix_289 rfl rfl rfl ?_
      obtain ⟨i139, hx140, h⟩ := zbj_some h
      refine gX0_111 dX0_mix_290 rfl hx140 ?_
      refine ez_if_eq (tgt := 300) dX0_mix_293 (by decide) (fun hc => ?_) (fun hc => ?_)
      · replace h := zif_t hc h
        refine ez_iconst (v := 4) dX0_mix_300 (by decide) ?_
        obtain rfl := Option.some.inj h
        exact ez_iret dX0_mix_301 rfl rfl kq
      · replace h := zif_f hc h
        refine ez_iconst (v := 3) dX0_mix_296 (by decide) ?_
        refine ez_goto (tgt := 301) dX0_mix_297 (by decide) ?_
        obtain rfl := Option.some.inj h
        exact ez_iret dX0_mix_301 rfl rfl kq
    · refine ez_if_eq (tgt := 284) dX0_mix_274 (by decide) (fun hc => ?_) (fun hc => ?_)
      · replace h := zif_t hc h
        refine ez_aload_n (i := 0) (v := .ref x132) dX0_mix_284 rfl rfl rfl ?_
        refine ez_iconst (v := 0) dX0_mix_285 (by decide) ?_
        obtain ⟨g142, hx143, h⟩ := zbj_some h
        refine pX0_226 (x := (0 : Int32)) dX0_mix_286 rfl hx143 ?_
        exact hj141 g142 x132 h
      · replace h := zif_f hc h
        refine ez_aload_n (i := 0) (v := .ref x132) dX0_mix_277 rfl rfl rfl ?_
        obtain ⟨ob144, hx145, h⟩ := zbj_some h
        obtain ⟨r146, g147, hq148, h⟩ := zbd_some h
        refine ez_callV (C := RX0) (Tt := TX0) (N := 20) (Y' := YX0_open) (a := x132) (vs := []) (rest := []) dX0_mix_278 rfl zkX0_open q703 q705 rfl slX0_open (zob1 hx145) znX0_open (Nat.le_of_ble_eq_true rfl) (Nat.le_of_ble_eq_true rfl) rfl (wX0_open (d := d + 9) hq148 (zBack_n ?_))
        show zEF G (d + 10) K YX0_mix 281 [some (.ref x132), none, none, none] [] g147 Q
        refine ez_goto (tgt := 289) dX0_mix_281 (by decide) ?_
        exact hj141 g147 x132 h
  · refine zjoin_use (fun (j : zS → Nat → Nat → Option (Int32 × zS)) => ∀ (g150 : zS) (v151 : Nat) (v152 : Nat), j g150 v151 v152 = some p → zEF G (d + 10) K YX0_mix 183 [some (.ref v151), none, none, none] [.ref v152] g150 Q) h (fun g150 v151 v152 h => ?_) (fun j153 hj153 h => ?_)
    · refine ez_iconst (v := 0) dX0_mix_183 (by decide) ?_
      exact hj149 g150 v151 (0 : Int32) v152 h
    · refine ez_if_le (tgt := 183) dX0_mix_169 (by decide) (fun hc => ?_) (fun hc => ?_)
      · replace h := zif_t hc h
        exact hj153 g83 x76 x76 h
      · replace h := zif_f hc h
        refine ez_aload_n (i := 0) (v := .ref x76) dX0_mix_172 rfl rfl rfl ?_
        obtain ⟨i154, hx155, h⟩ := zbj_some h
        refine gX0_223 dX0_mix_173 rfl hx155 ?_
        refine ez_if_ne (tgt := 183) dX0_mix_176 (by decide) (fun hc => ?_) (fun hc => ?_)
        · replace h := zif_f hc h
          exact hj153 g83 x76 x76 h
        · replace h := zif_t hc h
          refine ez_iconst (v := 1) dX0_mix_179 (by decide) ?_
          refine ez_goto (tgt := 184) dX0_mix_180 (by decide) ?_
          exact hj149 g83 x76 (1 : Int32) x76 h
def YX0_step : zM := (yX0_step, cX0_step, 3, (Option.some Jvm.ClassFile.FieldType.int), [], false)
theorem zkX0_step : zMok YX0_step := ⟨rfl, q718, by decide +kernel, by decide +kernel⟩
theorem znX0_step : (parseMethodDescriptor YX0_step.nm.desc).map (fun d => d.parameters.length) = some 1 := by decide +kernel
theorem slX0_step : Cond.selects RX0 yX0_step yX0_step ∈ lw_all := lw_w 12 rfl rfl
noncomputable def fX0_step (g : zS) (a0 : Nat) (b0 : Int32) : Option (Int32 × zS) := zbj (zgN g [0] a0 5) (fun a1 => zbj (zaI g 0 a1 b0) (fun e3 => if e3 = (-1 : Int32) then zbj (zob g [0] a0) (fun ob5 => zbd (fX0_least g a0 (1 : Int32)) (fun r7 g8 => if (8 : Int32) ≤ r7 then zbj (zob g8 [0] a0) (fun ob10 => zbd (fX0_least g8 a0 (2 : Int32)) (fun r12 g13 => if (8 : Int32) ≤ r12 then zbj (zob g13 [0] a0) (fun ob15 => zbd (fX0_least g13 a0 (4 : Int32)) (fun r17 g18 => if (8 : Int32) ≤ r17 then zbj (zob g18 [0] a0) (fun ob20 => zbd (fX0_mix g18 a0) (fun r22 g23 => some (r22, g23))) else zbj (zob g18 [0] a0) (fun ob25 => zbd (fX0_work g18 a0 b0 r17) (fun r27 g28 => some (r27, g28))))) else zbj (zob g13 [0] a0) (fun ob30 => zbd (fX0_waited g13 a0) (fun r32 g33 => some (r32, g33))))) else zbj (zob g8 [0] a0) (fun ob35 => zbd (fX0_work g8 a0 b0 r7) (fun r37 g38 => some (r37, g38))))) else zbj (zgN g [0] a0 5) (fun a40 => zbj (zaI g 0 a40 b0) (fun e42 => zbj (zob g [0] a0) (fun ob44 => zbd (fX0_mayGo g a0 e42) (fun r46 g47 => if r46 = 0 then zbj (zob g47 [0] a0) (fun ob49 => zbd (fX0_waited g47 a0) (fun r51 g52 => some (r51, g52))) else zbj (zgN g47 [0] a0 5) (fun a54 => zbj (zaI g47 0 a54 b0) (fun e56 => zbj (zob g47 [0] a0) (fun ob58 => zbd (fX0_work g47 a0 b0 e56) (fun r60 g61 => some (r60, g61)))))))))))
theorem wX0_step {G : zG} {d : Nat} {Q : zO → zS → Prop} {g : zS} {a0 : Nat} {b0 : Int32} {p : Int32 × zS} (h : fX0_step g a0 b0 = some p) (kq : Q (.inl (some (.int p.1))) p.2) : zEM G (d + 13) [] YX0_step [.ref a0, .int b0] g Q := by
  show zEF G (d + 13) [] YX0_step 0 [some (.ref a0), some (.int b0), none] [] g Q
  unfold fX0_step at h
  refine ez_aload_n (i := 0) (v := .ref a0) dX0_step_0 rfl rfl rfl ?_
  obtain ⟨a1, hx2, h⟩ := zbj_some h
  refine gX0_59 dX0_step_1 rfl (zgN_some hx2) ?_
  show zEF G (d + 13) [] YX0_step 4 [some (.ref a0), some (.int b0), none] [.ref a1] g Q
  refine ez_iload_n (i := 1) (x := b0) dX0_step_4 rfl rfl ?_
  obtain ⟨e3, hx4, h⟩ := zbj_some h
  refine lX_ia dX0_step_5 hx4 ?_
  refine ez_iconst (v := -1) dX0_step_6 (by decide) ?_
  refine ez_icmp_eq (tgt := 42) dX0_step_7 (by decide) (fun hc => ?_) (fun hc => ?_)
  · replace h := zif_t hc h
    refine ez_aload_n (i := 0) (v := .ref a0) dX0_step_42 rfl rfl rfl ?_
    refine ez_iconst (v := 1) dX0_step_43 (by decide) ?_
    obtain ⟨ob5, hx6, h⟩ := zbj_some h
    obtain ⟨r7, g8, hq9, h⟩ := zbd_some h
    refine ez_callV (C := RX0) (Tt := TX0) (N := 20) (Y' := YX0_least) (a := a0) (vs := [.int (1 : Int32)]) (rest := []) dX0_step_44 rfl zkX0_least q849 q851 rfl slX0_least (zob1 hx6) znX0_least (Nat.le_of_ble_eq_true rfl) (Nat.le_of_ble_eq_true rfl) rfl (wX0_least (d := d + 12) hq9 (zBack_v ?_))
    show zEF G (d + 13) [] YX0_step 47 [some (.ref a0), some (.int b0), none] [.int r7] g8 Q
    refine ez_istore_n (i := 2) dX0_step_47 rfl (show 2 < 3 by decide) ?_
    show zEF G (d + 13) [] YX0_step 48 [some (.ref a0), some (.int b0), some (.int r7)] [] g8 Q
    refine ez_iload_n (i := 2) (x := r7) dX0_step_48 rfl rfl ?_
    refine ez_bipush (v := 8) dX0_step_49 (by decide) ?_
    refine ez_icmp_ge (tgt := 61) dX0_step_51 (by decide) (fun hc => ?_) (fun hc => ?_)
    · replace h := zif_t hc h
      refine ez_aload_n (i := 0) (v := .ref a0) dX0_step_61 rfl rfl rfl ?_
      refine ez_iconst (v := 2) dX0_step_62 (by decide) ?_
      obtain ⟨ob10, hx11, h⟩ := zbj_some h
      obtain ⟨r12, g13, hq14, h⟩ := zbd_some h
      refine ez_callV (C := RX0) (Tt := TX0) (N := 20) (Y' := YX0_least) (a := a0) (vs := [.int (2 : Int32)]) (rest := []) dX0_step_63 rfl zkX0_least q849 q851 rfl slX0_least (zob1 hx11) znX0_least (Nat.le_of_ble_eq_true rfl) (Nat.le_of_ble_eq_true rfl) rfl (wX0_least (d := d + 12) hq14 (zBack_v ?_))
      show zEF G (d + 13) [] YX0_step 66 [some (.ref a0), some (.int b0), some (.int r7)] [.int r12] g13 Q
      refine ez_bipush (v := 8) dX0_step_66 (by decide) ?_
      refine ez_icmp_ge (tgt := 76) dX0_step_68 (by decide) (fun hc => ?_) (fun hc => ?_)
      · replace h := zif_t hc h
        refine ez_aload_n (i := 0) (v := .ref a0) dX0_step_76 rfl rfl rfl ?_
        refine ez_iconst (v := 4) dX0_step_77 (by decide) ?_
        obtain ⟨ob15, hx16, h⟩ := zbj_some h
        obtain ⟨r17, g18, hq19, h⟩ := zbd_some h
        refine ez_callV (C := RX0) (Tt := TX0) (N := 20) (Y' := YX0_least) (a := a0) (vs := [.int (4 : Int32)]) (rest := []) dX0_step_78 rfl zkX0_least q849 q851 rfl slX0_least (zob1 hx16) znX0_least (Nat.le_of_ble_eq_true rfl) (Nat.le_of_ble_eq_true rfl) rfl (wX0_least (d := d + 12) hq19 (zBack_v ?_))
        show zEF G (d + 13) [] YX0_step 81 [some (.ref a0), some (.int b0), some (.int r7)] [.int r17] g18 Q
        refine ez_istore_n (i := 2) dX0_step_81 rfl (show 2 < 3 by decide) ?_
        show zEF G (d + 13) [] YX0_step 82 [some (.ref a0), some (.int b0), some (.int r17)] [] g18 Q
        refine ez_iload_n (i := 2) (x := r17) dX0_step_82 rfl rfl ?_
        refine ez_bipush (v := 8) dX0_step_83 (by decide) ?_
        refine ez_icmp_ge (tgt := 97) dX0_step_85 (by decide) (fun hc => ?_) (fun hc => ?_)
        · replace h := zif_t hc h
          refine ez_aload_n (i := 0) (v := .ref a0) dX0_step_97 rfl rfl rfl ?_
          obtain ⟨ob20, hx21, h⟩ := zbj_some h
          obtain ⟨r22, g23, hq24, h⟩ := zbd_some h
          refine ez_callV (C := RX0) (Tt := TX0) (N := 20) (Y' := YX0_mix) (a := a0) (vs := []) (rest := []) dX0_step_98 rfl zkX0_mix q853 q855 rfl slX0_mix (zob1 hx21) znX0_mix (Nat.le_of_ble_eq_true rfl) (Nat.le_of_ble_eq_true rfl) rfl (wX0_mix (d := d + 2) hq24 (zBack_v ?_))
          show zEF G (d + 13) [] YX0_step 101 [some (.ref a0), some (.int b0), some (.int r17)] [.int r22] g23 Q
          obtain rfl := Option.some.inj h
          exact ez_iret dX0_step_101 rfl rfl kq
        · replace h := zif_f hc h
          refine ez_aload_n (i := 0) (v := .ref a0) dX0_step_88 rfl rfl rfl ?_
          refine ez_iload_n (i := 1) (x := b0) dX0_step_89 rfl rfl ?_
          refine ez_iload_n (i := 2) (x := r17) dX0_step_90 rfl rfl ?_
          obtain ⟨ob25, hx26, h⟩ := zbj_some h
          obtain ⟨r27, g28, hq29, h⟩ := zbd_some h
          refine ez_callV (C := RX0) (Tt := TX0) (N := 20) (Y' := YX0_work) (a := a0) (vs := [.int b0, .int r17]) (rest := []) dX0_step_91 rfl zkX0_work q730 q732 rfl slX0_work (zob1 hx26) znX0_work (Nat.le_of_ble_eq_true rfl) (Nat.le_of_ble_eq_true rfl) rfl (wX0_work (d := d + 0) hq29 (zBack_v ?_))
          show zEF G (d + 13) [] YX0_step 94 [some (.ref a0), some (.int b0), some (.int r17)] [.int r27] g28 Q
          refine ez_goto (tgt := 101) dX0_step_94 (by decide) ?_
          obtain rfl := Option.some.inj h
          exact ez_iret dX0_step_101 rfl rfl kq
      · replace h := zif_f hc h
        refine ez_aload_n (i := 0) (v := .ref a0) dX0_step_71 rfl rfl rfl ?_
        obtain ⟨ob30, hx31, h⟩ := zbj_some h
        obtain ⟨r32, g33, hq34, h⟩ := zbd_some h
        refine ez_callV (C := RX0) (Tt := TX0) (N := 20) (Y' := YX0_waited) (a := a0) (vs := []) (rest := []) dX0_step_72 rfl zkX0_waited q845 q847 rfl slX0_waited (zob1 hx31) znX0_waited (Nat.le_of_ble_eq_true rfl) (Nat.le_of_ble_eq_true rfl) rfl (wX0_waited (d := d + 12) hq34 (zBack_v ?_))
        show zEF G (d + 13) [] YX0_step 75 [some (.ref a0), some (.int b0), some (.int r7)] [.int r32] g33 Q
        obtain rfl := Option.some.inj h
        exact ez_iret dX0_step_75 rfl rfl kq
    · replace h := zif_f hc h
      refine ez_aload_n (i := 0) (v := .ref a0) dX0_step_54 rfl rfl rfl ?_
      refine ez_iload_n (i := 1) (x := b0) dX0_step_55 rfl rfl ?_
      refine ez_iload_n (i := 2) (x := r7) dX0_step_56 rfl rfl ?_
      obtain ⟨ob35, hx36, h⟩ := zbj_some h
      obtain ⟨r37, g38, hq39, h⟩ := zbd_some h
      refine ez_callV (C := RX0) (Tt := TX0) (N := 20) (Y' := YX0_work) (a := a0) (vs := [.int b0, .int r7]) (rest := []) dX0_step_57 rfl zkX0_work q730 q732 rfl slX0_work (zob1 hx36) znX0_work (Nat.le_of_ble_eq_true rfl) (Nat.le_of_ble_eq_true rfl) rfl (wX0_work (d := d + 0) hq39 (zBack_v ?_))
      show zEF G (d + 13) [] YX0_step 60 [some (.ref a0), some (.int b0), some (.int r7)] [.int r37] g38 Q
      obtain rfl := Option.some.inj h
      exact ez_iret dX0_step_60 rfl rfl kq
  · replace h := zif_f hc h
    refine ez_aload_n (i := 0) (v := .ref a0) dX0_step_10 rfl rfl rfl ?_
    refine ez_aload_n (i := 0) (v := .ref a0) dX0_step_11 rfl rfl rfl ?_
    obtain ⟨a40, hx41, h⟩ := zbj_some h
    refine gX0_59 dX0_step_12 rfl (zgN_some hx41) ?_
    show zEF G (d + 13) [] YX0_step 15 [some (.ref a0), some (.int b0), none] [.ref a40, .ref a0] g Q
    refine ez_iload_n (i := 1) (x := b0) dX0_step_15 rfl rfl ?_
    obtain ⟨e42, hx43, h⟩ := zbj_some h
    refine lX_ia dX0_step_16 hx43 ?_
    obtain ⟨ob44, hx45, h⟩ := zbj_some h
    obtain ⟨r46, g47, hq48, h⟩ := zbd_some h
    refine ez_callV (C := RX0) (Tt := TX0) (N := 20) (Y' := YX0_mayGo) (a := a0) (vs := [.int e42]) (rest := []) dX0_step_17 rfl zkX0_mayGo q719 q721 rfl slX0_mayGo (zob1 hx45) znX0_mayGo (Nat.le_of_ble_eq_true rfl) (Nat.le_of_ble_eq_true rfl) rfl (wX0_mayGo (d := d + 10) hq48 (zBack_v ?_))
    show zEF G (d + 13) [] YX0_step 20 [some (.ref a0), some (.int b0), none] [.int r46] g47 Q
    refine ez_if_eq (tgt := 37) dX0_step_20 (by decide) (fun hc => ?_) (fun hc => ?_)
    · replace h := zif_t hc h
      refine ez_aload_n (i := 0) (v := .ref a0) dX0_step_37 rfl rfl rfl ?_
      obtain ⟨ob49, hx50, h⟩ := zbj_some h
      obtain ⟨r51, g52, hq53, h⟩ := zbd_some h
      refine ez_callV (C := RX0) (Tt := TX0) (N := 20) (Y' := YX0_waited) (a := a0) (vs := []) (rest := []) dX0_step_38 rfl zkX0_waited q845 q847 rfl slX0_waited (zob1 hx50) znX0_waited (Nat.le_of_ble_eq_true rfl) (Nat.le_of_ble_eq_true rfl) rfl (wX0_waited (d := d + 12) hq53 (zBack_v ?_))
      show zEF G (d + 13) [] YX0_step 41 [some (.ref a0), some (.int b0), none] [.int r51] g52 Q
      obtain rfl := Option.some.inj h
      exact ez_iret dX0_step_41 rfl rfl kq
    · replace h := zif_f hc h
      refine ez_aload_n (i := 0) (v := .ref a0) dX0_step_23 rfl rfl rfl ?_
      refine ez_iload_n (i := 1) (x := b0) dX0_step_24 rfl rfl ?_
      refine ez_aload_n (i := 0) (v := .ref a0) dX0_step_25 rfl rfl rfl ?_
      obtain ⟨a54, hx55, h⟩ := zbj_some h
      refine gX0_59 dX0_step_26 rfl (zgN_some hx55) ?_
      show zEF G (d + 13) [] YX0_step 29 [some (.ref a0), some (.int b0), none] [.ref a54, .int b0, .ref a0] g47 Q
      refine ez_iload_n (i := 1) (x := b0) dX0_step_29 rfl rfl ?_
      obtain ⟨e56, hx57, h⟩ := zbj_some h
      refine lX_ia dX0_step_30 hx57 ?_
      obtain ⟨ob58, hx59, h⟩ := zbj_some h
      obtain ⟨r60, g61, hq62, h⟩ := zbd_some h
      refine ez_callV (C := RX0) (Tt := TX0) (N := 20) (Y' := YX0_work) (a := a0) (vs := [.int b0, .int e56]) (rest := []) dX0_step_31 rfl zkX0_work q730 q732 rfl slX0_work (zob1 hx59) znX0_work (Nat.le_of_ble_eq_true rfl) (Nat.le_of_ble_eq_true rfl) rfl (wX0_work (d := d + 0) hq62 (zBack_v ?_))
      show zEF G (d + 13) [] YX0_step 34 [some (.ref a0), some (.int b0), none] [.int r60] g61 Q
      refine ez_goto (tgt := 41) dX0_step_34 (by decide) ?_
      obtain rfl := Option.some.inj h
      exact ez_iret dX0_step_41 rfl rfl kq
def YX0_turn : zM := (yX0_turn, cX0_turn, 2, (Option.some Jvm.ClassFile.FieldType.int), [], false)
theorem zkX0_turn : zMok YX0_turn := ⟨rfl, q710, by decide +kernel, by decide +kernel⟩
theorem znX0_turn : (parseMethodDescriptor YX0_turn.nm.desc).map (fun d => d.parameters.length) = some 1 := by decide +kernel
noncomputable def fX0_turn (g : zS) (a0 : Nat) (b0 : Int32) : Option (Int32 × zS) := zbj (zob g [0] a0) (fun ob1 => zbd (fX0_isWorker g a0 b0) (fun r3 g4 => if r3 = 0 then some ((-101 : Int32), g4) else zbj (zgI g4 [0] a0 7) (fun i6 => if i6 = 0 then some ((-103 : Int32), g4) else zbj (zob g4 [0] a0) (fun ob8 => zbd (fX0_step g4 a0 b0) (fun r10 g11 => some (r10, g11))))))
theorem wX0_turn {G : zG} {d : Nat} {Q : zO → zS → Prop} {g : zS} {a0 : Nat} {b0 : Int32} {p : Int32 × zS} (h : fX0_turn g a0 b0 = some p) (kq : Q (.inl (some (.int p.1))) p.2) : zEM G (d + 14) [] YX0_turn [.ref a0, .int b0] g Q := by
  show zEF G (d + 14) [] YX0_turn 0 [some (.ref a0), some (.int b0)] [] g Q
  unfold fX0_turn at h
  refine ez_aload_n (i := 0) (v := .ref a0) dX0_turn_0 rfl rfl rfl ?_
  refine ez_iload_n (i := 1) (x := b0) dX0_turn_1 rfl rfl ?_
  obtain ⟨ob1, hx2, h⟩ := zbj_some h
  obtain ⟨r3, g4, hq5, h⟩ := zbd_some h
  refine ez_callV (C := RX0) (Tt := TX0) (N := 20) (Y' := YX0_isWorker) (a := a0) (vs := [.int b0]) (rest := []) dX0_turn_2 rfl zkX0_isWorker q711 q713 rfl slX0_isWorker (zob1 hx2) znX0_isWorker (Nat.le_of_ble_eq_true rfl) (Nat.le_of_ble_eq_true rfl) rfl (wX0_isWorker (d := d + 12) hq5 (zBack_v ?_))
  show zEF G (d + 14) [] YX0_turn 5 [some (.ref a0), some (.int b0)] [.int r3] g4 Q
  refine ez_if_ne (tgt := 11) dX0_turn_5 (by decide) (fun hc => ?_) (fun hc => ?_)
  · replace h := zif_f hc h
    refine ez_aload_n (i := 0) (v := .ref a0) dX0_turn_11 rfl rfl rfl ?_
    obtain ⟨i6, hx7, h⟩ := zbj_some h
    refine gX0_111 dX0_turn_12 rfl hx7 ?_
    refine ez_if_eq (tgt := 26) dX0_turn_15 (by decide) (fun hc => ?_) (fun hc => ?_)
    · replace h := zif_t hc h
      refine ez_bipush (v := -103) dX0_turn_26 (by decide) ?_
      obtain rfl := Option.some.inj h
      exact ez_iret dX0_turn_28 rfl rfl kq
    · replace h := zif_f hc h
      refine ez_aload_n (i := 0) (v := .ref a0) dX0_turn_18 rfl rfl rfl ?_
      refine ez_iload_n (i := 1) (x := b0) dX0_turn_19 rfl rfl ?_
      obtain ⟨ob8, hx9, h⟩ := zbj_some h
      obtain ⟨r10, g11, hq12, h⟩ := zbd_some h
      refine ez_callV (C := RX0) (Tt := TX0) (N := 20) (Y' := YX0_step) (a := a0) (vs := [.int b0]) (rest := []) dX0_turn_20 rfl zkX0_step q715 q717 rfl slX0_step (zob1 hx9) znX0_step (Nat.le_of_ble_eq_true rfl) (Nat.le_of_ble_eq_true rfl) rfl (wX0_step (d := d + 0) hq12 (zBack_v ?_))
      show zEF G (d + 14) [] YX0_turn 23 [some (.ref a0), some (.int b0)] [.int r10] g11 Q
      refine ez_goto (tgt := 28) dX0_turn_23 (by decide) ?_
      obtain rfl := Option.some.inj h
      exact ez_iret dX0_turn_28 rfl rfl kq
  · replace h := zif_t hc h
    refine ez_bipush (v := -101) dX0_turn_8 (by decide) ?_
    obtain rfl := Option.some.inj h
    exact ez_iret dX0_turn_10 rfl rfl kq
def YX0_rounds : zM := (yX0_rounds, cX0_rounds, 5, (Option.some Jvm.ClassFile.FieldType.int), [], false)
theorem zkX0_rounds : zMok YX0_rounds := ⟨rfl, q873, by decide +kernel, by decide +kernel⟩
theorem znX0_rounds : (parseMethodDescriptor YX0_rounds.nm.desc).map (fun d => d.parameters.length) = some 2 := by decide +kernel
noncomputable def fX0_rounds_L37 : Nat → zS → Nat → Int32 → Int32 → Int32 → Option (Int32 × zS)
  | 0, _, _, _, _, _ => none
  | n + 1, g, y0, y1, y2, y3 => if y2 ≤ y3 then some (y3, g) else zbj (zgI g [0] y0 7) (fun i11 => if i11 = 0 then some (y3, g) else zbj (zgI g [0] y0 6) (fun i13 => zgd (¬ i13 = 0) (zbj (zob g [0] y0) (fun ob16 => zbd (fX0_step g y0 ((y1 + y3) - (y1 + y3) / i13 * i13)) (fun r18 g19 => fX0_rounds_L37 n g19 y0 y1 y2 (y3 + (1 : Int32)))))))
noncomputable def fX0_rounds (g : zS) (a0 : Nat) (b0 : Int32) (b1 : Int32) : Option (Int32 × zS) := zbj (zob g [0] a0) (fun ob1 => zbd (fX0_isWorker g a0 b0) (fun r3 g4 => if r3 = 0 then some ((-101 : Int32), g4) else zbj (fX0_isIn b1 (0 : Int32) (200 : Int32)) (fun r6 => if r6 = 0 then some ((-102 : Int32), g4) else zbj (zgI g4 [0] a0 7) (fun i9 => if i9 = 0 then some ((-103 : Int32), g4) else fX0_rounds_L37 1000 g4 a0 b0 b1 (0 : Int32) ))))
theorem fX0_rounds_L37_ok {G : zG} {d : Nat} {Q : zO → zS → Prop} : ∀ (n : Nat) (g : zS) (y0 : Nat) (y1 : Int32) (y2 : Int32) (y3 : Int32) (p : Int32 × zS) (h : fX0_rounds_L37 n g y0 y1 y2 y3 = some p) (kq : Q (.inl (some (.int p.1))) p.2), zEF G (d + 14) [] YX0_rounds 37 [some (.ref y0), some (.int y1), some (.int y2), some (.int y3), none] [] g Q := by
  intro n
  induction n with
  | zero =>
    intro g y0 y1 y2 y3 p h kq
    rw [fX0_rounds_L37] at h
    cases h
  | succ n ih =>
    intro g y0 y1 y2 y3 p h kq
    rw [fX0_rounds_L37] at h
    refine ez_iload_n (i := 3) (x := y3) dX0_rounds_37 rfl rfl ?_
    refine ez_iload_n (i := 2) (x := y2) dX0_rounds_38 rfl rfl ?_
    refine ez_icmp_ge (tgt := 69) dX0_rounds_39 (by decide) (fun hc => ?_) (fun hc => ?_)
    · replace h := zif_t hc h
      refine ez_iload_n (i := 3) (x := y3) dX0_rounds_69 rfl rfl ?_
      obtain rfl := Option.some.inj h
      exact ez_iret dX0_rounds_70 rfl rfl kq
    · replace h := zif_f hc h
      refine ez_aload_n (i := 0) (v := .ref y0) dX0_rounds_42 rfl rfl rfl ?_
      obtain ⟨i11, hx12, h⟩ := zbj_some h
      refine gX0_111 dX0_rounds_43 rfl hx12 ?_
      refine ez_if_eq (tgt := 69) dX0_rounds_46 (by decide) (fun hc => ?_) (fun hc => ?_)
      · replace h := zif_t hc h
        refine ez_iload_n (i := 3) (x := y3) dX0_rounds_69 rfl rfl ?_
        obtain rfl := Option.some.inj h
        exact ez_iret dX0_rounds_70 rfl rfl kq
      · replace h := zif_f hc h
        refine ez_aload_n (i := 0) (v := .ref y0) dX0_rounds_49 rfl rfl rfl ?_
        refine ez_iload_n (i := 1) (x := y1) dX0_rounds_50 rfl rfl ?_
        refine ez_iload_n (i := 3) (x := y3) dX0_rounds_51 rfl rfl ?_
        refine ez_iadd dX0_rounds_52 ?_
        refine ez_aload_n (i := 0) (v := .ref y0) dX0_rounds_53 rfl rfl rfl ?_
        obtain ⟨i13, hx14, h⟩ := zbj_some h
        refine gX0_63 dX0_rounds_54 rfl hx14 ?_
        obtain ⟨hg15, h⟩ := zgd_some h
        refine ez_irem dX0_rounds_57 hg15 ?_
        obtain ⟨ob16, hx17, h⟩ := zbj_some h
        obtain ⟨r18, g19, hq20, h⟩ := zbd_some h
        refine ez_callV (C := RX0) (Tt := TX0) (N := 20) (Y' := YX0_step) (a := y0) (vs := [.int ((y1 + y3) - (y1 + y3) / i13 * i13)]) (rest := []) dX0_rounds_58 rfl zkX0_step q715 q717 rfl slX0_step (zob1 hx17) znX0_step (Nat.le_of_ble_eq_true rfl) (Nat.le_of_ble_eq_true rfl) rfl (wX0_step (d := d + 0) hq20 (zBack_v ?_))
        show zEF G (d + 14) [] YX0_rounds 61 [some (.ref y0), some (.int y1), some (.int y2), some (.int y3), none] [.int r18] g19 Q
        refine ez_istore (i := 4) dX0_rounds_61 (show 4 < 5 by decide) ?_
        show zEF G (d + 14) [] YX0_rounds 63 [some (.ref y0), some (.int y1), some (.int y2), some (.int y3), some (.int r18)] [] g19 Q
        refine ez_iinc (x := y3) (v := (y3 + (1 : Int32))) dX0_rounds_63 rfl rfl (show 3 < 5 by decide) ?_
        show zEF G (d + 14) [] YX0_rounds 66 [some (.ref y0), some (.int y1), some (.int y2), some (.int (y3 + (1 : Int32))), some (.int r18)] [] g19 Q
        refine ez_goto (tgt := 37) dX0_rounds_66 (by decide) ?_
        refine ez_clr 4 ?_
        exact ih g19 y0 y1 y2 (y3 + (1 : Int32)) _ h kq
theorem wX0_rounds {G : zG} {d : Nat} {Q : zO → zS → Prop} {g : zS} {a0 : Nat} {b0 : Int32} {b1 : Int32} {p : Int32 × zS} (h : fX0_rounds g a0 b0 b1 = some p) (kq : Q (.inl (some (.int p.1))) p.2) : zEM G (d + 14) [] YX0_rounds [.ref a0, .int b0, .int b1] g Q := by
  show zEF G (d + 14) [] YX0_rounds 0 [some (.ref a0), some (.int b0), some (.int b1), none, none] [] g Q
  unfold fX0_rounds at h
  refine ez_aload_n (i := 0) (v := .ref a0) dX0_rounds_0 rfl rfl rfl ?_
  refine ez_iload_n (i := 1) (x := b0) dX0_rounds_1 rfl rfl ?_
  obtain ⟨ob1, hx2, h⟩ := zbj_some h
  obtain ⟨r3, g4, hq5, h⟩ := zbd_some h
  refine ez_callV (C := RX0) (Tt := TX0) (N := 20) (Y' := YX0_isWorker) (a := a0) (vs := [.int b0]) (rest := []) dX0_rounds_2 rfl zkX0_isWorker q711 q713 rfl slX0_isWorker (zob1 hx2) znX0_isWorker (Nat.le_of_ble_eq_true rfl) (Nat.le_of_ble_eq_true rfl) rfl (wX0_isWorker (d := d + 12) hq5 (zBack_v ?_))
  show zEF G (d + 14) [] YX0_rounds 5 [some (.ref a0), some (.int b0), some (.int b1), none, none] [.int r3] g4 Q
  refine ez_if_ne (tgt := 11) dX0_rounds_5 (by decide) (fun hc => ?_) (fun hc => ?_)
  · replace h := zif_f hc h
    refine ez_iload_n (i := 2) (x := b1) dX0_rounds_11 rfl rfl ?_
    refine ez_iconst (v := 0) dX0_rounds_12 (by decide) ?_
    refine ez_sipush (v := 200) dX0_rounds_13 (by decide) ?_
    obtain ⟨r6, hq8, h⟩ := zbj_some h
    refine ez_callS (Y' := YX0_isIn) (vs := [.int b1, .int (0 : Int32), .int (200 : Int32)]) (rest := []) dX0_rounds_16 rfl zkX0_isIn q306 q307 q52 znX0_isIn (Nat.le_of_ble_eq_true rfl) (Nat.le_of_ble_eq_true rfl) rfl (wX0_isIn (d := d + 13) hq8 (zBack_v ?_))
    show zEF G (d + 14) [] YX0_rounds 19 [some (.ref a0), some (.int b0), some (.int b1), none, none] [.int r6] g4 Q
    refine ez_if_ne (tgt := 25) dX0_rounds_19 (by decide) (fun hc => ?_) (fun hc => ?_)
    · replace h := zif_f hc h
      refine ez_aload_n (i := 0) (v := .ref a0) dX0_rounds_25 rfl rfl rfl ?_
      obtain ⟨i9, hx10, h⟩ := zbj_some h
      refine gX0_111 dX0_rounds_26 rfl hx10 ?_
      refine ez_if_ne (tgt := 35) dX0_rounds_29 (by decide) (fun hc => ?_) (fun hc => ?_)
      · replace h := zif_f hc h
        refine ez_iconst (v := 0) dX0_rounds_35 (by decide) ?_
        refine ez_istore_n (i := 3) dX0_rounds_36 rfl (show 3 < 5 by decide) ?_
        show zEF G (d + 14) [] YX0_rounds 37 [some (.ref a0), some (.int b0), some (.int b1), some (.int (0 : Int32)), none] [] g4 Q
        refine fX0_rounds_L37_ok (d := d) 1000 g4 a0 b0 b1 (0 : Int32) _ h  kq
      · replace h := zif_t hc h
        refine ez_bipush (v := -103) dX0_rounds_32 (by decide) ?_
        obtain rfl := Option.some.inj h
        exact ez_iret dX0_rounds_34 rfl rfl kq
    · replace h := zif_t hc h
      refine ez_bipush (v := -102) dX0_rounds_22 (by decide) ?_
      obtain rfl := Option.some.inj h
      exact ez_iret dX0_rounds_24 rfl rfl kq
  · replace h := zif_t hc h
    refine ez_bipush (v := -101) dX0_rounds_8 (by decide) ?_
    obtain rfl := Option.some.inj h
    exact ez_iret dX0_rounds_10 rfl rfl kq
def YX0_stop : zM := (yX0_stop, cX0_stop, 2, (Option.some Jvm.ClassFile.FieldType.int), [], false)
theorem zkX0_stop : zMok YX0_stop := ⟨rfl, q877, by decide +kernel, by decide +kernel⟩
theorem znX0_stop : (parseMethodDescriptor YX0_stop.nm.desc).map (fun d => d.parameters.length) = some 0 := by decide +kernel
noncomputable def fX0_stop (g : zS) (a0 : Nat) : Option (Int32 × zS) := zbj (zgI g [0] a0 7) (fun i1 => if i1 = 0 then some ((-103 : Int32), g) else zbj (zgI g [0] a0 8) (fun i3 => if i3 = 0 then zbj (zpV g [0] a0 8 (.int (1 : Int32))) (fun g5 => some ((1 : Int32), g5)) else zbj (zpV g [0] a0 8 (.int (1 : Int32))) (fun g7 => some ((0 : Int32), g7))))
theorem wX0_stop {G : zG} {d : Nat} {K : List Nat} {Q : zO → zS → Prop} {g : zS} {a0 : Nat} {p : Int32 × zS} (h : fX0_stop g a0 = some p) (kq : Q (.inl (some (.int p.1))) p.2) : zEM G (d + 0) K YX0_stop [.ref a0] g Q := by
  show zEF G (d + 0) K YX0_stop 0 [some (.ref a0), none] [] g Q
  unfold fX0_stop at h
  refine ez_aload_n (i := 0) (v := .ref a0) dX0_stop_0 rfl rfl rfl ?_
  obtain ⟨i1, hx2, h⟩ := zbj_some h
  refine gX0_111 dX0_stop_1 rfl hx2 ?_
  refine ez_if_ne (tgt := 10) dX0_stop_4 (by decide) (fun hc => ?_) (fun hc => ?_)
  · replace h := zif_f hc h
    refine ez_aload_n (i := 0) (v := .ref a0) dX0_stop_10 rfl rfl rfl ?_
    obtain ⟨i3, hx4, h⟩ := zbj_some h
    refine gX0_223 dX0_stop_11 rfl hx4 ?_
    refine ez_if_eq (tgt := 21) dX0_stop_14 (by decide) (fun hc => ?_) (fun hc => ?_)
    · replace h := zif_t hc h
      refine ez_iconst (v := 1) dX0_stop_21 (by decide) ?_
      refine ez_istore_n (i := 1) dX0_stop_22 rfl (show 1 < 2 by decide) ?_
      show zEF G (d + 0) K YX0_stop 23 [some (.ref a0), some (.int (1 : Int32))] [] g Q
      refine ez_aload_n (i := 0) (v := .ref a0) dX0_stop_23 rfl rfl rfl ?_
      refine ez_iconst (v := 1) dX0_stop_24 (by decide) ?_
      obtain ⟨g5, hx6, h⟩ := zbj_some h
      refine pX0_223 (x := (1 : Int32)) dX0_stop_25 rfl ⟨rfl, rfl⟩ hx6 ?_
      refine ez_iload_n (i := 1) (x := (1 : Int32)) dX0_stop_28 rfl rfl ?_
      obtain rfl := Option.some.inj h
      exact ez_iret dX0_stop_29 rfl rfl kq
    · replace h := zif_f hc h
      refine ez_iconst (v := 0) dX0_stop_17 (by decide) ?_
      refine ez_goto (tgt := 22) dX0_stop_18 (by decide) ?_
      refine ez_istore_n (i := 1) dX0_stop_22 rfl (show 1 < 2 by decide) ?_
      show zEF G (d + 0) K YX0_stop 23 [some (.ref a0), some (.int (0 : Int32))] [] g Q
      refine ez_aload_n (i := 0) (v := .ref a0) dX0_stop_23 rfl rfl rfl ?_
      refine ez_iconst (v := 1) dX0_stop_24 (by decide) ?_
      obtain ⟨g7, hx8, h⟩ := zbj_some h
      refine pX0_223 (x := (1 : Int32)) dX0_stop_25 rfl ⟨rfl, rfl⟩ hx8 ?_
      refine ez_iload_n (i := 1) (x := (0 : Int32)) dX0_stop_28 rfl rfl ?_
      obtain rfl := Option.some.inj h
      exact ez_iret dX0_stop_29 rfl rfl kq
  · replace h := zif_t hc h
    refine ez_bipush (v := -103) dX0_stop_7 (by decide) ?_
    obtain rfl := Option.some.inj h
    exact ez_iret dX0_stop_9 rfl rfl kq
def YX0_out : zM := (yX0_out, cX0_out, 2, (Option.some Jvm.ClassFile.FieldType.int), [], false)
theorem zkX0_out : zMok YX0_out := ⟨rfl, q881, by decide +kernel, by decide +kernel⟩
theorem znX0_out : (parseMethodDescriptor YX0_out.nm.desc).map (fun d => d.parameters.length) = some 1 := by decide +kernel
noncomputable def fX0_out (g : zS) (a0 : Nat) (b0 : Int32) : Option (Int32 × zS) := zbj (zgI g [0] a0 10) (fun i1 => zbj (fX0_isIn b0 (0 : Int32) (((8 : Int32) * i1) - (1 : Int32))) (fun r3 => if r3 = 0 then some ((0 : Int32), g) else zbj (zgN g [0] a0 11) (fun a6 => zbj (zaF g 1 a6 b0) (fun e8 => zbj (fJ8_floatToIntBits e8) (fun r10 => some (r10, g))))))
theorem wX0_out {G : zG} {d : Nat} {K : List Nat} {Q : zO → zS → Prop} {g : zS} {a0 : Nat} {b0 : Int32} {p : Int32 × zS} (h : fX0_out g a0 b0 = some p) (kq : Q (.inl (some (.int p.1))) p.2) : zEM G (d + 2) K YX0_out [.ref a0, .int b0] g Q := by
  show zEF G (d + 2) K YX0_out 0 [some (.ref a0), some (.int b0)] [] g Q
  unfold fX0_out at h
  refine ez_iload_n (i := 1) (x := b0) dX0_out_0 rfl rfl ?_
  refine ez_iconst (v := 0) dX0_out_1 (by decide) ?_
  refine ez_bipush (v := 8) dX0_out_2 (by decide) ?_
  refine ez_aload_n (i := 0) (v := .ref a0) dX0_out_4 rfl rfl rfl ?_
  obtain ⟨i1, hx2, h⟩ := zbj_some h
  refine gX0_220 dX0_out_5 rfl hx2 ?_
  refine ez_imul dX0_out_8 ?_
  refine ez_iconst (v := 1) dX0_out_9 (by decide) ?_
  refine ez_isub dX0_out_10 ?_
  obtain ⟨r3, hq5, h⟩ := zbj_some h
  refine ez_callS (Y' := YX0_isIn) (vs := [.int b0, .int (0 : Int32), .int (((8 : Int32) * i1) - (1 : Int32))]) (rest := []) dX0_out_11 rfl zkX0_isIn q306 q307 q52 znX0_isIn (Nat.le_of_ble_eq_true rfl) (Nat.le_of_ble_eq_true rfl) rfl (wX0_isIn (d := d + 1) hq5 (zBack_v ?_))
  show zEF G (d + 2) K YX0_out 14 [some (.ref a0), some (.int b0)] [.int r3] g Q
  refine ez_if_eq (tgt := 29) dX0_out_14 (by decide) (fun hc => ?_) (fun hc => ?_)
  · replace h := zif_t hc h
    refine ez_iconst (v := 0) dX0_out_29 (by decide) ?_
    obtain rfl := Option.some.inj h
    exact ez_iret dX0_out_30 rfl rfl kq
  · replace h := zif_f hc h
    refine ez_aload_n (i := 0) (v := .ref a0) dX0_out_17 rfl rfl rfl ?_
    obtain ⟨a6, hx7, h⟩ := zbj_some h
    refine gX0_67 dX0_out_18 rfl (zgN_some hx7) ?_
    show zEF G (d + 2) K YX0_out 21 [some (.ref a0), some (.int b0)] [.ref a6] g Q
    refine ez_iload_n (i := 1) (x := b0) dX0_out_21 rfl rfl ?_
    obtain ⟨e8, hx9, h⟩ := zbj_some h
    refine lX_fa dX0_out_22 hx9 ?_
    obtain ⟨r10, hq12, h⟩ := zbj_some h
    refine ez_callS (Y' := YJ8_floatToIntBits) (vs := [.float e8]) (rest := []) dX0_out_23 rfl zkJ8_floatToIntBits q416 q417 q65 znJ8_floatToIntBits (Nat.le_of_ble_eq_true rfl) (Nat.le_of_ble_eq_true rfl) rfl (wJ8_floatToIntBits (d := d + 0) hq12 (zBack_v ?_))
    show zEF G (d + 2) K YX0_out 26 [some (.ref a0), some (.int b0)] [.int r10] g Q
    refine ez_goto (tgt := 30) dX0_out_26 (by decide) ?_
    obtain rfl := Option.some.inj h
    exact ez_iret dX0_out_30 rfl rfl kq
def YX0_numberOf : zM := (yX0_numberOf, cX0_numberOf, 3, (Option.some Jvm.ClassFile.FieldType.int), [], false)
theorem zkX0_numberOf : zMok YX0_numberOf := ⟨rfl, q893, by decide +kernel, by decide +kernel⟩
theorem znX0_numberOf : (parseMethodDescriptor YX0_numberOf.nm.desc).map (fun d => d.parameters.length) = some 1 := by decide +kernel
theorem slX0_numberOf : Cond.selects RX0 yX0_numberOf yX0_numberOf ∈ lw_all := lw_w 24 rfl rfl
noncomputable def fX0_numberOf_L7 : Nat → zS → Nat → Nat → Int32 → Option (Int32 × zS)
  | 0, _, _, _, _ => none
  | n + 1, g, y0, y1, y2 => if y2 < 0 then some (y2, g) else zbj (zgN g [0] y0 2) (fun a3 => zbj (zaN g 8 a3 y2) (fun a5 => if (some a5) = (some y1) then some (y2, g) else fX0_numberOf_L7 n g y0 y1 (y2 + (-1 : Int32))))
noncomputable def fX0_numberOf (g : zS) (a0 : Nat) (b0 : Nat) : Option (Int32 × zS) := zbj (zgI g [0] a0 3) (fun i1 => fX0_numberOf_L7 1000 g a0 b0 (i1 - (1 : Int32)) )
theorem fX0_numberOf_L7_ok {G : zG} {d : Nat} {K : List Nat} {Q : zO → zS → Prop} : ∀ (n : Nat) (g : zS) (y0 : Nat) (y1 : Nat) (y2 : Int32) (p : Int32 × zS) (h : fX0_numberOf_L7 n g y0 y1 y2 = some p) (kq : Q (.inl (some (.int p.1))) p.2), zEF G (d + 0) K YX0_numberOf 7 [some (.ref y0), some (.ref y1), some (.int y2)] [] g Q := by
  intro n
  induction n with
  | zero =>
    intro g y0 y1 y2 p h kq
    rw [fX0_numberOf_L7] at h
    cases h
  | succ n ih =>
    intro g y0 y1 y2 p h kq
    rw [fX0_numberOf_L7] at h
    refine ez_iload_n (i := 2) (x := y2) dX0_numberOf_7 rfl rfl ?_
    refine ez_if_lt (tgt := 27) dX0_numberOf_8 (by decide) (fun hc => ?_) (fun hc => ?_)
    · replace h := zif_t hc h
      refine ez_iload_n (i := 2) (x := y2) dX0_numberOf_27 rfl rfl ?_
      obtain rfl := Option.some.inj h
      exact ez_iret dX0_numberOf_28 rfl rfl kq
    · replace h := zif_f hc h
      refine ez_aload_n (i := 0) (v := .ref y0) dX0_numberOf_11 rfl rfl rfl ?_
      obtain ⟨a3, hx4, h⟩ := zbj_some h
      refine gX0_49 dX0_numberOf_12 rfl (zgN_some hx4) ?_
      show zEF G (d + 0) K YX0_numberOf 15 [some (.ref y0), some (.ref y1), some (.int y2)] [.ref a3] g Q
      refine ez_iload_n (i := 2) (x := y2) dX0_numberOf_15 rfl rfl ?_
      obtain ⟨a5, hx6, h⟩ := zbj_some h
      refine lX_aa8 dX0_numberOf_16 (zaN_some hx6) ?_
      show zEF G (d + 0) K YX0_numberOf 17 [some (.ref y0), some (.ref y1), some (.int y2)] [.ref a5] g Q
      refine ez_aload_n (i := 1) (v := .ref y1) dX0_numberOf_17 rfl rfl rfl ?_
      refine ez_acmp_eq (rx := (some a5)) (ry := (some y1)) (tgt := 27) dX0_numberOf_18 (by decide) (fun hc => ?_) (fun hc => ?_)
      · replace h := zif_t hc h
        refine ez_iload_n (i := 2) (x := y2) dX0_numberOf_27 rfl rfl ?_
        obtain rfl := Option.some.inj h
        exact ez_iret dX0_numberOf_28 rfl rfl kq
      · replace h := zif_f hc h
        refine ez_iinc (x := y2) (v := (y2 + (-1 : Int32))) dX0_numberOf_21 rfl rfl (show 2 < 3 by decide) ?_
        show zEF G (d + 0) K YX0_numberOf 24 [some (.ref y0), some (.ref y1), some (.int (y2 + (-1 : Int32)))] [] g Q
        refine ez_goto (tgt := 7) dX0_numberOf_24 (by decide) ?_
        exact ih g y0 y1 (y2 + (-1 : Int32)) _ h kq
theorem wX0_numberOf {G : zG} {d : Nat} {K : List Nat} {Q : zO → zS → Prop} {g : zS} {a0 : Nat} {b0 : Nat} {p : Int32 × zS} (h : fX0_numberOf g a0 b0 = some p) (kq : Q (.inl (some (.int p.1))) p.2) : zEM G (d + 0) K YX0_numberOf [.ref a0, .ref b0] g Q := by
  show zEF G (d + 0) K YX0_numberOf 0 [some (.ref a0), some (.ref b0), none] [] g Q
  unfold fX0_numberOf at h
  refine ez_aload_n (i := 0) (v := .ref a0) dX0_numberOf_0 rfl rfl rfl ?_
  obtain ⟨i1, hx2, h⟩ := zbj_some h
  refine gX0_88 dX0_numberOf_1 rfl hx2 ?_
  refine ez_iconst (v := 1) dX0_numberOf_4 (by decide) ?_
  refine ez_isub dX0_numberOf_5 ?_
  refine ez_istore_n (i := 2) dX0_numberOf_6 rfl (show 2 < 3 by decide) ?_
  show zEF G (d + 0) K YX0_numberOf 7 [some (.ref a0), some (.ref b0), some (.int (i1 - (1 : Int32)))] [] g Q
  refine fX0_numberOf_L7_ok (d := d) (K := K) 1000 g a0 b0 (i1 - (1 : Int32)) _ h  kq
def YX0_plugAt : zM := (yX0_plugAt, cX0_plugAt, 4, (Option.some Jvm.ClassFile.FieldType.int), [(0, 25, 26, 121)], false)
theorem zkX0_plugAt : zMok YX0_plugAt := ⟨rfl, q889, by decide +kernel, by decide +kernel⟩
theorem znX0_plugAt : (parseMethodDescriptor YX0_plugAt.nm.desc).map (fun d => d.parameters.length) = some 2 := by decide +kernel
theorem slX0_plugAt : Cond.selects RX0 yX0_plugAt yX0_plugAt ∈ lw_all := lw_w 23 rfl rfl
noncomputable def fX0_plugAt (g : zS) (a0 : Nat) (b0 : Int32) (b1 : Int32) : Option (Int32 × zS) := zbj (zgN g [0] a0 4) (fun a1 => zbj (zaN g 9 a1 b0) (fun a3 => zbj (zgN g [1] a3 6) (fun a5 => zbj (zaln g a5) (fun n7 => zgd (n7 < 2 ^ 31) (if zout b1 n7 then zgd (3 ≤ g.rc ∧ 300 ≤ g.rs) (zbj (zob (zxg g) [0] a0) (fun ob13 => zbd (fX0_met (zxg g) a0 (2 : Int32)) (fun r15 g16 => some (r15, g16)))) else zbj (zaC g a5 b1) (fun o10 => zcs o10 (some ((-1 : Int32), g)) (fun a18 => zbj (zob g [0] a0) (fun ob19 => zbd (fX0_numberOf g a0 a18) (fun r21 g22 => some (r21, g22))))))))))
theorem wX0_plugAt {G : zG} {d : Nat} {K : List Nat} {Q : zO → zS → Prop} {g : zS} {a0 : Nat} {b0 : Int32} {b1 : Int32} {p : Int32 × zS} (h : fX0_plugAt g a0 b0 b1 = some p) (kq : Q (.inl (some (.int p.1))) p.2) : zEM G (d + 8) K YX0_plugAt [.ref a0, .int b0, .int b1] g Q := by
  show zEF G (d + 8) K YX0_plugAt 0 [some (.ref a0), some (.int b0), some (.int b1), none] [] g Q
  unfold fX0_plugAt at h
  refine ez_aload_n (i := 0) (v := .ref a0) dX0_plugAt_0 rfl rfl rfl ?_
  obtain ⟨a1, hx2, h⟩ := zbj_some h
  refine gX0_55 dX0_plugAt_1 rfl (zgN_some hx2) ?_
  show zEF G (d + 8) K YX0_plugAt 4 [some (.ref a0), some (.int b0), some (.int b1), none] [.ref a1] g Q
  refine ez_iload_n (i := 1) (x := b0) dX0_plugAt_4 rfl rfl ?_
  obtain ⟨a3, hx4, h⟩ := zbj_some h
  refine lX_aa9 dX0_plugAt_5 (zaN_some hx4) ?_
  show zEF G (d + 8) K YX0_plugAt 6 [some (.ref a0), some (.int b0), some (.int b1), none] [.ref a3] g Q
  obtain ⟨a5, hx6, h⟩ := zbj_some h
  refine gX0_204 dX0_plugAt_6 rfl (zgN_some hx6) ?_
  show zEF G (d + 8) K YX0_plugAt 9 [some (.ref a0), some (.int b0), some (.int b1), none] [.ref a5] g Q
  refine ez_iload_n (i := 2) (x := b1) dX0_plugAt_9 rfl rfl ?_
  obtain ⟨n7, hx8, h⟩ := zbj_some h
  obtain ⟨hg9, h⟩ := zgd_some h
  by_cases hc : zout b1 n7
  · replace h := zif_t hc h
    obtain ⟨tT, xT, hE, hT, hN⟩ := zaln_some hx8
    obtain ⟨hr12, h⟩ := zgd_some h
    refine ex_aalO (i := b1) dX0_plugAt_10 hE hT (by rw [hN]; exact hg9) (by rw [hN]; exact hc) (Nat.le_of_ble_eq_true rfl) hr12.1 hr12.2 ?_
    refine zTH_catch (h := 26) (Or.inr ⟨by decide, by decide, "java/lang/ArrayIndexOutOfBoundsException", q351, Or.inr ⟨q366, rfl⟩⟩) ?_
    refine ez_astore_n (i := 3) dX0_plugAt_26 rfl (show 3 < 4 by decide) rfl ?_
    show zEF G (d + 8) K YX0_plugAt 27 [some (.ref a0), some (.int b0), some (.int b1), some (.ref (g.sz + 2))] [] (zxg g) Q
    refine ez_aload_n (i := 0) (v := .ref a0) dX0_plugAt_27 rfl rfl rfl ?_
    refine ez_iconst (v := 2) dX0_plugAt_28 (by decide) ?_
    obtain ⟨ob13, hx14, h⟩ := zbj_some h
    obtain ⟨r15, g16, hq17, h⟩ := zbd_some h
    refine ez_callV (C := RX0) (Tt := TX0) (N := 20) (Y' := YX0_met) (a := a0) (vs := [.int (2 : Int32)]) (rest := []) dX0_plugAt_29 rfl zkX0_met q329 q331 rfl slX0_met (zob1 hx14) znX0_met (Nat.le_of_ble_eq_true rfl) (Nat.le_of_ble_eq_true rfl) rfl (wX0_met (d := d + 7) hq17 (zBack_v ?_))
    show zEF G (d + 8) K YX0_plugAt 32 [some (.ref a0), some (.int b0), some (.int b1), some (.ref (g.sz + 2))] [.int r15] g16 Q
    obtain rfl := Option.some.inj h
    exact ez_iret dX0_plugAt_32 rfl rfl kq
  · replace h := zif_f hc h
    obtain ⟨o10, hx11, h⟩ := zbj_some h
    refine lX_aac dX0_plugAt_10 hx11 ?_
    refine ez_astore_n (i := 3) dX0_plugAt_11 rfl (show 3 < 4 by decide) (zrf_ref _) ?_
    show zEF G (d + 8) K YX0_plugAt 12 [some (.ref a0), some (.int b0), some (.int b1), some (va_rf o10)] [] g Q
    refine ez_aload_n (i := 3) (v := va_rf o10) dX0_plugAt_12 rfl rfl (zrf_ref _) ?_
    rcases o10 with _ | a18
    · replace h := zcs_n h
      refine ez_ifnonnullN dX0_plugAt_13 ?_
      refine ez_iconst (v := -1) dX0_plugAt_16 (by decide) ?_
      refine ez_goto (tgt := 25) dX0_plugAt_17 (by decide) ?_
      obtain rfl := Option.some.inj h
      exact ez_iret dX0_plugAt_25 rfl rfl kq
    · replace h := zcs_s h
      refine ez_ifnonnull (tgt := 20) dX0_plugAt_13 (by decide) ?_
      refine ez_aload_n (i := 0) (v := .ref a0) dX0_plugAt_20 rfl rfl rfl ?_
      refine ez_aload_n (i := 3) (v := .ref a18) dX0_plugAt_21 rfl rfl rfl ?_
      obtain ⟨ob19, hx20, h⟩ := zbj_some h
      obtain ⟨r21, g22, hq23, h⟩ := zbd_some h
      refine ez_callV (C := RX0) (Tt := TX0) (N := 20) (Y' := YX0_numberOf) (a := a0) (vs := [.ref a18]) (rest := []) dX0_plugAt_22 rfl zkX0_numberOf q890 q892 rfl slX0_numberOf (zob1 hx20) znX0_numberOf (Nat.le_of_ble_eq_true rfl) (Nat.le_of_ble_eq_true rfl) rfl (wX0_numberOf (d := d + 7) hq23 (zBack_v ?_))
      show zEF G (d + 8) K YX0_plugAt 25 [some (.ref a0), some (.int b0), some (.int b1), some (.ref a18)] [.int r21] g22 Q
      obtain rfl := Option.some.inj h
      exact ez_iret dX0_plugAt_25 rfl rfl kq
def YX0_of : zM := (yX0_of, cX0_of, 3, (Option.some Jvm.ClassFile.FieldType.int), [], false)
theorem zkX0_of : zMok YX0_of := ⟨rfl, q897, by decide +kernel, by decide +kernel⟩
theorem znX0_of : (parseMethodDescriptor YX0_of.nm.desc).map (fun d => d.parameters.length) = some 2 := by decide +kernel
theorem slX0_of : Cond.selects RX0 yX0_of yX0_of ∈ lw_all := lw_w 25 rfl rfl
noncomputable def fX0_of (g : zS) (a0 : Nat) (b0 : Nat) (b1 : Int32) : Option (Int32 × zS) := if b1 = (0 : Int32) then zbj (zgI g [1] b0 0) (fun i1 => if i1 = 0 then some ((0 : Int32), g) else some ((1 : Int32), g)) else if b1 = (1 : Int32) then zbj (zgI g [1] b0 1) (fun i3 => some (i3, g)) else if b1 = (2 : Int32) then zbj (zgI g [1] b0 2) (fun i5 => some (i5, g)) else if b1 = (3 : Int32) then zbj (zgI g [1] b0 3) (fun i7 => if i7 = 0 then some ((0 : Int32), g) else some ((1 : Int32), g)) else if b1 = (4 : Int32) then zbj (zgF g [1] b0 4) (fun f9 => zbj (fJ8_floatToIntBits f9) (fun r11 => some (r11, g))) else if b1 = (5 : Int32) then zbj (zgI g [1] b0 5) (fun i14 => if i14 = 0 then some ((0 : Int32), g) else some ((1 : Int32), g)) else zbj (zgI g [0] a0 7) (fun i16 => if i16 = 0 then some ((0 : Int32), g) else zbj (zgI g [1] b0 7) (fun i18 => some (i18, g)))
theorem wX0_of {G : zG} {d : Nat} {K : List Nat} {Q : zO → zS → Prop} {g : zS} {a0 : Nat} {b0 : Nat} {b1 : Int32} {p : Int32 × zS} (h : fX0_of g a0 b0 b1 = some p) (kq : Q (.inl (some (.int p.1))) p.2) : zEM G (d + 2) K YX0_of [.ref a0, .ref b0, .int b1] g Q := by
  show zEF G (d + 2) K YX0_of 0 [some (.ref a0), some (.ref b0), some (.int b1)] [] g Q
  unfold fX0_of at h
  refine ez_iload_n (i := 2) (x := b1) dX0_of_0 rfl rfl ?_
  by_cases hs0 : b1 = (0 : Int32)
  · replace h := zif_t hs0 h
    refine ez_tableIn (tgt := 40) (off := 39) dX0_of_1 (by rw [hs0]; decide) (by rw [hs0]; decide) (by rw [hs0]; rfl) (by decide) ?_
    refine ez_aload_n (i := 1) (v := .ref b0) dX0_of_40 rfl rfl rfl ?_
    obtain ⟨i1, hx2, h⟩ := zbj_some h
    refine gX0_211 dX0_of_41 rfl hx2 ?_
    refine ez_if_eq (tgt := 51) dX0_of_44 (by decide) (fun hc => ?_) (fun hc => ?_)
    · replace h := zif_t hc h
      refine ez_iconst (v := 0) dX0_of_51 (by decide) ?_
      obtain rfl := Option.some.inj h
      exact ez_iret dX0_of_52 rfl rfl kq
    · replace h := zif_f hc h
      refine ez_iconst (v := 1) dX0_of_47 (by decide) ?_
      refine ez_goto (tgt := 52) dX0_of_48 (by decide) ?_
      obtain rfl := Option.some.inj h
      exact ez_iret dX0_of_52 rfl rfl kq
  · replace h := zif_f hs0 h
    by_cases hs1 : b1 = (1 : Int32)
    · replace h := zif_t hs1 h
      refine ez_tableIn (tgt := 53) (off := 52) dX0_of_1 (by rw [hs1]; decide) (by rw [hs1]; decide) (by rw [hs1]; rfl) (by decide) ?_
      refine ez_aload_n (i := 1) (v := .ref b0) dX0_of_53 rfl rfl rfl ?_
      obtain ⟨i3, hx4, h⟩ := zbj_some h
      refine gX0_192 dX0_of_54 rfl hx4 ?_
      obtain rfl := Option.some.inj h
      exact ez_iret dX0_of_57 rfl rfl kq
    · replace h := zif_f hs1 h
      by_cases hs2 : b1 = (2 : Int32)
      · replace h := zif_t hs2 h
        refine ez_tableIn (tgt := 58) (off := 57) dX0_of_1 (by rw [hs2]; decide) (by rw [hs2]; decide) (by rw [hs2]; rfl) (by decide) ?_
        refine ez_aload_n (i := 1) (v := .ref b0) dX0_of_58 rfl rfl rfl ?_
        obtain ⟨i5, hx6, h⟩ := zbj_some h
        refine gX0_195 dX0_of_59 rfl hx6 ?_
        obtain rfl := Option.some.inj h
        exact ez_iret dX0_of_62 rfl rfl kq
      · replace h := zif_f hs2 h
        by_cases hs3 : b1 = (3 : Int32)
        · replace h := zif_t hs3 h
          refine ez_tableIn (tgt := 63) (off := 62) dX0_of_1 (by rw [hs3]; decide) (by rw [hs3]; decide) (by rw [hs3]; rfl) (by decide) ?_
          refine ez_aload_n (i := 1) (v := .ref b0) dX0_of_63 rfl rfl rfl ?_
          obtain ⟨i7, hx8, h⟩ := zbj_some h
          refine gX0_198 dX0_of_64 rfl hx8 ?_
          refine ez_if_eq (tgt := 74) dX0_of_67 (by decide) (fun hc => ?_) (fun hc => ?_)
          · replace h := zif_t hc h
            refine ez_iconst (v := 0) dX0_of_74 (by decide) ?_
            obtain rfl := Option.some.inj h
            exact ez_iret dX0_of_75 rfl rfl kq
          · replace h := zif_f hc h
            refine ez_iconst (v := 1) dX0_of_70 (by decide) ?_
            refine ez_goto (tgt := 75) dX0_of_71 (by decide) ?_
            obtain rfl := Option.some.inj h
            exact ez_iret dX0_of_75 rfl rfl kq
        · replace h := zif_f hs3 h
          by_cases hs4 : b1 = (4 : Int32)
          · replace h := zif_t hs4 h
            refine ez_tableIn (tgt := 76) (off := 75) dX0_of_1 (by rw [hs4]; decide) (by rw [hs4]; decide) (by rw [hs4]; rfl) (by decide) ?_
            refine ez_aload_n (i := 1) (v := .ref b0) dX0_of_76 rfl rfl rfl ?_
            obtain ⟨f9, hx10, h⟩ := zbj_some h
            refine gX0_207 dX0_of_77 rfl hx10 ?_
            obtain ⟨r11, hq13, h⟩ := zbj_some h
            refine ez_callS (Y' := YJ8_floatToIntBits) (vs := [.float f9]) (rest := []) dX0_of_80 rfl zkJ8_floatToIntBits q416 q417 q65 znJ8_floatToIntBits (Nat.le_of_ble_eq_true rfl) (Nat.le_of_ble_eq_true rfl) rfl (wJ8_floatToIntBits (d := d + 0) hq13 (zBack_v ?_))
            show zEF G (d + 2) K YX0_of 83 [some (.ref a0), some (.ref b0), some (.int b1)] [.int r11] g Q
            obtain rfl := Option.some.inj h
            exact ez_iret dX0_of_83 rfl rfl kq
          · replace h := zif_f hs4 h
            by_cases hs5 : b1 = (5 : Int32)
            · replace h := zif_t hs5 h
              refine ez_tableIn (tgt := 84) (off := 83) dX0_of_1 (by rw [hs5]; decide) (by rw [hs5]; decide) (by rw [hs5]; rfl) (by decide) ?_
              refine ez_aload_n (i := 1) (v := .ref b0) dX0_of_84 rfl rfl rfl ?_
              obtain ⟨i14, hx15, h⟩ := zbj_some h
              refine gX0_201 dX0_of_85 rfl hx15 ?_
              refine ez_if_eq (tgt := 95) dX0_of_88 (by decide) (fun hc => ?_) (fun hc => ?_)
              · replace h := zif_t hc h
                refine ez_iconst (v := 0) dX0_of_95 (by decide) ?_
                obtain rfl := Option.some.inj h
                exact ez_iret dX0_of_96 rfl rfl kq
              · replace h := zif_f hc h
                refine ez_iconst (v := 1) dX0_of_91 (by decide) ?_
                refine ez_goto (tgt := 96) dX0_of_92 (by decide) ?_
                obtain rfl := Option.some.inj h
                exact ez_iret dX0_of_96 rfl rfl kq
            · replace h := zif_f hs5 h
              have he0 : b1.toInt ≠ 0 := zsw_ne hs0
              have he1 : b1.toInt ≠ 1 := zsw_ne hs1
              have he2 : b1.toInt ≠ 2 := zsw_ne hs2
              have he3 : b1.toInt ≠ 3 := zsw_ne hs3
              have he4 : b1.toInt ≠ 4 := zsw_ne hs4
              have he5 : b1.toInt ≠ 5 := zsw_ne hs5
              refine ez_tableOut (tgt := 97) dX0_of_1 (by omega) (by decide) ?_
              refine ez_aload_n (i := 0) (v := .ref a0) dX0_of_97 rfl rfl rfl ?_
              obtain ⟨i16, hx17, h⟩ := zbj_some h
              refine gX0_111 dX0_of_98 rfl hx17 ?_
              refine ez_if_eq (tgt := 111) dX0_of_101 (by decide) (fun hc => ?_) (fun hc => ?_)
              · replace h := zif_t hc h
                refine ez_iconst (v := 0) dX0_of_111 (by decide) ?_
                obtain rfl := Option.some.inj h
                exact ez_iret dX0_of_112 rfl rfl kq
              · replace h := zif_f hc h
                refine ez_aload_n (i := 1) (v := .ref b0) dX0_of_104 rfl rfl rfl ?_
                obtain ⟨i18, hx19, h⟩ := zbj_some h
                refine gX0_232 dX0_of_105 rfl hx19 ?_
                refine ez_goto (tgt := 112) dX0_of_108 (by decide) ?_
                obtain rfl := Option.some.inj h
                exact ez_iret dX0_of_112 rfl rfl kq
def YX0_told : zM := (yX0_told, cX0_told, 3, (Option.some Jvm.ClassFile.FieldType.int), [], false)
theorem zkX0_told : zMok YX0_told := ⟨rfl, q885, by decide +kernel, by decide +kernel⟩
theorem znX0_told : (parseMethodDescriptor YX0_told.nm.desc).map (fun d => d.parameters.length) = some 2 := by decide +kernel
noncomputable def fX0_told (g : zS) (a0 : Nat) (b0 : Int32) (b1 : Int32) : Option (Int32 × zS) := zbj (fX0_isTrack b0) (fun r1 => if r1 = 0 then some ((-101 : Int32), g) else zbj (fX0_isIn b1 (0 : Int32) (20 : Int32)) (fun r4 => if r4 = 0 then some ((-102 : Int32), g) else zbj (fX0_isIn b1 (6 : Int32) (19 : Int32)) (fun r7 => if r7 = 0 then zbj (zgN g [0] a0 4) (fun a10 => zbj (zaN g 9 a10 b0) (fun a12 => zbj (zob g [0] a0) (fun ob14 => zbd (fX0_of g a0 a12 b1) (fun r16 g17 => some (r16, g17))))) else zbj (zob g [0] a0) (fun ob19 => zbd (fX0_plugAt g a0 b0 (b1 - (6 : Int32))) (fun r21 g22 => some (r21, g22))))))
theorem wX0_told {G : zG} {d : Nat} {K : List Nat} {Q : zO → zS → Prop} {g : zS} {a0 : Nat} {b0 : Int32} {b1 : Int32} {p : Int32 × zS} (h : fX0_told g a0 b0 b1 = some p) (kq : Q (.inl (some (.int p.1))) p.2) : zEM G (d + 9) K YX0_told [.ref a0, .int b0, .int b1] g Q := by
  show zEF G (d + 9) K YX0_told 0 [some (.ref a0), some (.int b0), some (.int b1)] [] g Q
  unfold fX0_told at h
  refine ez_iload_n (i := 1) (x := b0) dX0_told_0 rfl rfl ?_
  obtain ⟨r1, hq3, h⟩ := zbj_some h
  refine ez_callS (Y' := YX0_isTrack) (vs := [.int b0]) (rest := []) dX0_told_1 rfl zkX0_isTrack q645 q646 q52 znX0_isTrack (Nat.le_of_ble_eq_true rfl) (Nat.le_of_ble_eq_true rfl) rfl (wX0_isTrack (d := d + 7) hq3 (zBack_v ?_))
  show zEF G (d + 9) K YX0_told 4 [some (.ref a0), some (.int b0), some (.int b1)] [.int r1] g Q
  refine ez_if_ne (tgt := 10) dX0_told_4 (by decide) (fun hc => ?_) (fun hc => ?_)
  · replace h := zif_f hc h
    refine ez_iload_n (i := 2) (x := b1) dX0_told_10 rfl rfl ?_
    refine ez_iconst (v := 0) dX0_told_11 (by decide) ?_
    refine ez_bipush (v := 20) dX0_told_12 (by decide) ?_
    obtain ⟨r4, hq6, h⟩ := zbj_some h
    refine ez_callS (Y' := YX0_isIn) (vs := [.int b1, .int (0 : Int32), .int (20 : Int32)]) (rest := []) dX0_told_14 rfl zkX0_isIn q306 q307 q52 znX0_isIn (Nat.le_of_ble_eq_true rfl) (Nat.le_of_ble_eq_true rfl) rfl (wX0_isIn (d := d + 8) hq6 (zBack_v ?_))
    show zEF G (d + 9) K YX0_told 17 [some (.ref a0), some (.int b0), some (.int b1)] [.int r4] g Q
    refine ez_if_ne (tgt := 23) dX0_told_17 (by decide) (fun hc => ?_) (fun hc => ?_)
    · replace h := zif_f hc h
      refine ez_iload_n (i := 2) (x := b1) dX0_told_23 rfl rfl ?_
      refine ez_bipush (v := 6) dX0_told_24 (by decide) ?_
      refine ez_bipush (v := 19) dX0_told_26 (by decide) ?_
      obtain ⟨r7, hq9, h⟩ := zbj_some h
      refine ez_callS (Y' := YX0_isIn) (vs := [.int b1, .int (6 : Int32), .int (19 : Int32)]) (rest := []) dX0_told_28 rfl zkX0_isIn q306 q307 q52 znX0_isIn (Nat.le_of_ble_eq_true rfl) (Nat.le_of_ble_eq_true rfl) rfl (wX0_isIn (d := d + 8) hq9 (zBack_v ?_))
      show zEF G (d + 9) K YX0_told 31 [some (.ref a0), some (.int b0), some (.int b1)] [.int r7] g Q
      refine ez_if_eq (tgt := 46) dX0_told_31 (by decide) (fun hc => ?_) (fun hc => ?_)
      · replace h := zif_t hc h
        refine ez_aload_n (i := 0) (v := .ref a0) dX0_told_46 rfl rfl rfl ?_
        refine ez_aload_n (i := 0) (v := .ref a0) dX0_told_47 rfl rfl rfl ?_
        obtain ⟨a10, hx11, h⟩ := zbj_some h
        refine gX0_55 dX0_told_48 rfl (zgN_some hx11) ?_
        show zEF G (d + 9) K YX0_told 51 [some (.ref a0), some (.int b0), some (.int b1)] [.ref a10, .ref a0] g Q
        refine ez_iload_n (i := 1) (x := b0) dX0_told_51 rfl rfl ?_
        obtain ⟨a12, hx13, h⟩ := zbj_some h
        refine lX_aa9 dX0_told_52 (zaN_some hx13) ?_
        show zEF G (d + 9) K YX0_told 53 [some (.ref a0), some (.int b0), some (.int b1)] [.ref a12, .ref a0] g Q
        refine ez_iload_n (i := 2) (x := b1) dX0_told_53 rfl rfl ?_
        obtain ⟨ob14, hx15, h⟩ := zbj_some h
        obtain ⟨r16, g17, hq18, h⟩ := zbd_some h
        refine ez_callV (C := RX0) (Tt := TX0) (N := 20) (Y' := YX0_of) (a := a0) (vs := [.ref a12, .int b1]) (rest := []) dX0_told_54 rfl zkX0_of q894 q896 rfl slX0_of (zob1 hx15) znX0_of (Nat.le_of_ble_eq_true rfl) (Nat.le_of_ble_eq_true rfl) rfl (wX0_of (d := d + 6) hq18 (zBack_v ?_))
        show zEF G (d + 9) K YX0_told 57 [some (.ref a0), some (.int b0), some (.int b1)] [.int r16] g17 Q
        obtain rfl := Option.some.inj h
        exact ez_iret dX0_told_57 rfl rfl kq
      · replace h := zif_f hc h
        refine ez_aload_n (i := 0) (v := .ref a0) dX0_told_34 rfl rfl rfl ?_
        refine ez_iload_n (i := 1) (x := b0) dX0_told_35 rfl rfl ?_
        refine ez_iload_n (i := 2) (x := b1) dX0_told_36 rfl rfl ?_
        refine ez_bipush (v := 6) dX0_told_37 (by decide) ?_
        refine ez_isub dX0_told_39 ?_
        obtain ⟨ob19, hx20, h⟩ := zbj_some h
        obtain ⟨r21, g22, hq23, h⟩ := zbd_some h
        refine ez_callV (C := RX0) (Tt := TX0) (N := 20) (Y' := YX0_plugAt) (a := a0) (vs := [.int b0, .int (b1 - (6 : Int32))]) (rest := []) dX0_told_40 rfl zkX0_plugAt q886 q888 rfl slX0_plugAt (zob1 hx20) znX0_plugAt (Nat.le_of_ble_eq_true rfl) (Nat.le_of_ble_eq_true rfl) rfl (wX0_plugAt (d := d + 0) hq23 (zBack_v ?_))
        show zEF G (d + 9) K YX0_told 43 [some (.ref a0), some (.int b0), some (.int b1)] [.int r21] g22 Q
        refine ez_goto (tgt := 57) dX0_told_43 (by decide) ?_
        obtain rfl := Option.some.inj h
        exact ez_iret dX0_told_57 rfl rfl kq
    · replace h := zif_t hc h
      refine ez_bipush (v := -102) dX0_told_20 (by decide) ?_
      obtain rfl := Option.some.inj h
      exact ez_iret dX0_told_22 rfl rfl kq
  · replace h := zif_t hc h
    refine ez_bipush (v := -101) dX0_told_7 (by decide) ?_
    obtain rfl := Option.some.inj h
    exact ez_iret dX0_told_9 rfl rfl kq
def YX0_worker : zM := (yX0_worker, cX0_worker, 2, (Option.some Jvm.ClassFile.FieldType.int), [], false)
theorem zkX0_worker : zMok YX0_worker := ⟨rfl, q901, by decide +kernel, by decide +kernel⟩
theorem znX0_worker : (parseMethodDescriptor YX0_worker.nm.desc).map (fun d => d.parameters.length) = some 1 := by decide +kernel
noncomputable def fX0_worker (g : zS) (a0 : Nat) (b0 : Int32) : Option (Int32 × zS) := zbj (zob g [0] a0) (fun ob1 => zbd (fX0_isWorker g a0 b0) (fun r3 g4 => if r3 = 0 then some ((-101 : Int32), g4) else zbj (zgN g4 [0] a0 5) (fun a6 => zbj (zaI g4 0 a6 b0) (fun e8 => some (e8, g4)))))
theorem wX0_worker {G : zG} {d : Nat} {K : List Nat} {Q : zO → zS → Prop} {g : zS} {a0 : Nat} {b0 : Int32} {p : Int32 × zS} (h : fX0_worker g a0 b0 = some p) (kq : Q (.inl (some (.int p.1))) p.2) : zEM G (d + 2) K YX0_worker [.ref a0, .int b0] g Q := by
  show zEF G (d + 2) K YX0_worker 0 [some (.ref a0), some (.int b0)] [] g Q
  unfold fX0_worker at h
  refine ez_aload_n (i := 0) (v := .ref a0) dX0_worker_0 rfl rfl rfl ?_
  refine ez_iload_n (i := 1) (x := b0) dX0_worker_1 rfl rfl ?_
  obtain ⟨ob1, hx2, h⟩ := zbj_some h
  obtain ⟨r3, g4, hq5, h⟩ := zbd_some h
  refine ez_callV (C := RX0) (Tt := TX0) (N := 20) (Y' := YX0_isWorker) (a := a0) (vs := [.int b0]) (rest := []) dX0_worker_2 rfl zkX0_isWorker q711 q713 rfl slX0_isWorker (zob1 hx2) znX0_isWorker (Nat.le_of_ble_eq_true rfl) (Nat.le_of_ble_eq_true rfl) rfl (wX0_isWorker (d := d + 0) hq5 (zBack_v ?_))
  show zEF G (d + 2) K YX0_worker 5 [some (.ref a0), some (.int b0)] [.int r3] g4 Q
  refine ez_if_eq (tgt := 17) dX0_worker_5 (by decide) (fun hc => ?_) (fun hc => ?_)
  · replace h := zif_t hc h
    refine ez_bipush (v := -101) dX0_worker_17 (by decide) ?_
    obtain rfl := Option.some.inj h
    exact ez_iret dX0_worker_19 rfl rfl kq
  · replace h := zif_f hc h
    refine ez_aload_n (i := 0) (v := .ref a0) dX0_worker_8 rfl rfl rfl ?_
    obtain ⟨a6, hx7, h⟩ := zbj_some h
    refine gX0_59 dX0_worker_9 rfl (zgN_some hx7) ?_
    show zEF G (d + 2) K YX0_worker 12 [some (.ref a0), some (.int b0)] [.ref a6] g4 Q
    refine ez_iload_n (i := 1) (x := b0) dX0_worker_12 rfl rfl ?_
    obtain ⟨e8, hx9, h⟩ := zbj_some h
    refine lX_ia dX0_worker_13 hx9 ?_
    refine ez_goto (tgt := 19) dX0_worker_14 (by decide) ?_
    obtain rfl := Option.some.inj h
    exact ez_iret dX0_worker_19 rfl rfl kq
def YX0_fault : zM := (yX0_fault, cX0_fault, 3, (Option.some Jvm.ClassFile.FieldType.int), [], false)
theorem zkX0_fault : zMok YX0_fault := ⟨rfl, q905, by decide +kernel, by decide +kernel⟩
theorem znX0_fault : (parseMethodDescriptor YX0_fault.nm.desc).map (fun d => d.parameters.length) = some 2 := by decide +kernel
noncomputable def fX0_fault (g : zS) (a0 : Nat) (b0 : Int32) (b1 : Int32) : Option (Int32 × zS) := zbj (fX0_isIn b1 (0 : Int32) (4 : Int32)) (fun r1 => if r1 = 0 then some ((-102 : Int32), g) else zbj (zgI g [0] a0 16) (fun i4 => zbj (fJ11_min i4 (100 : Int32)) (fun r6 => zbj (fX0_isIn b0 (0 : Int32) (r6 - (1 : Int32))) (fun r9 => if r9 = 0 then some ((-1 : Int32), g) else zbj (zgN g [0] a0 15) (fun a12 => zbj (zaI g 0 a12 (((5 : Int32) * b0) + b1)) (fun e14 => some (e14, g)))))))
theorem wX0_fault {G : zG} {d : Nat} {K : List Nat} {Q : zO → zS → Prop} {g : zS} {a0 : Nat} {b0 : Int32} {b1 : Int32} {p : Int32 × zS} (h : fX0_fault g a0 b0 b1 = some p) (kq : Q (.inl (some (.int p.1))) p.2) : zEM G (d + 1) K YX0_fault [.ref a0, .int b0, .int b1] g Q := by
  show zEF G (d + 1) K YX0_fault 0 [some (.ref a0), some (.int b0), some (.int b1)] [] g Q
  unfold fX0_fault at h
  refine ez_iload_n (i := 2) (x := b1) dX0_fault_0 rfl rfl ?_
  refine ez_iconst (v := 0) dX0_fault_1 (by decide) ?_
  refine ez_iconst (v := 4) dX0_fault_2 (by decide) ?_
  obtain ⟨r1, hq3, h⟩ := zbj_some h
  refine ez_callS (Y' := YX0_isIn) (vs := [.int b1, .int (0 : Int32), .int (4 : Int32)]) (rest := []) dX0_fault_3 rfl zkX0_isIn q306 q307 q52 znX0_isIn (Nat.le_of_ble_eq_true rfl) (Nat.le_of_ble_eq_true rfl) rfl (wX0_isIn (d := d + 0) hq3 (zBack_v ?_))
  show zEF G (d + 1) K YX0_fault 6 [some (.ref a0), some (.int b0), some (.int b1)] [.int r1] g Q
  refine ez_if_ne (tgt := 12) dX0_fault_6 (by decide) (fun hc => ?_) (fun hc => ?_)
  · replace h := zif_f hc h
    refine ez_iload_n (i := 1) (x := b0) dX0_fault_12 rfl rfl ?_
    refine ez_iconst (v := 0) dX0_fault_13 (by decide) ?_
    refine ez_aload_n (i := 0) (v := .ref a0) dX0_fault_14 rfl rfl rfl ?_
    obtain ⟨i4, hx5, h⟩ := zbj_some h
    refine gX0_314 dX0_fault_15 rfl hx5 ?_
    refine ez_bipush (v := 100) dX0_fault_18 (by decide) ?_
    obtain ⟨r6, hq8, h⟩ := zbj_some h
    refine ez_callS (Y' := YJ11_min) (vs := [.int i4, .int (100 : Int32)]) (rest := [.int (0 : Int32), .int b0]) dX0_fault_20 rfl zkJ11_min q906 q907 q78 znJ11_min (Nat.le_of_ble_eq_true rfl) (Nat.le_of_ble_eq_true rfl) rfl (wJ11_min (d := d + 0) hq8 (zBack_v ?_))
    show zEF G (d + 1) K YX0_fault 23 [some (.ref a0), some (.int b0), some (.int b1)] [.int r6, .int (0 : Int32), .int b0] g Q
    refine ez_iconst (v := 1) dX0_fault_23 (by decide) ?_
    refine ez_isub dX0_fault_24 ?_
    obtain ⟨r9, hq11, h⟩ := zbj_some h
    refine ez_callS (Y' := YX0_isIn) (vs := [.int b0, .int (0 : Int32), .int (r6 - (1 : Int32))]) (rest := []) dX0_fault_25 rfl zkX0_isIn q306 q307 q52 znX0_isIn (Nat.le_of_ble_eq_true rfl) (Nat.le_of_ble_eq_true rfl) rfl (wX0_isIn (d := d + 0) hq11 (zBack_v ?_))
    show zEF G (d + 1) K YX0_fault 28 [some (.ref a0), some (.int b0), some (.int b1)] [.int r9] g Q
    refine ez_if_eq (tgt := 44) dX0_fault_28 (by decide) (fun hc => ?_) (fun hc => ?_)
    · replace h := zif_t hc h
      refine ez_iconst (v := -1) dX0_fault_44 (by decide) ?_
      obtain rfl := Option.some.inj h
      exact ez_iret dX0_fault_45 rfl rfl kq
    · replace h := zif_f hc h
      refine ez_aload_n (i := 0) (v := .ref a0) dX0_fault_31 rfl rfl rfl ?_
      obtain ⟨a12, hx13, h⟩ := zbj_some h
      refine gX0_74 dX0_fault_32 rfl (zgN_some hx13) ?_
      show zEF G (d + 1) K YX0_fault 35 [some (.ref a0), some (.int b0), some (.int b1)] [.ref a12] g Q
      refine ez_iconst (v := 5) dX0_fault_35 (by decide) ?_
      refine ez_iload_n (i := 1) (x := b0) dX0_fault_36 rfl rfl ?_
      refine ez_imul dX0_fault_37 ?_
      refine ez_iload_n (i := 2) (x := b1) dX0_fault_38 rfl rfl ?_
      refine ez_iadd dX0_fault_39 ?_
      obtain ⟨e14, hx15, h⟩ := zbj_some h
      refine lX_ia dX0_fault_40 hx15 ?_
      refine ez_goto (tgt := 45) dX0_fault_41 (by decide) ?_
      obtain rfl := Option.some.inj h
      exact ez_iret dX0_fault_45 rfl rfl kq
  · replace h := zif_t hc h
    refine ez_bipush (v := -102) dX0_fault_9 (by decide) ?_
    obtain rfl := Option.some.inj h
    exact ez_iret dX0_fault_11 rfl rfl kq
def YX0_found : zM := (yX0_found, cX0_found, 2, (Option.some Jvm.ClassFile.FieldType.int), [], false)
theorem zkX0_found : zMok YX0_found := ⟨rfl, q912, by decide +kernel, by decide +kernel⟩
theorem znX0_found : (parseMethodDescriptor YX0_found.nm.desc).map (fun d => d.parameters.length) = some 1 := by decide +kernel
noncomputable def fX0_found (g : zS) (a0 : Nat) (b0 : Int32) : Option (Int32 × zS) := zbj (fX0_isIn b0 (1 : Int32) (6 : Int32)) (fun r1 => if r1 = 0 then some ((-102 : Int32), g) else zbj (zgN g [0] a0 14) (fun a4 => zbj (zaI g 0 a4 b0) (fun e6 => some (e6, g))))
theorem wX0_found {G : zG} {d : Nat} {K : List Nat} {Q : zO → zS → Prop} {g : zS} {a0 : Nat} {b0 : Int32} {p : Int32 × zS} (h : fX0_found g a0 b0 = some p) (kq : Q (.inl (some (.int p.1))) p.2) : zEM G (d + 1) K YX0_found [.ref a0, .int b0] g Q := by
  show zEF G (d + 1) K YX0_found 0 [some (.ref a0), some (.int b0)] [] g Q
  unfold fX0_found at h
  refine ez_iload_n (i := 1) (x := b0) dX0_found_0 rfl rfl ?_
  refine ez_iconst (v := 1) dX0_found_1 (by decide) ?_
  refine ez_bipush (v := 6) dX0_found_2 (by decide) ?_
  obtain ⟨r1, hq3, h⟩ := zbj_some h
  refine ez_callS (Y' := YX0_isIn) (vs := [.int b0, .int (1 : Int32), .int (6 : Int32)]) (rest := []) dX0_found_4 rfl zkX0_isIn q306 q307 q52 znX0_isIn (Nat.le_of_ble_eq_true rfl) (Nat.le_of_ble_eq_true rfl) rfl (wX0_isIn (d := d + 0) hq3 (zBack_v ?_))
  show zEF G (d + 1) K YX0_found 7 [some (.ref a0), some (.int b0)] [.int r1] g Q
  refine ez_if_eq (tgt := 19) dX0_found_7 (by decide) (fun hc => ?_) (fun hc => ?_)
  · replace h := zif_t hc h
    refine ez_bipush (v := -102) dX0_found_19 (by decide) ?_
    obtain rfl := Option.some.inj h
    exact ez_iret dX0_found_21 rfl rfl kq
  · replace h := zif_f hc h
    refine ez_aload_n (i := 0) (v := .ref a0) dX0_found_10 rfl rfl rfl ?_
    obtain ⟨a4, hx5, h⟩ := zbj_some h
    refine gX0_71 dX0_found_11 rfl (zgN_some hx5) ?_
    show zEF G (d + 1) K YX0_found 14 [some (.ref a0), some (.int b0)] [.ref a4] g Q
    refine ez_iload_n (i := 1) (x := b0) dX0_found_14 rfl rfl ?_
    obtain ⟨e6, hx7, h⟩ := zbj_some h
    refine lX_ia dX0_found_15 hx7 ?_
    refine ez_goto (tgt := 21) dX0_found_16 (by decide) ?_
    obtain rfl := Option.some.inj h
    exact ez_iret dX0_found_21 rfl rfl kq
def YX0_about : zM := (yX0_about, cX0_about, 2, (Option.some Jvm.ClassFile.FieldType.int), [], false)
theorem zkX0_about : zMok YX0_about := ⟨rfl, q916, by decide +kernel, by decide +kernel⟩
theorem znX0_about : (parseMethodDescriptor YX0_about.nm.desc).map (fun d => d.parameters.length) = some 1 := by decide +kernel
noncomputable def fX0_about (g : zS) (a0 : Nat) (b0 : Int32) : Option (Int32 × zS) := if b0 = (0 : Int32) then zbj (zgI g [0] a0 1) (fun i1 => some (i1, g)) else if b0 = (1 : Int32) then zbj (zgI g [0] a0 3) (fun i3 => some (i3, g)) else if b0 = (2 : Int32) then zbj (zgI g [0] a0 6) (fun i5 => some (i5, g)) else if b0 = (3 : Int32) then zbj (zgI g [0] a0 10) (fun i7 => some (i7, g)) else if b0 = (4 : Int32) then zbj (zgI g [0] a0 16) (fun i9 => some (i9, g)) else if b0 = (5 : Int32) then zbj (zgI g [0] a0 18) (fun i11 => some (i11, g)) else if b0 = (6 : Int32) then zbj (zgI g [0] a0 19) (fun i13 => some (i13, g)) else if b0 = (7 : Int32) then zbj (zgI g [0] a0 7) (fun i15 => if i15 = 0 then some ((0 : Int32), g) else some ((1 : Int32), g)) else if b0 = (8 : Int32) then zbj (zgI g [0] a0 9) (fun i17 => some (i17, g)) else if b0 = (9 : Int32) then zbj (zgI g [0] a0 12) (fun i19 => some (i19, g)) else if b0 = (10 : Int32) then zbj (zgI g [0] a0 13) (fun i21 => some (i21, g)) else some ((-102 : Int32), g)
theorem wX0_about {G : zG} {d : Nat} {K : List Nat} {Q : zO → zS → Prop} {g : zS} {a0 : Nat} {b0 : Int32} {p : Int32 × zS} (h : fX0_about g a0 b0 = some p) (kq : Q (.inl (some (.int p.1))) p.2) : zEM G (d + 0) K YX0_about [.ref a0, .int b0] g Q := by
  show zEF G (d + 0) K YX0_about 0 [some (.ref a0), some (.int b0)] [] g Q
  unfold fX0_about at h
  refine ez_iload_n (i := 1) (x := b0) dX0_about_0 rfl rfl ?_
  by_cases hs0 : b0 = (0 : Int32)
  · replace h := zif_t hs0 h
    refine ez_tableIn (tgt := 60) (off := 59) dX0_about_1 (by rw [hs0]; decide) (by rw [hs0]; decide) (by rw [hs0]; rfl) (by decide) ?_
    refine ez_aload_n (i := 0) (v := .ref a0) dX0_about_60 rfl rfl rfl ?_
    obtain ⟨i1, hx2, h⟩ := zbj_some h
    refine gX0_85 dX0_about_61 rfl hx2 ?_
    obtain rfl := Option.some.inj h
    exact ez_iret dX0_about_64 rfl rfl kq
  · replace h := zif_f hs0 h
    by_cases hs1 : b0 = (1 : Int32)
    · replace h := zif_t hs1 h
      refine ez_tableIn (tgt := 65) (off := 64) dX0_about_1 (by rw [hs1]; decide) (by rw [hs1]; decide) (by rw [hs1]; rfl) (by decide) ?_
      refine ez_aload_n (i := 0) (v := .ref a0) dX0_about_65 rfl rfl rfl ?_
      obtain ⟨i3, hx4, h⟩ := zbj_some h
      refine gX0_88 dX0_about_66 rfl hx4 ?_
      obtain rfl := Option.some.inj h
      exact ez_iret dX0_about_69 rfl rfl kq
    · replace h := zif_f hs1 h
      by_cases hs2 : b0 = (2 : Int32)
      · replace h := zif_t hs2 h
        refine ez_tableIn (tgt := 70) (off := 69) dX0_about_1 (by rw [hs2]; decide) (by rw [hs2]; decide) (by rw [hs2]; rfl) (by decide) ?_
        refine ez_aload_n (i := 0) (v := .ref a0) dX0_about_70 rfl rfl rfl ?_
        obtain ⟨i5, hx6, h⟩ := zbj_some h
        refine gX0_63 dX0_about_71 rfl hx6 ?_
        obtain rfl := Option.some.inj h
        exact ez_iret dX0_about_74 rfl rfl kq
      · replace h := zif_f hs2 h
        by_cases hs3 : b0 = (3 : Int32)
        · replace h := zif_t hs3 h
          refine ez_tableIn (tgt := 75) (off := 74) dX0_about_1 (by rw [hs3]; decide) (by rw [hs3]; decide) (by rw [hs3]; rfl) (by decide) ?_
          refine ez_aload_n (i := 0) (v := .ref a0) dX0_about_75 rfl rfl rfl ?_
          obtain ⟨i7, hx8, h⟩ := zbj_some h
          refine gX0_220 dX0_about_76 rfl hx8 ?_
          obtain rfl := Option.some.inj h
          exact ez_iret dX0_about_79 rfl rfl kq
        · replace h := zif_f hs3 h
          by_cases hs4 : b0 = (4 : Int32)
          · replace h := zif_t hs4 h
            refine ez_tableIn (tgt := 80) (off := 79) dX0_about_1 (by rw [hs4]; decide) (by rw [hs4]; decide) (by rw [hs4]; rfl) (by decide) ?_
            refine ez_aload_n (i := 0) (v := .ref a0) dX0_about_80 rfl rfl rfl ?_
            obtain ⟨i9, hx10, h⟩ := zbj_some h
            refine gX0_314 dX0_about_81 rfl hx10 ?_
            obtain rfl := Option.some.inj h
            exact ez_iret dX0_about_84 rfl rfl kq
          · replace h := zif_f hs4 h
            by_cases hs5 : b0 = (5 : Int32)
            · replace h := zif_t hs5 h
              refine ez_tableIn (tgt := 85) (off := 84) dX0_about_1 (by rw [hs5]; decide) (by rw [hs5]; decide) (by rw [hs5]; rfl) (by decide) ?_
              refine ez_aload_n (i := 0) (v := .ref a0) dX0_about_85 rfl rfl rfl ?_
              obtain ⟨i11, hx12, h⟩ := zbj_some h
              refine gX0_180 dX0_about_86 rfl hx12 ?_
              obtain rfl := Option.some.inj h
              exact ez_iret dX0_about_89 rfl rfl kq
            · replace h := zif_f hs5 h
              by_cases hs6 : b0 = (6 : Int32)
              · replace h := zif_t hs6 h
                refine ez_tableIn (tgt := 90) (off := 89) dX0_about_1 (by rw [hs6]; decide) (by rw [hs6]; decide) (by rw [hs6]; rfl) (by decide) ?_
                refine ez_aload_n (i := 0) (v := .ref a0) dX0_about_90 rfl rfl rfl ?_
                obtain ⟨i13, hx14, h⟩ := zbj_some h
                refine gX0_189 dX0_about_91 rfl hx14 ?_
                obtain rfl := Option.some.inj h
                exact ez_iret dX0_about_94 rfl rfl kq
              · replace h := zif_f hs6 h
                by_cases hs7 : b0 = (7 : Int32)
                · replace h := zif_t hs7 h
                  refine ez_tableIn (tgt := 95) (off := 94) dX0_about_1 (by rw [hs7]; decide) (by rw [hs7]; decide) (by rw [hs7]; rfl) (by decide) ?_
                  refine ez_aload_n (i := 0) (v := .ref a0) dX0_about_95 rfl rfl rfl ?_
                  obtain ⟨i15, hx16, h⟩ := zbj_some h
                  refine gX0_111 dX0_about_96 rfl hx16 ?_
                  refine ez_if_eq (tgt := 106) dX0_about_99 (by decide) (fun hc => ?_) (fun hc => ?_)
                  · replace h := zif_t hc h
                    refine ez_iconst (v := 0) dX0_about_106 (by decide) ?_
                    obtain rfl := Option.some.inj h
                    exact ez_iret dX0_about_107 rfl rfl kq
                  · replace h := zif_f hc h
                    refine ez_iconst (v := 1) dX0_about_102 (by decide) ?_
                    refine ez_goto (tgt := 107) dX0_about_103 (by decide) ?_
                    obtain rfl := Option.some.inj h
                    exact ez_iret dX0_about_107 rfl rfl kq
                · replace h := zif_f hs7 h
                  by_cases hs8 : b0 = (8 : Int32)
                  · replace h := zif_t hs8 h
                    refine ez_tableIn (tgt := 108) (off := 107) dX0_about_1 (by rw [hs8]; decide) (by rw [hs8]; decide) (by rw [hs8]; rfl) (by decide) ?_
                    refine ez_aload_n (i := 0) (v := .ref a0) dX0_about_108 rfl rfl rfl ?_
                    obtain ⟨i17, hx18, h⟩ := zbj_some h
                    refine gX0_226 dX0_about_109 rfl hx18 ?_
                    obtain rfl := Option.some.inj h
                    exact ez_iret dX0_about_112 rfl rfl kq
                  · replace h := zif_f hs8 h
                    by_cases hs9 : b0 = (9 : Int32)
                    · replace h := zif_t hs9 h
                      refine ez_tableIn (tgt := 113) (off := 112) dX0_about_1 (by rw [hs9]; decide) (by rw [hs9]; decide) (by rw [hs9]; rfl) (by decide) ?_
                      refine ez_aload_n (i := 0) (v := .ref a0) dX0_about_113 rfl rfl rfl ?_
                      obtain ⟨i19, hx20, h⟩ := zbj_some h
                      refine gX0_264 dX0_about_114 rfl hx20 ?_
                      obtain rfl := Option.some.inj h
                      exact ez_iret dX0_about_117 rfl rfl kq
                    · replace h := zif_f hs9 h
                      by_cases hs10 : b0 = (10 : Int32)
                      · replace h := zif_t hs10 h
                        refine ez_tableIn (tgt := 118) (off := 117) dX0_about_1 (by rw [hs10]; decide) (by rw [hs10]; decide) (by rw [hs10]; rfl) (by decide) ?_
                        refine ez_aload_n (i := 0) (v := .ref a0) dX0_about_118 rfl rfl rfl ?_
                        obtain ⟨i21, hx22, h⟩ := zbj_some h
                        refine gX0_261 dX0_about_119 rfl hx22 ?_
                        obtain rfl := Option.some.inj h
                        exact ez_iret dX0_about_122 rfl rfl kq
                      · replace h := zif_f hs10 h
                        have he0 : b0.toInt ≠ 0 := zsw_ne hs0
                        have he1 : b0.toInt ≠ 1 := zsw_ne hs1
                        have he2 : b0.toInt ≠ 2 := zsw_ne hs2
                        have he3 : b0.toInt ≠ 3 := zsw_ne hs3
                        have he4 : b0.toInt ≠ 4 := zsw_ne hs4
                        have he5 : b0.toInt ≠ 5 := zsw_ne hs5
                        have he6 : b0.toInt ≠ 6 := zsw_ne hs6
                        have he7 : b0.toInt ≠ 7 := zsw_ne hs7
                        have he8 : b0.toInt ≠ 8 := zsw_ne hs8
                        have he9 : b0.toInt ≠ 9 := zsw_ne hs9
                        have he10 : b0.toInt ≠ 10 := zsw_ne hs10
                        refine ez_tableOut (tgt := 123) dX0_about_1 (by omega) (by decide) ?_
                        refine ez_bipush (v := -102) dX0_about_123 (by decide) ?_
                        obtain rfl := Option.some.inj h
                        exact ez_iret dX0_about_125 rfl rfl kq
def YX0_withPlug : zM := (yX0_withPlug, cX0_withPlug, 7, (Option.some Jvm.ClassFile.FieldType.long), [], false)
theorem zkX0_withPlug : zMok YX0_withPlug := ⟨rfl, q925, by decide +kernel, by decide +kernel⟩
theorem znX0_withPlug : (parseMethodDescriptor YX0_withPlug.nm.desc).map (fun d => d.parameters.length) = some 2 := by decide +kernel
noncomputable def fX0_withPlug_L67 : Nat → zS → Int64 → Nat → Int32 → Option (Int64 × zS)
  | 0, _, _, _, _ => none
  | n + 1, g, y3, y5, y6 => zbj (zgR g [8, 9] y5 4) (fun o21 => zcs o21 (some (y3, g)) (fun a23 => zbj (zgR g [8, 9] y5 4) (fun o24 => zbj (o24) (fun a26 => zbj (zaln g a26) (fun n28 => if (Int32.ofNat n28) ≤ y6 then some (y3, g) else zbj (zgR g [8, 9] y5 4) (fun o31 => zbj (o31) (fun a33 => zbj (zaF g 1 a33 y6) (fun e35 => zbj (fJ8_floatToIntBits e35) (fun r37 => zlet (((31 : Int64) * y3) + (r37.toInt64)) (fun a40 => fX0_withPlug_L67 n g a40 y5 (y6 + (1 : Int32))))))))))))
noncomputable def fX0_withPlug (g : zS) (b0 : Int64) (b1 : Nat) : Option (Int64 × zS) := zbj (zob g [4, 5, 6, 7, 8, 9, 10, 11] b1) (fun ob1 => zbd (v_uses g b1) (fun r3 g4 => zlet (((31 : Int64) * b0) + (r3.toInt64)) (fun a6 => zbj (zob g4 [4, 5, 6, 7, 8, 9, 10, 11] b1) (fun ob7 => if (if ob7.1 = 8 ∨ ob7.1 = 9 then 1 else 0 : Int32) = 0 then some (a6, g4) else zbj (zob g4 [4, 5, 6, 7, 8, 9, 10, 11] b1) (fun ob9 => zgd (ob9.1 = 8 ∨ ob9.1 = 9) (zbj (zgI g4 [8, 9] b1 5) (fun i12 => zlet (((31 : Int64) * a6) + (i12.toInt64)) (fun a14 => zbj (zgR g4 [8, 9] b1 4) (fun o15 => zjoin (fun (g17 : zS) (v18 : Nat) (v19 : Int32) (v20 : Int64) => fX0_withPlug_L67 1000 g17 (v20 + (v19.toInt64)) v18 (0 : Int32) ) (fun j41 => zcs o15 (j41 g4 b1 (-1 : Int32) ((31 : Int64) * a14)) (fun a42 => zbj (zgR g4 [8, 9] b1 4) (fun o43 => zbj (o43) (fun a45 => zbj (zaln g4 a45) (fun n47 => j41 g4 b1 (Int32.ofNat n47) ((31 : Int64) * a14)))))))))))))))
theorem fX0_withPlug_L67_ok {G : zG} {d : Nat} {Q : zO → zS → Prop} : ∀ (n : Nat) (g : zS) (y3 : Int64) (y5 : Nat) (y6 : Int32) (p : Int64 × zS) (h : fX0_withPlug_L67 n g y3 y5 y6 = some p) (kq : Q (.inl (some (.long p.1))) p.2), zEF G (d + 2) [] YX0_withPlug 67 [none, none, none, some (.long y3), none, some (.ref y5), some (.int y6)] [] g Q := by
  intro n
  induction n with
  | zero =>
    intro g y3 y5 y6 p h kq
    rw [fX0_withPlug_L67] at h
    cases h
  | succ n ih =>
    intro g y3 y5 y6 p h kq
    rw [fX0_withPlug_L67] at h
    refine ez_aload (i := 5) (v := .ref y5) dX0_withPlug_67 rfl rfl ?_
    obtain ⟨o21, hx22, h⟩ := zbj_some h
    refine gX0_154 dX0_withPlug_69 rfl hx22 ?_
    rcases o21 with _ | a23
    · replace h := zcs_n h
      refine ez_ifnullN (tgt := 111) dX0_withPlug_72 (by decide) ?_
      refine ez_lload_n (i := 3) (x := y3) dX0_withPlug_111 rfl rfl ?_
      obtain rfl := Option.some.inj h
      exact ez_lret dX0_withPlug_112 rfl kq
    · replace h := zcs_s h
      refine ez_ifnull dX0_withPlug_72 ?_
      refine ez_iload (i := 6) (x := y6) dX0_withPlug_75 rfl ?_
      refine ez_aload (i := 5) (v := .ref y5) dX0_withPlug_77 rfl rfl ?_
      obtain ⟨o24, hx25, h⟩ := zbj_some h
      refine gX0_154 dX0_withPlug_79 rfl hx25 ?_
      obtain ⟨a26, ho27, h⟩ := zbj_some h
      rw [ho27]
      obtain ⟨n28, hx29, h⟩ := zbj_some h
      obtain ⟨tT30, xT30, hE30, hT30, hN30⟩ := zaln_some hx29
      refine ez_alen (v := Int32.ofNat n28) dX0_withPlug_82 hE30 hT30 (by rw [hN30]) ?_
      refine ez_icmp_ge (tgt := 111) dX0_withPlug_83 (by decide) (fun hc => ?_) (fun hc => ?_)
      · replace h := zif_t hc h
        refine ez_lload_n (i := 3) (x := y3) dX0_withPlug_111 rfl rfl ?_
        obtain rfl := Option.some.inj h
        exact ez_lret dX0_withPlug_112 rfl kq
      · replace h := zif_f hc h
        refine ez_ldc2l dX0_withPlug_86 rfl q922 ?_
        refine ez_lload_n (i := 3) (x := y3) dX0_withPlug_89 rfl rfl ?_
        refine ez_lmul dX0_withPlug_90 ?_
        refine ez_aload (i := 5) (v := .ref y5) dX0_withPlug_91 rfl rfl ?_
        obtain ⟨o31, hx32, h⟩ := zbj_some h
        refine gX0_154 dX0_withPlug_93 rfl hx32 ?_
        refine ez_iload (i := 6) (x := y6) dX0_withPlug_96 rfl ?_
        obtain ⟨a33, ho34, h⟩ := zbj_some h
        rw [ho34]
        obtain ⟨e35, hx36, h⟩ := zbj_some h
        refine lX_fa dX0_withPlug_98 hx36 ?_
        obtain ⟨r37, hq39, h⟩ := zbj_some h
        refine ez_callS (Y' := YJ8_floatToIntBits) (vs := [.float e35]) (rest := [.long ((31 : Int64) * y3)]) dX0_withPlug_99 rfl zkJ8_floatToIntBits q416 q417 q65 znJ8_floatToIntBits (Nat.le_of_ble_eq_true rfl) (Nat.le_of_ble_eq_true rfl) rfl (wJ8_floatToIntBits (d := d + 0) hq39 (zBack_v ?_))
        show zEF G (d + 2) [] YX0_withPlug 102 [none, none, none, some (.long y3), none, some (.ref y5), some (.int y6)] [.int r37, .long ((31 : Int64) * y3)] g Q
        refine ez_i2l dX0_withPlug_102 ?_
        refine ez_ladd dX0_withPlug_103 ?_
        refine ez_lstore_n (i := 3) dX0_withPlug_104 rfl (show 4 < 7 by decide) ?_
        refine zlet_use (fun a40 => zEF G (d + 2) [] YX0_withPlug 105 [none, none, none, some (.long a40), none, some (.ref y5), some (.int y6)] [] g Q) h (fun a40 h => ?_)
        refine ez_iinc (x := y6) (v := (y6 + (1 : Int32))) dX0_withPlug_105 rfl rfl (show 6 < 7 by decide) ?_
        show zEF G (d + 2) [] YX0_withPlug 108 [none, none, none, some (.long a40), none, some (.ref y5), some (.int (y6 + (1 : Int32)))] [] g Q
        refine ez_goto (tgt := 67) dX0_withPlug_108 (by decide) ?_
        exact ih g a40 y5 (y6 + (1 : Int32)) _ h kq
theorem wX0_withPlug {G : zG} {d : Nat} {Q : zO → zS → Prop} {g : zS} {b0 : Int64} {b1 : Nat} {p : Int64 × zS} (h : fX0_withPlug g b0 b1 = some p) (kq : Q (.inl (some (.long p.1))) p.2) : zEM G (d + 2) [] YX0_withPlug [.long b0, .ref b1] g Q := by
  show zEF G (d + 2) [] YX0_withPlug 0 [some (.long b0), none, some (.ref b1), none, none, none, none] [] g Q
  unfold fX0_withPlug at h
  refine ez_ldc2l dX0_withPlug_0 rfl q922 ?_
  refine ez_lload_n (i := 0) (x := b0) dX0_withPlug_3 rfl rfl ?_
  refine ez_lmul dX0_withPlug_4 ?_
  refine ez_aload_n (i := 2) (v := .ref b1) dX0_withPlug_5 rfl rfl rfl ?_
  obtain ⟨ob1, hx2, h⟩ := zbj_some h
  obtain ⟨r3, g4, hq5, h⟩ := zbd_some h
  refine vw_uses_ScoreThreads (a := b1) (d := d + 1) (rest := [.long ((31 : Int64) * b0)]) dX0_withPlug_6 rfl hx2 (Nat.le_of_ble_eq_true rfl) hq5 (zBack_v ?_)
  show zEF G (d + 2) [] YX0_withPlug 9 [some (.long b0), none, some (.ref b1), none, none, none, none] [.int r3, .long ((31 : Int64) * b0)] g4 Q
  refine ez_i2l dX0_withPlug_9 ?_
  refine ez_ladd dX0_withPlug_10 ?_
  refine ez_lstore_n (i := 3) dX0_withPlug_11 rfl (show 4 < 7 by decide) ?_
  refine zlet_use (fun a6 => zEF G (d + 2) [] YX0_withPlug 12 [some (.long b0), none, some (.ref b1), some (.long a6), none, none, none] [] g4 Q) h (fun a6 h => ?_)
  refine ez_aload_n (i := 2) (v := .ref b1) dX0_withPlug_12 rfl rfl rfl ?_
  obtain ⟨ob7, hx8, h⟩ := zbj_some h
  refine iX_echo dX0_withPlug_13 rfl hx8 ?_
  refine ez_if_eq (tgt := 111) dX0_withPlug_16 (by decide) (fun hc => ?_) (fun hc => ?_)
  · replace h := zif_t hc h
    refine ez_lload_n (i := 3) (x := a6) dX0_withPlug_111 rfl rfl ?_
    obtain rfl := Option.some.inj h
    exact ez_lret dX0_withPlug_112 rfl kq
  · replace h := zif_f hc h
    refine ez_aload_n (i := 2) (v := .ref b1) dX0_withPlug_19 rfl rfl rfl ?_
    obtain ⟨ob9, hx10, h⟩ := zbj_some h
    obtain ⟨hg11, h⟩ := zgd_some h
    refine cX_echo dX0_withPlug_20 rfl hx10 hg11 ?_
    refine ez_astore (i := 5) dX0_withPlug_23 (show 5 < 7 by decide) rfl ?_
    show zEF G (d + 2) [] YX0_withPlug 25 [some (.long b0), none, some (.ref b1), some (.long a6), none, some (.ref b1), none] [] g4 Q
    refine ez_ldc2l dX0_withPlug_25 rfl q922 ?_
    refine ez_lload_n (i := 3) (x := a6) dX0_withPlug_28 rfl rfl ?_
    refine ez_lmul dX0_withPlug_29 ?_
    refine ez_aload (i := 5) (v := .ref b1) dX0_withPlug_30 rfl rfl ?_
    obtain ⟨i12, hx13, h⟩ := zbj_some h
    refine gX0_151 dX0_withPlug_32 rfl hx13 ?_
    refine ez_i2l dX0_withPlug_35 ?_
    refine ez_ladd dX0_withPlug_36 ?_
    refine ez_lstore_n (i := 3) dX0_withPlug_37 rfl (show 4 < 7 by decide) ?_
    refine zlet_use (fun a14 => zEF G (d + 2) [] YX0_withPlug 38 [some (.long b0), none, some (.ref b1), some (.long a14), none, some (.ref b1), none] [] g4 Q) h (fun a14 h => ?_)
    refine ez_ldc2l dX0_withPlug_38 rfl q922 ?_
    refine ez_lload_n (i := 3) (x := a14) dX0_withPlug_41 rfl rfl ?_
    refine ez_lmul dX0_withPlug_42 ?_
    refine ez_aload (i := 5) (v := .ref b1) dX0_withPlug_43 rfl rfl ?_
    obtain ⟨o15, hx16, h⟩ := zbj_some h
    refine gX0_154 dX0_withPlug_45 rfl hx16 ?_
    refine zjoin_use (fun (j : zS → Nat → Int32 → Int64 → Option (Int64 × zS)) => ∀ (g17 : zS) (v18 : Nat) (v19 : Int32) (v20 : Int64), j g17 v18 v19 v20 = some p → zEF G (d + 2) [] YX0_withPlug 61 [none, none, none, none, none, some (.ref v18), none] [.int v19, .long v20] g17 Q) h (fun g17 v18 v19 v20 h => ?_) (fun j41 hj41 h => ?_)
    · refine ez_i2l dX0_withPlug_61 ?_
      refine ez_ladd dX0_withPlug_62 ?_
      refine ez_lstore_n (i := 3) dX0_withPlug_63 rfl (show 4 < 7 by decide) ?_
      show zEF G (d + 2) [] YX0_withPlug 64 [none, none, none, some (.long (v20 + (v19.toInt64))), none, some (.ref v18), none] [] g17 Q
      refine ez_iconst (v := 0) dX0_withPlug_64 (by decide) ?_
      refine ez_istore (i := 6) dX0_withPlug_65 (show 6 < 7 by decide) ?_
      show zEF G (d + 2) [] YX0_withPlug 67 [none, none, none, some (.long (v20 + (v19.toInt64))), none, some (.ref v18), some (.int (0 : Int32))] [] g17 Q
      refine fX0_withPlug_L67_ok (d := d) 1000 g17 (v20 + (v19.toInt64)) v18 (0 : Int32) _ h  kq
    · rcases o15 with _ | a42
      · replace h := zcs_n h
        refine ez_ifnonnullN dX0_withPlug_48 ?_
        refine ez_iconst (v := -1) dX0_withPlug_51 (by decide) ?_
        refine ez_goto (tgt := 61) dX0_withPlug_52 (by decide) ?_
        refine ez_clr 0 ?_
        refine ez_clr 2 ?_
        refine ez_clr 3 ?_
        exact hj41 g4 b1 (-1 : Int32) ((31 : Int64) * a14) h
      · replace h := zcs_s h
        refine ez_ifnonnull (tgt := 55) dX0_withPlug_48 (by decide) ?_
        refine ez_aload (i := 5) (v := .ref b1) dX0_withPlug_55 rfl rfl ?_
        obtain ⟨o43, hx44, h⟩ := zbj_some h
        refine gX0_154 dX0_withPlug_57 rfl hx44 ?_
        obtain ⟨a45, ho46, h⟩ := zbj_some h
        rw [ho46]
        obtain ⟨n47, hx48, h⟩ := zbj_some h
        obtain ⟨tT49, xT49, hE49, hT49, hN49⟩ := zaln_some hx48
        refine ez_alen (v := Int32.ofNat n47) dX0_withPlug_60 hE49 hT49 (by rw [hN49]) ?_
        refine ez_clr 0 ?_
        refine ez_clr 2 ?_
        refine ez_clr 3 ?_
        exact hj41 g4 b1 (Int32.ofNat n47) ((31 : Int64) * a14) h
def YX0_digest : zM := (yX0_digest, cX0_digest, 5, (Option.some Jvm.ClassFile.FieldType.long), [], false)
theorem zkX0_digest : zMok YX0_digest := ⟨rfl, q920, by decide +kernel, by decide +kernel⟩
theorem znX0_digest : (parseMethodDescriptor YX0_digest.nm.desc).map (fun d => d.parameters.length) = some 0 := by decide +kernel
noncomputable def fX0_digest_L6 : Nat → zS → Nat → Int64 → Int32 → (zS → Nat → Int64 → Option (Int64 × zS)) → Option (Int64 × zS)
  | 0, _, _, _, _, _ => none
  | n + 1, g, y0, y1, y3, k40 => zbj (zgI g [0] y0 10) (fun i1 => if ((8 : Int32) * i1) ≤ y3 then k40 g y0 y1 else zbj (zgN g [0] y0 11) (fun a3 => zbj (zaF g 1 a3 y3) (fun e5 => zbj (fJ8_floatToIntBits e5) (fun r7 => zlet (((31 : Int64) * y1) + (r7.toInt64)) (fun a10 => fX0_digest_L6 n g y0 a10 (y3 + (1 : Int32)) k40)))))
noncomputable def fX0_digest_L42 : Nat → zS → Nat → Int64 → Int32 → (zS → Nat → Int64 → Option (Int64 × zS)) → Option (Int64 × zS)
  | 0, _, _, _, _, _ => none
  | n + 1, g, y0, y1, y3, k67 => zbj (zgI g [0] y0 3) (fun i14 => if i14 ≤ y3 then k67 g y0 y1 else zbj (zgN g [0] y0 2) (fun a16 => zbj (zaN g 8 a16 y3) (fun a18 => zbd (fX0_withPlug g y1 a18) (fun r20 g21 => fX0_digest_L42 n g21 y0 r20 (y3 + (1 : Int32)) k67))))
noncomputable def fX0_digest_L78 : Nat → zS → Nat → Int64 → Int32 → Int32 → (zS → Nat → Int64 → Int32 → Option (Int64 × zS)) → Option (Int64 × zS)
  | 0, _, _, _, _, _, _ => none
  | n + 1, g, y0, y1, y3, y4, k111 => if (6 : Int32) ≤ y4 then k111 g y0 y1 y3 else zbj (zgN g [0] y0 4) (fun a26 => zbj (zaN g 9 a26 y3) (fun a28 => zbj (zob g [0] y0) (fun ob30 => zbd (fX0_of g y0 a28 y4) (fun r32 g33 => zlet (((31 : Int64) * y1) + (r32.toInt64)) (fun a35 => fX0_digest_L78 n g33 y0 a35 y3 (y4 + (1 : Int32)) k111)))))
noncomputable def fX0_digest_L114 : Nat → zS → Nat → Int64 → Int32 → Int32 → (zS → Nat → Int64 → Int32 → Option (Int64 × zS)) → Option (Int64 × zS)
  | 0, _, _, _, _, _, _ => none
  | n + 1, g, y0, y1, y3, y4, k141 => if (4 : Int32) ≤ y4 then k141 g y0 y1 y3 else zbj (zob g [0] y0) (fun ob40 => zbd (fX0_plugAt g y0 y3 y4) (fun r42 g43 => zlet (((31 : Int64) * y1) + (r42.toInt64)) (fun a45 => fX0_digest_L114 n g43 y0 a45 y3 (y4 + (1 : Int32)) k141)))
noncomputable def fX0_digest_L69 : Nat → zS → Nat → Int64 → Int32 → (zS → Nat → Int64 → Option (Int64 × zS)) → Option (Int64 × zS)
  | 0, _, _, _, _, _ => none
  | n + 1, g, y0, y1, y3, k147 => if (8 : Int32) ≤ y3 then k147 g y0 y1 else fX0_digest_L78 1000 g y0 y1 y3 (0 : Int32) (fun (g36 : zS) (x37 : Nat) (x38 : Int64) (x39 : Int32) => fX0_digest_L114 1000 g36 x37 x38 x39 (0 : Int32) (fun (g46 : zS) (x47 : Nat) (x48 : Int64) (x49 : Int32) => fX0_digest_L69 n g46 x47 x48 (x49 + (1 : Int32)) k147))
noncomputable def fX0_digest_L149 : Nat → zS → Nat → Int64 → Int32 → (zS → Nat → Int64 → Option (Int64 × zS)) → Option (Int64 × zS)
  | 0, _, _, _, _, _ => none
  | n + 1, g, y0, y1, y3, k184 => zbj (zgI g [0] y0 16) (fun i53 => zbj (fJ11_min i53 (100 : Int32)) (fun r55 => if ((5 : Int32) * r55) ≤ y3 then k184 g y0 y1 else zbj (zgN g [0] y0 15) (fun a58 => zbj (zaI g 0 a58 y3) (fun e60 => zlet (((31 : Int64) * y1) + (e60.toInt64)) (fun a62 => fX0_digest_L149 n g y0 a62 (y3 + (1 : Int32)) k184)))))
noncomputable def fX0_digest (g : zS) (a0 : Nat) : Option (Int64 × zS) := fX0_digest_L6 1000 g a0 (17 : Int64) (0 : Int32) (fun (g11 : zS) (x12 : Nat) (x13 : Int64) => fX0_digest_L42 1000 g11 x12 x13 (0 : Int32) (fun (g23 : zS) (x24 : Nat) (x25 : Int64) => fX0_digest_L69 1000 g23 x24 x25 (0 : Int32) (fun (g50 : zS) (x51 : Nat) (x52 : Int64) => fX0_digest_L149 1000 g50 x51 x52 (0 : Int32) (fun (g63 : zS) (x64 : Nat) (x65 : Int64) => zbj (zgI g63 [0] x64 19) (fun i66 => some ((((31 : Int64) * x65) + (i66.toInt64)), g63))))))
theorem fX0_digest_L6_ok {G : zG} {d : Nat} {Q : zO → zS → Prop} : ∀ (n : Nat) (g : zS) (y0 : Nat) (y1 : Int64) (y3 : Int32) (k40 : zS → Nat → Int64 → Option (Int64 × zS)) (p : Int64 × zS) (h : fX0_digest_L6 n g y0 y1 y3 k40 = some p) (hk40 : ∀ (g : zS) (x0 : Nat) (x1 : Int64), k40 g x0 x1 = some p → zEF G (d + 9) [] YX0_digest 40 [some (.ref x0), some (.long x1), none, none, none] [] g Q) (kq : Q (.inl (some (.long p.1))) p.2), zEF G (d + 9) [] YX0_digest 6 [some (.ref y0), some (.long y1), none, some (.int y3), none] [] g Q := by
  intro n
  induction n with
  | zero =>
    intro g y0 y1 y3 k40 p h hk40 kq
    rw [fX0_digest_L6] at h
    cases h
  | succ n ih =>
    intro g y0 y1 y3 k40 p h hk40 kq
    rw [fX0_digest_L6] at h
    refine ez_iload_n (i := 3) (x := y3) dX0_digest_6 rfl rfl ?_
    refine ez_bipush (v := 8) dX0_digest_7 (by decide) ?_
    refine ez_aload_n (i := 0) (v := .ref y0) dX0_digest_9 rfl rfl rfl ?_
    obtain ⟨i1, hx2, h⟩ := zbj_some h
    refine gX0_220 dX0_digest_10 rfl hx2 ?_
    refine ez_imul dX0_digest_13 ?_
    refine ez_icmp_ge (tgt := 40) dX0_digest_14 (by decide) (fun hc => ?_) (fun hc => ?_)
    · replace h := zif_t hc h
      refine ez_clr 3 ?_
      exact hk40 g y0 y1 h
    · replace h := zif_f hc h
      refine ez_ldc2l dX0_digest_17 rfl q922 ?_
      refine ez_lload_n (i := 1) (x := y1) dX0_digest_20 rfl rfl ?_
      refine ez_lmul dX0_digest_21 ?_
      refine ez_aload_n (i := 0) (v := .ref y0) dX0_digest_22 rfl rfl rfl ?_
      obtain ⟨a3, hx4, h⟩ := zbj_some h
      refine gX0_67 dX0_digest_23 rfl (zgN_some hx4) ?_
      show zEF G (d + 9) [] YX0_digest 26 [some (.ref y0), some (.long y1), none, some (.int y3), none] [.ref a3, .long ((31 : Int64) * y1)] g Q
      refine ez_iload_n (i := 3) (x := y3) dX0_digest_26 rfl rfl ?_
      obtain ⟨e5, hx6, h⟩ := zbj_some h
      refine lX_fa dX0_digest_27 hx6 ?_
      obtain ⟨r7, hq9, h⟩ := zbj_some h
      refine ez_callS (Y' := YJ8_floatToIntBits) (vs := [.float e5]) (rest := [.long ((31 : Int64) * y1)]) dX0_digest_28 rfl zkJ8_floatToIntBits q416 q417 q65 znJ8_floatToIntBits (Nat.le_of_ble_eq_true rfl) (Nat.le_of_ble_eq_true rfl) rfl (wJ8_floatToIntBits (d := d + 7) hq9 (zBack_v ?_))
      show zEF G (d + 9) [] YX0_digest 31 [some (.ref y0), some (.long y1), none, some (.int y3), none] [.int r7, .long ((31 : Int64) * y1)] g Q
      refine ez_i2l dX0_digest_31 ?_
      refine ez_ladd dX0_digest_32 ?_
      refine ez_lstore_n (i := 1) dX0_digest_33 rfl (show 2 < 5 by decide) ?_
      refine zlet_use (fun a10 => zEF G (d + 9) [] YX0_digest 34 [some (.ref y0), some (.long a10), none, some (.int y3), none] [] g Q) h (fun a10 h => ?_)
      refine ez_iinc (x := y3) (v := (y3 + (1 : Int32))) dX0_digest_34 rfl rfl (show 3 < 5 by decide) ?_
      show zEF G (d + 9) [] YX0_digest 37 [some (.ref y0), some (.long a10), none, some (.int (y3 + (1 : Int32))), none] [] g Q
      refine ez_goto (tgt := 6) dX0_digest_37 (by decide) ?_
      exact ih g y0 a10 (y3 + (1 : Int32)) _ _ h hk40 kq
theorem fX0_digest_L42_ok {G : zG} {d : Nat} {Q : zO → zS → Prop} : ∀ (n : Nat) (g : zS) (y0 : Nat) (y1 : Int64) (y3 : Int32) (k67 : zS → Nat → Int64 → Option (Int64 × zS)) (p : Int64 × zS) (h : fX0_digest_L42 n g y0 y1 y3 k67 = some p) (hk67 : ∀ (g : zS) (x0 : Nat) (x1 : Int64), k67 g x0 x1 = some p → zEF G (d + 9) [] YX0_digest 67 [some (.ref x0), some (.long x1), none, none, none] [] g Q) (kq : Q (.inl (some (.long p.1))) p.2), zEF G (d + 9) [] YX0_digest 42 [some (.ref y0), some (.long y1), none, some (.int y3), none] [] g Q := by
  intro n
  induction n with
  | zero =>
    intro g y0 y1 y3 k67 p h hk67 kq
    rw [fX0_digest_L42] at h
    cases h
  | succ n ih =>
    intro g y0 y1 y3 k67 p h hk67 kq
    rw [fX0_digest_L42] at h
    refine ez_iload_n (i := 3) (x := y3) dX0_digest_42 rfl rfl ?_
    refine ez_aload_n (i := 0) (v := .ref y0) dX0_digest_43 rfl rfl rfl ?_
    obtain ⟨i14, hx15, h⟩ := zbj_some h
    refine gX0_88 dX0_digest_44 rfl hx15 ?_
    refine ez_icmp_ge (tgt := 67) dX0_digest_47 (by decide) (fun hc => ?_) (fun hc => ?_)
    · replace h := zif_t hc h
      refine ez_clr 3 ?_
      exact hk67 g y0 y1 h
    · replace h := zif_f hc h
      refine ez_lload_n (i := 1) (x := y1) dX0_digest_50 rfl rfl ?_
      refine ez_aload_n (i := 0) (v := .ref y0) dX0_digest_51 rfl rfl rfl ?_
      obtain ⟨a16, hx17, h⟩ := zbj_some h
      refine gX0_49 dX0_digest_52 rfl (zgN_some hx17) ?_
      show zEF G (d + 9) [] YX0_digest 55 [some (.ref y0), some (.long y1), none, some (.int y3), none] [.ref a16, .long y1] g Q
      refine ez_iload_n (i := 3) (x := y3) dX0_digest_55 rfl rfl ?_
      obtain ⟨a18, hx19, h⟩ := zbj_some h
      refine lX_aa8 dX0_digest_56 (zaN_some hx19) ?_
      show zEF G (d + 9) [] YX0_digest 57 [some (.ref y0), some (.long y1), none, some (.int y3), none] [.ref a18, .long y1] g Q
      obtain ⟨r20, g21, hq22, h⟩ := zbd_some h
      refine ez_callS (Y' := YX0_withPlug) (vs := [.long y1, .ref a18]) (rest := []) dX0_digest_57 rfl zkX0_withPlug q923 q924 q52 znX0_withPlug (Nat.le_of_ble_eq_true rfl) (Nat.le_of_ble_eq_true rfl) rfl (wX0_withPlug (d := d + 6) hq22 (zBack_v ?_))
      show zEF G (d + 9) [] YX0_digest 60 [some (.ref y0), some (.long y1), none, some (.int y3), none] [.long r20] g21 Q
      refine ez_lstore_n (i := 1) dX0_digest_60 rfl (show 2 < 5 by decide) ?_
      show zEF G (d + 9) [] YX0_digest 61 [some (.ref y0), some (.long r20), none, some (.int y3), none] [] g21 Q
      refine ez_iinc (x := y3) (v := (y3 + (1 : Int32))) dX0_digest_61 rfl rfl (show 3 < 5 by decide) ?_
      show zEF G (d + 9) [] YX0_digest 64 [some (.ref y0), some (.long r20), none, some (.int (y3 + (1 : Int32))), none] [] g21 Q
      refine ez_goto (tgt := 42) dX0_digest_64 (by decide) ?_
      exact ih g21 y0 r20 (y3 + (1 : Int32)) _ _ h hk67 kq
theorem fX0_digest_L78_ok {G : zG} {d : Nat} {Q : zO → zS → Prop} : ∀ (n : Nat) (g : zS) (y0 : Nat) (y1 : Int64) (y3 : Int32) (y4 : Int32) (k111 : zS → Nat → Int64 → Int32 → Option (Int64 × zS)) (p : Int64 × zS) (h : fX0_digest_L78 n g y0 y1 y3 y4 k111 = some p) (hk111 : ∀ (g : zS) (x0 : Nat) (x1 : Int64) (x3 : Int32), k111 g x0 x1 x3 = some p → zEF G (d + 9) [] YX0_digest 111 [some (.ref x0), some (.long x1), none, some (.int x3), none] [] g Q) (kq : Q (.inl (some (.long p.1))) p.2), zEF G (d + 9) [] YX0_digest 78 [some (.ref y0), some (.long y1), none, some (.int y3), some (.int y4)] [] g Q := by
  intro n
  induction n with
  | zero =>
    intro g y0 y1 y3 y4 k111 p h hk111 kq
    rw [fX0_digest_L78] at h
    cases h
  | succ n ih =>
    intro g y0 y1 y3 y4 k111 p h hk111 kq
    rw [fX0_digest_L78] at h
    refine ez_iload (i := 4) (x := y4) dX0_digest_78 rfl ?_
    refine ez_bipush (v := 6) dX0_digest_80 (by decide) ?_
    refine ez_icmp_ge (tgt := 111) dX0_digest_82 (by decide) (fun hc => ?_) (fun hc => ?_)
    · replace h := zif_t hc h
      refine ez_clr 4 ?_
      exact hk111 g y0 y1 y3 h
    · replace h := zif_f hc h
      refine ez_ldc2l dX0_digest_85 rfl q922 ?_
      refine ez_lload_n (i := 1) (x := y1) dX0_digest_88 rfl rfl ?_
      refine ez_lmul dX0_digest_89 ?_
      refine ez_aload_n (i := 0) (v := .ref y0) dX0_digest_90 rfl rfl rfl ?_
      refine ez_aload_n (i := 0) (v := .ref y0) dX0_digest_91 rfl rfl rfl ?_
      obtain ⟨a26, hx27, h⟩ := zbj_some h
      refine gX0_55 dX0_digest_92 rfl (zgN_some hx27) ?_
      show zEF G (d + 9) [] YX0_digest 95 [some (.ref y0), some (.long y1), none, some (.int y3), some (.int y4)] [.ref a26, .ref y0, .long ((31 : Int64) * y1)] g Q
      refine ez_iload_n (i := 3) (x := y3) dX0_digest_95 rfl rfl ?_
      obtain ⟨a28, hx29, h⟩ := zbj_some h
      refine lX_aa9 dX0_digest_96 (zaN_some hx29) ?_
      show zEF G (d + 9) [] YX0_digest 97 [some (.ref y0), some (.long y1), none, some (.int y3), some (.int y4)] [.ref a28, .ref y0, .long ((31 : Int64) * y1)] g Q
      refine ez_iload (i := 4) (x := y4) dX0_digest_97 rfl ?_
      obtain ⟨ob30, hx31, h⟩ := zbj_some h
      obtain ⟨r32, g33, hq34, h⟩ := zbd_some h
      refine ez_callV (C := RX0) (Tt := TX0) (N := 20) (Y' := YX0_of) (a := y0) (vs := [.ref a28, .int y4]) (rest := [.long ((31 : Int64) * y1)]) dX0_digest_99 rfl zkX0_of q894 q896 rfl slX0_of (zob1 hx31) znX0_of (Nat.le_of_ble_eq_true rfl) (Nat.le_of_ble_eq_true rfl) rfl (wX0_of (d := d + 6) hq34 (zBack_v ?_))
      show zEF G (d + 9) [] YX0_digest 102 [some (.ref y0), some (.long y1), none, some (.int y3), some (.int y4)] [.int r32, .long ((31 : Int64) * y1)] g33 Q
      refine ez_i2l dX0_digest_102 ?_
      refine ez_ladd dX0_digest_103 ?_
      refine ez_lstore_n (i := 1) dX0_digest_104 rfl (show 2 < 5 by decide) ?_
      refine zlet_use (fun a35 => zEF G (d + 9) [] YX0_digest 105 [some (.ref y0), some (.long a35), none, some (.int y3), some (.int y4)] [] g33 Q) h (fun a35 h => ?_)
      refine ez_iinc (x := y4) (v := (y4 + (1 : Int32))) dX0_digest_105 rfl rfl (show 4 < 5 by decide) ?_
      show zEF G (d + 9) [] YX0_digest 108 [some (.ref y0), some (.long a35), none, some (.int y3), some (.int (y4 + (1 : Int32)))] [] g33 Q
      refine ez_goto (tgt := 78) dX0_digest_108 (by decide) ?_
      exact ih g33 y0 a35 y3 (y4 + (1 : Int32)) _ _ h hk111 kq
theorem fX0_digest_L114_ok {G : zG} {d : Nat} {Q : zO → zS → Prop} : ∀ (n : Nat) (g : zS) (y0 : Nat) (y1 : Int64) (y3 : Int32) (y4 : Int32) (k141 : zS → Nat → Int64 → Int32 → Option (Int64 × zS)) (p : Int64 × zS) (h : fX0_digest_L114 n g y0 y1 y3 y4 k141 = some p) (hk141 : ∀ (g : zS) (x0 : Nat) (x1 : Int64) (x3 : Int32), k141 g x0 x1 x3 = some p → zEF G (d + 9) [] YX0_digest 141 [some (.ref x0), some (.long x1), none, some (.int x3), none] [] g Q) (kq : Q (.inl (some (.long p.1))) p.2), zEF G (d + 9) [] YX0_digest 114 [some (.ref y0), some (.long y1), none, some (.int y3), some (.int y4)] [] g Q := by
  intro n
  induction n with
  | zero =>
    intro g y0 y1 y3 y4 k141 p h hk141 kq
    rw [fX0_digest_L114] at h
    cases h
  | succ n ih =>
    intro g y0 y1 y3 y4 k141 p h hk141 kq
    rw [fX0_digest_L114] at h
    refine ez_iload (i := 4) (x := y4) dX0_digest_114 rfl ?_
    refine ez_iconst (v := 4) dX0_digest_116 (by decide) ?_
    refine ez_icmp_ge (tgt := 141) dX0_digest_117 (by decide) (fun hc => ?_) (fun hc => ?_)
    · replace h := zif_t hc h
      refine ez_clr 4 ?_
      exact hk141 g y0 y1 y3 h
    · replace h := zif_f hc h
      refine ez_ldc2l dX0_digest_120 rfl q922 ?_
      refine ez_lload_n (i := 1) (x := y1) dX0_digest_123 rfl rfl ?_
      refine ez_lmul dX0_digest_124 ?_
      refine ez_aload_n (i := 0) (v := .ref y0) dX0_digest_125 rfl rfl rfl ?_
      refine ez_iload_n (i := 3) (x := y3) dX0_digest_126 rfl rfl ?_
      refine ez_iload (i := 4) (x := y4) dX0_digest_127 rfl ?_
      obtain ⟨ob40, hx41, h⟩ := zbj_some h
      obtain ⟨r42, g43, hq44, h⟩ := zbd_some h
      refine ez_callV (C := RX0) (Tt := TX0) (N := 20) (Y' := YX0_plugAt) (a := y0) (vs := [.int y3, .int y4]) (rest := [.long ((31 : Int64) * y1)]) dX0_digest_129 rfl zkX0_plugAt q886 q888 rfl slX0_plugAt (zob1 hx41) znX0_plugAt (Nat.le_of_ble_eq_true rfl) (Nat.le_of_ble_eq_true rfl) rfl (wX0_plugAt (d := d + 0) hq44 (zBack_v ?_))
      show zEF G (d + 9) [] YX0_digest 132 [some (.ref y0), some (.long y1), none, some (.int y3), some (.int y4)] [.int r42, .long ((31 : Int64) * y1)] g43 Q
      refine ez_i2l dX0_digest_132 ?_
      refine ez_ladd dX0_digest_133 ?_
      refine ez_lstore_n (i := 1) dX0_digest_134 rfl (show 2 < 5 by decide) ?_
      refine zlet_use (fun a45 => zEF G (d + 9) [] YX0_digest 135 [some (.ref y0), some (.long a45), none, some (.int y3), some (.int y4)] [] g43 Q) h (fun a45 h => ?_)
      refine ez_iinc (x := y4) (v := (y4 + (1 : Int32))) dX0_digest_135 rfl rfl (show 4 < 5 by decide) ?_
      show zEF G (d + 9) [] YX0_digest 138 [some (.ref y0), some (.long a45), none, some (.int y3), some (.int (y4 + (1 : Int32)))] [] g43 Q
      refine ez_goto (tgt := 114) dX0_digest_138 (by decide) ?_
      exact ih g43 y0 a45 y3 (y4 + (1 : Int32)) _ _ h hk141 kq
theorem fX0_digest_L69_ok {G : zG} {d : Nat} {Q : zO → zS → Prop} : ∀ (n : Nat) (g : zS) (y0 : Nat) (y1 : Int64) (y3 : Int32) (k147 : zS → Nat → Int64 → Option (Int64 × zS)) (p : Int64 × zS) (h : fX0_digest_L69 n g y0 y1 y3 k147 = some p) (hk147 : ∀ (g : zS) (x0 : Nat) (x1 : Int64), k147 g x0 x1 = some p → zEF G (d + 9) [] YX0_digest 147 [some (.ref x0), some (.long x1), none, none, none] [] g Q) (kq : Q (.inl (some (.long p.1))) p.2), zEF G (d + 9) [] YX0_digest 69 [some (.ref y0), some (.long y1), none, some (.int y3), none] [] g Q := by
  intro n
  induction n with
  | zero =>
    intro g y0 y1 y3 k147 p h hk147 kq
    rw [fX0_digest_L69] at h
    cases h
  | succ n ih =>
    intro g y0 y1 y3 k147 p h hk147 kq
    rw [fX0_digest_L69] at h
    refine ez_iload_n (i := 3) (x := y3) dX0_digest_69 rfl rfl ?_
    refine ez_bipush (v := 8) dX0_digest_70 (by decide) ?_
    refine ez_icmp_ge (tgt := 147) dX0_digest_72 (by decide) (fun hc => ?_) (fun hc => ?_)
    · replace h := zif_t hc h
      refine ez_clr 3 ?_
      exact hk147 g y0 y1 h
    · replace h := zif_f hc h
      refine ez_iconst (v := 0) dX0_digest_75 (by decide) ?_
      refine ez_istore (i := 4) dX0_digest_76 (show 4 < 5 by decide) ?_
      show zEF G (d + 9) [] YX0_digest 78 [some (.ref y0), some (.long y1), none, some (.int y3), some (.int (0 : Int32))] [] g Q
      refine fX0_digest_L78_ok (d := d) 1000 g y0 y1 y3 (0 : Int32) _ _ h (fun g36 x37 x38 x39 h => ?_) kq
      refine ez_iconst (v := 0) dX0_digest_111 (by decide) ?_
      refine ez_istore (i := 4) dX0_digest_112 (show 4 < 5 by decide) ?_
      show zEF G (d + 9) [] YX0_digest 114 [some (.ref x37), some (.long x38), none, some (.int x39), some (.int (0 : Int32))] [] g36 Q
      refine fX0_digest_L114_ok (d := d) 1000 g36 x37 x38 x39 (0 : Int32) _ _ h (fun g46 x47 x48 x49 h => ?_) kq
      refine ez_iinc (x := x49) (v := (x49 + (1 : Int32))) dX0_digest_141 rfl rfl (show 3 < 5 by decide) ?_
      show zEF G (d + 9) [] YX0_digest 144 [some (.ref x47), some (.long x48), none, some (.int (x49 + (1 : Int32))), none] [] g46 Q
      refine ez_goto (tgt := 69) dX0_digest_144 (by decide) ?_
      exact ih g46 x47 x48 (x49 + (1 : Int32)) _ _ h hk147 kq
theorem fX0_digest_L149_ok {G : zG} {d : Nat} {Q : zO → zS → Prop} : ∀ (n : Nat) (g : zS) (y0 : Nat) (y1 : Int64) (y3 : Int32) (k184 : zS → Nat → Int64 → Option (Int64 × zS)) (p : Int64 × zS) (h : fX0_digest_L149 n g y0 y1 y3 k184 = some p) (hk184 : ∀ (g : zS) (x0 : Nat) (x1 : Int64), k184 g x0 x1 = some p → zEF G (d + 9) [] YX0_digest 184 [some (.ref x0), some (.long x1), none, none, none] [] g Q) (kq : Q (.inl (some (.long p.1))) p.2), zEF G (d + 9) [] YX0_digest 149 [some (.ref y0), some (.long y1), none, some (.int y3), none] [] g Q := by
  intro n
  induction n with
  | zero =>
    intro g y0 y1 y3 k184 p h hk184 kq
    rw [fX0_digest_L149] at h
    cases h
  | succ n ih =>
    intro g y0 y1 y3 k184 p h hk184 kq
    rw [fX0_digest_L149] at h
    refine ez_iload_n (i := 3) (x := y3) dX0_digest_149 rfl rfl ?_
    refine ez_iconst (v := 5) dX0_digest_150 (by decide) ?_
    refine ez_aload_n (i := 0) (v := .ref y0) dX0_digest_151 rfl rfl rfl ?_
    obtain ⟨i53, hx54, h⟩ := zbj_some h
    refine gX0_314 dX0_digest_152 rfl hx54 ?_
    refine ez_bipush (v := 100) dX0_digest_155 (by decide) ?_
    obtain ⟨r55, hq57, h⟩ := zbj_some h
    refine ez_callS (Y' := YJ11_min) (vs := [.int i53, .int (100 : Int32)]) (rest := [.int (5 : Int32), .int y3]) dX0_digest_157 rfl zkJ11_min q906 q907 q78 znJ11_min (Nat.le_of_ble_eq_true rfl) (Nat.le_of_ble_eq_true rfl) rfl (wJ11_min (d := d + 8) hq57 (zBack_v ?_))
    show zEF G (d + 9) [] YX0_digest 160 [some (.ref y0), some (.long y1), none, some (.int y3), none] [.int r55, .int (5 : Int32), .int y3] g Q
    refine ez_imul dX0_digest_160 ?_
    refine ez_icmp_ge (tgt := 184) dX0_digest_161 (by decide) (fun hc => ?_) (fun hc => ?_)
    · replace h := zif_t hc h
      refine ez_clr 3 ?_
      exact hk184 g y0 y1 h
    · replace h := zif_f hc h
      refine ez_ldc2l dX0_digest_164 rfl q922 ?_
      refine ez_lload_n (i := 1) (x := y1) dX0_digest_167 rfl rfl ?_
      refine ez_lmul dX0_digest_168 ?_
      refine ez_aload_n (i := 0) (v := .ref y0) dX0_digest_169 rfl rfl rfl ?_
      obtain ⟨a58, hx59, h⟩ := zbj_some h
      refine gX0_74 dX0_digest_170 rfl (zgN_some hx59) ?_
      show zEF G (d + 9) [] YX0_digest 173 [some (.ref y0), some (.long y1), none, some (.int y3), none] [.ref a58, .long ((31 : Int64) * y1)] g Q
      refine ez_iload_n (i := 3) (x := y3) dX0_digest_173 rfl rfl ?_
      obtain ⟨e60, hx61, h⟩ := zbj_some h
      refine lX_ia dX0_digest_174 hx61 ?_
      refine ez_i2l dX0_digest_175 ?_
      refine ez_ladd dX0_digest_176 ?_
      refine ez_lstore_n (i := 1) dX0_digest_177 rfl (show 2 < 5 by decide) ?_
      refine zlet_use (fun a62 => zEF G (d + 9) [] YX0_digest 178 [some (.ref y0), some (.long a62), none, some (.int y3), none] [] g Q) h (fun a62 h => ?_)
      refine ez_iinc (x := y3) (v := (y3 + (1 : Int32))) dX0_digest_178 rfl rfl (show 3 < 5 by decide) ?_
      show zEF G (d + 9) [] YX0_digest 181 [some (.ref y0), some (.long a62), none, some (.int (y3 + (1 : Int32))), none] [] g Q
      refine ez_goto (tgt := 149) dX0_digest_181 (by decide) ?_
      exact ih g y0 a62 (y3 + (1 : Int32)) _ _ h hk184 kq
theorem wX0_digest {G : zG} {d : Nat} {Q : zO → zS → Prop} {g : zS} {a0 : Nat} {p : Int64 × zS} (h : fX0_digest g a0 = some p) (kq : Q (.inl (some (.long p.1))) p.2) : zEM G (d + 9) [] YX0_digest [.ref a0] g Q := by
  show zEF G (d + 9) [] YX0_digest 0 [some (.ref a0), none, none, none, none] [] g Q
  unfold fX0_digest at h
  refine ez_ldc2l dX0_digest_0 rfl q921 ?_
  refine ez_lstore_n (i := 1) dX0_digest_3 rfl (show 2 < 5 by decide) ?_
  show zEF G (d + 9) [] YX0_digest 4 [some (.ref a0), some (.long (17 : Int64)), none, none, none] [] g Q
  refine ez_iconst (v := 0) dX0_digest_4 (by decide) ?_
  refine ez_istore_n (i := 3) dX0_digest_5 rfl (show 3 < 5 by decide) ?_
  show zEF G (d + 9) [] YX0_digest 6 [some (.ref a0), some (.long (17 : Int64)), none, some (.int (0 : Int32)), none] [] g Q
  refine fX0_digest_L6_ok (d := d) 1000 g a0 (17 : Int64) (0 : Int32) _ _ h (fun g11 x12 x13 h => ?_) kq
  refine ez_iconst (v := 0) dX0_digest_40 (by decide) ?_
  refine ez_istore_n (i := 3) dX0_digest_41 rfl (show 3 < 5 by decide) ?_
  show zEF G (d + 9) [] YX0_digest 42 [some (.ref x12), some (.long x13), none, some (.int (0 : Int32)), none] [] g11 Q
  refine fX0_digest_L42_ok (d := d) 1000 g11 x12 x13 (0 : Int32) _ _ h (fun g23 x24 x25 h => ?_) kq
  refine ez_iconst (v := 0) dX0_digest_67 (by decide) ?_
  refine ez_istore_n (i := 3) dX0_digest_68 rfl (show 3 < 5 by decide) ?_
  show zEF G (d + 9) [] YX0_digest 69 [some (.ref x24), some (.long x25), none, some (.int (0 : Int32)), none] [] g23 Q
  refine fX0_digest_L69_ok (d := d) 1000 g23 x24 x25 (0 : Int32) _ _ h (fun g50 x51 x52 h => ?_) kq
  refine ez_iconst (v := 0) dX0_digest_147 (by decide) ?_
  refine ez_istore_n (i := 3) dX0_digest_148 rfl (show 3 < 5 by decide) ?_
  show zEF G (d + 9) [] YX0_digest 149 [some (.ref x51), some (.long x52), none, some (.int (0 : Int32)), none] [] g50 Q
  refine fX0_digest_L149_ok (d := d) 1000 g50 x51 x52 (0 : Int32) _ _ h (fun g63 x64 x65 h => ?_) kq
  refine ez_ldc2l dX0_digest_184 rfl q922 ?_
  refine ez_lload_n (i := 1) (x := x65) dX0_digest_187 rfl rfl ?_
  refine ez_lmul dX0_digest_188 ?_
  refine ez_aload_n (i := 0) (v := .ref x64) dX0_digest_189 rfl rfl rfl ?_
  obtain ⟨i66, hx67, h⟩ := zbj_some h
  refine gX0_189 dX0_digest_190 rfl hx67 ?_
  refine ez_i2l dX0_digest_193 ?_
  refine ez_ladd dX0_digest_194 ?_
  obtain rfl := Option.some.inj h
  exact ez_lret dX0_digest_195 rfl kq

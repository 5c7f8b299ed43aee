/-! ScoreThreads' classes: methods, walked, 1 -/
set_option maxRecDepth 100000

def YX4_tail : zM := (yX4_tail, cX4_tail, 1, (Option.some Jvm.ClassFile.FieldType.int), [], false)
theorem zkX4_tail : zMok YX4_tail := ⟨rfl, q625, by decide +kernel, by decide +kernel⟩
theorem znX4_tail : (parseMethodDescriptor YX4_tail.nm.desc).map (fun d => d.parameters.length) = some 0 := by decide +kernel
noncomputable def fX4_tail (g : zS) (a0 : Nat) : Option (Int32 × zS) := some ((0 : Int32), g)
theorem wX4_tail {G : zG} {d : Nat} {K : List Nat} {Q : zO → zS → Prop} {g : zS} {a0 : Nat} {p : Int32 × zS} (h : fX4_tail g a0 = some p) (kq : Q (.inl (some (.int p.1))) p.2) : zEM G (d + 0) K YX4_tail [.ref a0] g Q := by
  show zEF G (d + 0) K YX4_tail 0 [some (.ref a0)] [] g Q
  unfold fX4_tail at h
  refine ez_iconst (v := 0) dX4_tail_0 (by decide) ?_
  obtain rfl := Option.some.inj h
  exact ez_iret dX4_tail_1 rfl rfl kq
def YX5_init : zM := (yX5_init, cX5_init, 4, (Option.none : Option Jvm.ClassFile.FieldType), [], false)
theorem zkX5_init : zMok YX5_init := ⟨rfl, q447, by decide +kernel, by decide +kernel⟩
theorem znX5_init : (parseMethodDescriptor YX5_init.nm.desc).map (fun d => d.parameters.length) = some 3 := by decide +kernel
noncomputable def fX5_init (g : zS) (a0 : Nat) (b0 : Int32) (b1 : UInt32) (b2 : Int32) : Option (Unit × zS) := zbd (fX4_init g a0 b0 b1 b2) (fun _ g2 => some ((), g2))
theorem wX5_init {G : zG} {d : Nat} {K : List Nat} {Q : zO → zS → Prop} {g : zS} {a0 : Nat} {b0 : Int32} {b1 : UInt32} {b2 : Int32} {p : Unit × zS} (h : fX5_init g a0 b0 b1 b2 = some p) (kq : Q (.inl none) p.2) : zEM G (d + 2) K YX5_init [.ref a0, .int b0, .float b1, .int b2] g Q := by
  show zEF G (d + 2) K YX5_init 0 [some (.ref a0), some (.int b0), some (.float b1), some (.int b2)] [] g Q
  unfold fX5_init at h
  refine ez_aload_n (i := 0) (v := .ref a0) dX5_init_0 rfl rfl rfl ?_
  refine ez_iload_n (i := 1) (x := b0) dX5_init_1 rfl rfl ?_
  refine ez_fload_n (i := 2) (x := b1) dX5_init_2 rfl rfl ?_
  refine ez_iload_n (i := 3) (x := b2) dX5_init_3 rfl rfl ?_
  obtain ⟨r1, g2, hq3, h⟩ := zbd_some h
  refine ez_callI (Y' := YX4_init) (a := a0) (vs := [.int b0, .float b1, .int b2]) (rest := []) dX5_init_4 rfl zkX4_init rfl rfl rfl q448 q449 znX4_init (Nat.le_of_ble_eq_true rfl) (Nat.le_of_ble_eq_true rfl) rfl (wX4_init (d := d + 0) hq3 (zBack_n ?_))
  show zEF G (d + 2) K YX5_init 7 [some (.ref a0), some (.int b0), some (.float b1), some (.int b2)] [] g2 Q
  obtain rfl := Option.some.inj h
  exact ez_vret dX5_init_7 rfl kq
def YX5_shape : zM := (yX5_shape, cX5_shape, 2, (Option.some Jvm.ClassFile.FieldType.float), [], false)
theorem zkX5_shape : zMok YX5_shape := ⟨rfl, q792, by decide +kernel, by decide +kernel⟩
theorem znX5_shape : (parseMethodDescriptor YX5_shape.nm.desc).map (fun d => d.parameters.length) = some 1 := by decide +kernel
noncomputable def fX5_shape (g : zS) (a0 : Nat) (b0 : UInt32) : Option ((UInt32 ⊕ String) × zS) := zbj (zgF g [4, 5, 6] a0 1) (fun f1 => zgd (vf_n32 (FP.fmul b0 f1)) (zbj (fX0_clipped (FP.fmul b0 f1)) (fun r4 => some (.inl r4, g))))
theorem wX5_shape {G : zG} {d : Nat} {K : List Nat} {Q : zO → zS → Prop} {g : zS} {a0 : Nat} {b0 : UInt32} {p : (UInt32 ⊕ String) × zS} (h : fX5_shape g a0 b0 = some p) (kq : Q (zoF p.1 p.2) p.2) : zEM G (d + 1) K YX5_shape [.ref a0, .float b0] g Q := by
  show zEF G (d + 1) K YX5_shape 0 [some (.ref a0), some (.float b0)] [] g Q
  unfold fX5_shape at h
  refine ez_fload_n (i := 1) (x := b0) dX5_shape_0 rfl rfl ?_
  refine ez_aload_n (i := 0) (v := .ref a0) dX5_shape_1 rfl rfl rfl ?_
  obtain ⟨f1, hx2, h⟩ := zbj_some h
  refine gX5_7 dX5_shape_2 rfl hx2 ?_
  obtain ⟨hg3, h⟩ := zgd_some h
  refine ez_fmul dX5_shape_5 hg3 ?_
  obtain ⟨r4, hq6, h⟩ := zbj_some h
  refine ez_callSN (Y' := YX0_clipped) (vs := [.float (FP.fmul b0 f1)]) (rest := []) dX5_shape_6 rfl zkX0_clipped q793 q412 q52 znX0_clipped (Nat.le_of_ble_eq_true rfl) (Nat.le_of_ble_eq_true rfl) rfl (wX0_clipped (d := d + 0) hq6 (zBack_v ?_))
  show zEF G (d + 1) K YX5_shape 9 [some (.ref a0), some (.float b0)] [.float r4] g Q
  obtain rfl := Option.some.inj h
  exact ez_fret dX5_shape_9 rfl kq
def YX6_init : zM := (yX6_init, cX6_init, 4, (Option.none : Option Jvm.ClassFile.FieldType), [], false)
theorem zkX6_init : zMok YX6_init := ⟨rfl, q482, by decide +kernel, by decide +kernel⟩
theorem znX6_init : (parseMethodDescriptor YX6_init.nm.desc).map (fun d => d.parameters.length) = some 3 := by decide +kernel
noncomputable def fX6_init (g : zS) (a0 : Nat) (b0 : Int32) (b1 : UInt32) (b2 : Int32) : Option (Unit × zS) := zbd (fX5_init g a0 b0 b1 b2) (fun _ g2 => some ((), g2))
theorem wX6_init {G : zG} {d : Nat} {K : List Nat} {Q : zO → zS → Prop} {g : zS} {a0 : Nat} {b0 : Int32} {b1 : UInt32} {b2 : Int32} {p : Unit × zS} (h : fX6_init g a0 b0 b1 b2 = some p) (kq : Q (.inl none) p.2) : zEM G (d + 3) K YX6_init [.ref a0, .int b0, .float b1, .int b2] g Q := by
  show zEF G (d + 3) K YX6_init 0 [some (.ref a0), some (.int b0), some (.float b1), some (.int b2)] [] g Q
  unfold fX6_init at h
  refine ez_aload_n (i := 0) (v := .ref a0) dX6_init_0 rfl rfl rfl ?_
  refine ez_iload_n (i := 1) (x := b0) dX6_init_1 rfl rfl ?_
  refine ez_fload_n (i := 2) (x := b1) dX6_init_2 rfl rfl ?_
  refine ez_iload_n (i := 3) (x := b2) dX6_init_3 rfl rfl ?_
  obtain ⟨r1, g2, hq3, h⟩ := zbd_some h
  refine ez_callI (Y' := YX5_init) (a := a0) (vs := [.int b0, .float b1, .int b2]) (rest := []) dX6_init_4 rfl zkX5_init rfl rfl rfl q483 q446 znX5_init (Nat.le_of_ble_eq_true rfl) (Nat.le_of_ble_eq_true rfl) rfl (wX5_init (d := d + 0) hq3 (zBack_n ?_))
  show zEF G (d + 3) K YX6_init 7 [some (.ref a0), some (.int b0), some (.float b1), some (.int b2)] [] g2 Q
  obtain rfl := Option.some.inj h
  exact ez_vret dX6_init_7 rfl kq
def YX6_tail : zM := (yX6_tail, cX6_tail, 1, (Option.some Jvm.ClassFile.FieldType.int), [], false)
theorem zkX6_tail : zMok YX6_tail := ⟨rfl, q616, by decide +kernel, by decide +kernel⟩
theorem znX6_tail : (parseMethodDescriptor YX6_tail.nm.desc).map (fun d => d.parameters.length) = some 0 := by decide +kernel
noncomputable def fX6_tail (g : zS) (a0 : Nat) : Option (Int32 × zS) := zbj (zob g [5, 6] a0) (fun ob1 => zbd (fX4_tail g a0) (fun r3 g4 => some ((r3 + (1 : Int32)), g4)))
theorem zsup_X6_tail_1 {G : zG} {d : Nat} {K : List Nat} {lo : List (Option Value)} {g : zS} {Q : zO → zS → Prop} {a : Nat} {ob : Nat × List Value} (ho : zob g [5, 6] a = some ob) (kk : zEM G d K YX4_tail (.ref a :: []) g (zBack G (d + 1) K YX6_tail 1 lo [] Q)) : zEF G (d + 1) K YX6_tail 1 lo (.ref a :: []) g Q := by
  obtain ⟨hv, h2⟩ := zob_some ho
  obtain ⟨ci, fs⟩ := ob
  simp only [List.mem_cons, List.not_mem_nil, or_false] at h2
  rcases h2 with rfl | rfl
  · exact ez_callSup (x := ⟨"ScoreThreads$Gain", "tail", "()I"⟩) (Y' := YX4_tail) (C := RX6) (Tt := TX6) (N := 4) (vs := []) (rest := []) dX6_tail_1 rfl zkX4_tail q617 ⟨rfl, rfl⟩ q618 q488 (Or.inr q477) (by decide) q602 rfl hv znX4_tail (Nat.le_of_ble_eq_true rfl) (Nat.le_of_ble_eq_true rfl) rfl kk
  · exact ez_callSup (x := ⟨"ScoreThreads$Gain", "tail", "()I"⟩) (Y' := YX4_tail) (C := RX7) (Tt := TX7) (N := 4) (vs := []) (rest := []) dX6_tail_1 rfl zkX4_tail q617 ⟨rfl, rfl⟩ q618 q488 (Or.inr q477) (by decide) q602 rfl hv znX4_tail (Nat.le_of_ble_eq_true rfl) (Nat.le_of_ble_eq_true rfl) rfl kk
theorem wX6_tail {G : zG} {d : Nat} {K : List Nat} {Q : zO → zS → Prop} {g : zS} {a0 : Nat} {p : Int32 × zS} (h : fX6_tail g a0 = some p) (kq : Q (.inl (some (.int p.1))) p.2) : zEM G (d + 1) K YX6_tail [.ref a0] g Q := by
  show zEF G (d + 1) K YX6_tail 0 [some (.ref a0)] [] g Q
  unfold fX6_tail at h
  refine ez_aload_n (i := 0) (v := .ref a0) dX6_tail_0 rfl rfl rfl ?_
  obtain ⟨ob1, hx2, h⟩ := zbj_some h
  obtain ⟨r3, g4, hq5, h⟩ := zbd_some h
  refine zsup_X6_tail_1 (a := a0) hx2 (wX4_tail (d := d + 0) hq5 (zBack_v ?_))
  show zEF G (d + 1) K YX6_tail 4 [some (.ref a0)] [.int r3] g4 Q
  refine ez_iconst (v := 1) dX6_tail_4 (by decide) ?_
  refine ez_iadd dX6_tail_5 ?_
  obtain rfl := Option.some.inj h
  exact ez_iret dX6_tail_6 rfl rfl kq
def YX7_init : zM := (yX7_init, cX7_init, 4, (Option.none : Option Jvm.ClassFile.FieldType), [], false)
theorem zkX7_init : zMok YX7_init := ⟨rfl, q493, by decide +kernel, by decide +kernel⟩
theorem znX7_init : (parseMethodDescriptor YX7_init.nm.desc).map (fun d => d.parameters.length) = some 3 := by decide +kernel
noncomputable def fX7_init (g : zS) (a0 : Nat) (b0 : Int32) (b1 : UInt32) (b2 : Int32) : Option (Unit × zS) := zbd (fX6_init g a0 b0 b1 b2) (fun _ g2 => some ((), g2))
theorem wX7_init {G : zG} {d : Nat} {K : List Nat} {Q : zO → zS → Prop} {g : zS} {a0 : Nat} {b0 : Int32} {b1 : UInt32} {b2 : Int32} {p : Unit × zS} (h : fX7_init g a0 b0 b1 b2 = some p) (kq : Q (.inl none) p.2) : zEM G (d + 4) K YX7_init [.ref a0, .int b0, .float b1, .int b2] g Q := by
  show zEF G (d + 4) K YX7_init 0 [some (.ref a0), some (.int b0), some (.float b1), some (.int b2)] [] g Q
  unfold fX7_init at h
  refine ez_aload_n (i := 0) (v := .ref a0) dX7_init_0 rfl rfl rfl ?_
  refine ez_iload_n (i := 1) (x := b0) dX7_init_1 rfl rfl ?_
  refine ez_fload_n (i := 2) (x := b1) dX7_init_2 rfl rfl ?_
  refine ez_iload_n (i := 3) (x := b2) dX7_init_3 rfl rfl ?_
  obtain ⟨r1, g2, hq3, h⟩ := zbd_some h
  refine ez_callI (Y' := YX6_init) (a := a0) (vs := [.int b0, .float b1, .int b2]) (rest := []) dX7_init_4 rfl zkX6_init rfl rfl rfl q494 q481 znX6_init (Nat.le_of_ble_eq_true rfl) (Nat.le_of_ble_eq_true rfl) rfl (wX6_init (d := d + 0) hq3 (zBack_n ?_))
  show zEF G (d + 4) K YX7_init 7 [some (.ref a0), some (.int b0), some (.float b1), some (.int b2)] [] g2 Q
  obtain rfl := Option.some.inj h
  exact ez_vret dX7_init_7 rfl kq
def YX7_tail : zM := (yX7_tail, cX7_tail, 1, (Option.some Jvm.ClassFile.FieldType.int), [], false)
theorem zkX7_tail : zMok YX7_tail := ⟨rfl, q613, by decide +kernel, by decide +kernel⟩
theorem znX7_tail : (parseMethodDescriptor YX7_tail.nm.desc).map (fun d => d.parameters.length) = some 0 := by decide +kernel
noncomputable def fX7_tail (g : zS) (a0 : Nat) : Option (Int32 × zS) := zbj (zob g [6] a0) (fun ob1 => zbd (fX6_tail g a0) (fun r3 g4 => some ((r3 + (2 : Int32)), g4)))
theorem wX7_tail {G : zG} {d : Nat} {K : List Nat} {Q : zO → zS → Prop} {g : zS} {a0 : Nat} {p : Int32 × zS} (h : fX7_tail g a0 = some p) (kq : Q (.inl (some (.int p.1))) p.2) : zEM G (d + 2) K YX7_tail [.ref a0] g Q := by
  show zEF G (d + 2) K YX7_tail 0 [some (.ref a0)] [] g Q
  unfold fX7_tail at h
  refine ez_aload_n (i := 0) (v := .ref a0) dX7_tail_0 rfl rfl rfl ?_
  obtain ⟨ob1, hx2, h⟩ := zbj_some h
  obtain ⟨r3, g4, hq5, h⟩ := zbd_some h
  refine ez_callSup (x := ⟨"ScoreThreads$Warm", "tail", "()I"⟩) (Y' := YX6_tail) (C := RX7) (Tt := TX7) (N := 4) (a := a0) (vs := []) (rest := []) dX7_tail_1 rfl zkX6_tail q614 ⟨rfl, rfl⟩ q1329 q499 (Or.inl rfl) (by decide) q615 rfl (zob1 hx2) znX6_tail (Nat.le_of_ble_eq_true rfl) (Nat.le_of_ble_eq_true rfl) rfl (wX6_tail (d := d + 0) hq5 (zBack_v ?_))
  show zEF G (d + 2) K YX7_tail 4 [some (.ref a0)] [.int r3] g4 Q
  refine ez_iconst (v := 2) dX7_tail_4 (by decide) ?_
  refine ez_iadd dX7_tail_5 ?_
  obtain rfl := Option.some.inj h
  exact ez_iret dX7_tail_6 rfl rfl kq
def YX7_shape : zM := (yX7_shape, cX7_shape, 2, (Option.some Jvm.ClassFile.FieldType.float), [], false)
theorem zkX7_shape : zMok YX7_shape := ⟨rfl, q787, by decide +kernel, by decide +kernel⟩
theorem znX7_shape : (parseMethodDescriptor YX7_shape.nm.desc).map (fun d => d.parameters.length) = some 1 := by decide +kernel
noncomputable def fX7_shape (g : zS) (a0 : Nat) (b0 : UInt32) : Option ((UInt32 ⊕ String) × zS) := zbj (zob g [6] a0) (fun ob1 => zbd (fX5_shape g a0 b0) (fun r3 g4 => zsm r3 (fun v6 => zgd (vf_n32 (FP.frem v6 FP.fconst1)) (some (.inl (FP.frem v6 FP.fconst1), g4))) (fun X7 => some (.inr X7, g4))))
theorem wX7_shape {G : zG} {d : Nat} {K : List Nat} {Q : zO → zS → Prop} {g : zS} {a0 : Nat} {b0 : UInt32} {p : (UInt32 ⊕ String) × zS} (h : fX7_shape g a0 b0 = some p) (kq : Q (zoF p.1 p.2) p.2) : zEM G (d + 2) K YX7_shape [.ref a0, .float b0] g Q := by
  show zEF G (d + 2) K YX7_shape 0 [some (.ref a0), some (.float b0)] [] g Q
  unfold fX7_shape at h
  refine ez_aload_n (i := 0) (v := .ref a0) dX7_shape_0 rfl rfl rfl ?_
  refine ez_fload_n (i := 1) (x := b0) dX7_shape_1 rfl rfl ?_
  obtain ⟨ob1, hx2, h⟩ := zbj_some h
  obtain ⟨r3, g4, hq5, h⟩ := zbd_some h
  refine ez_callSup (x := ⟨"ScoreThreads$Warm", "shape", "(F)F"⟩) (Y' := YX5_shape) (C := RX7) (Tt := TX7) (N := 4) (a := a0) (vs := [.float b0]) (rest := []) dX7_shape_2 rfl zkX5_shape q788 ⟨rfl, rfl⟩ q789 q499 (Or.inr q488) (by decide) q791 rfl (zob1 hx2) znX5_shape (Nat.le_of_ble_eq_true rfl) (Nat.le_of_ble_eq_true rfl) rfl (wX5_shape (d := d + 0) hq5 ?_)
  rcases r3 with v6 | X7
  · replace h := zsm_l h
    refine zBack_v ?_
    show zEF G (d + 2) K YX7_shape 5 [some (.ref a0), some (.float b0)] [.float v6] g4 Q
    refine ez_fconst1 dX7_shape_5 ?_
    obtain ⟨hg8, h⟩ := zgd_some h
    refine ez_frem dX7_shape_6 hg8 ?_
    obtain rfl := Option.some.inj h
    exact ez_fret dX7_shape_7 rfl kq
  · replace h := zsm_r h
    refine zBack_t ?_
    obtain rfl := Option.some.inj h
    exact zTH_out (fun x hx => by cases hx) kq
def YX8_init : zM := (yX8_init, cX8_init, 4, (Option.none : Option Jvm.ClassFile.FieldType), [], false)
theorem zkX8_init : zMok YX8_init := ⟨rfl, q504, by decide +kernel, by decide +kernel⟩
theorem znX8_init : (parseMethodDescriptor YX8_init.nm.desc).map (fun d => d.parameters.length) = some 3 := by decide +kernel
noncomputable def fX8_init (g : zS) (a0 : Nat) (b0 : Int32) (b1 : UInt32) (b2 : Int32) : Option (Unit × zS) := zbd (fX4_init g a0 b0 b1 b2) (fun _ g2 => some ((), g2))
theorem wX8_init {G : zG} {d : Nat} {K : List Nat} {Q : zO → zS → Prop} {g : zS} {a0 : Nat} {b0 : Int32} {b1 : UInt32} {b2 : Int32} {p : Unit × zS} (h : fX8_init g a0 b0 b1 b2 = some p) (kq : Q (.inl none) p.2) : zEM G (d + 2) K YX8_init [.ref a0, .int b0, .float b1, .int b2] g Q := by
  show zEF G (d + 2) K YX8_init 0 [some (.ref a0), some (.int b0), some (.float b1), some (.int b2)] [] g Q
  unfold fX8_init at h
  refine ez_aload_n (i := 0) (v := .ref a0) dX8_init_0 rfl rfl rfl ?_
  refine ez_iload_n (i := 1) (x := b0) dX8_init_1 rfl rfl ?_
  refine ez_fload_n (i := 2) (x := b1) dX8_init_2 rfl rfl ?_
  refine ez_iload_n (i := 3) (x := b2) dX8_init_3 rfl rfl ?_
  obtain ⟨r1, g2, hq3, h⟩ := zbd_some h
  refine ez_callI (Y' := YX4_init) (a := a0) (vs := [.int b0, .float b1, .int b2]) (rest := []) dX8_init_4 rfl zkX4_init rfl rfl rfl q505 q449 znX4_init (Nat.le_of_ble_eq_true rfl) (Nat.le_of_ble_eq_true rfl) rfl (wX4_init (d := d + 0) hq3 (zBack_n ?_))
  show zEF G (d + 2) K YX8_init 7 [some (.ref a0), some (.int b0), some (.float b1), some (.int b2)] [] g2 Q
  obtain rfl := Option.some.inj h
  exact ez_vret dX8_init_7 rfl kq
def YX8_shape : zM := (yX8_shape, cX8_shape, 3, (Option.some Jvm.ClassFile.FieldType.float), [], false)
theorem zkX8_shape : zMok YX8_shape := ⟨rfl, q809, by decide +kernel, by decide +kernel⟩
theorem znX8_shape : (parseMethodDescriptor YX8_shape.nm.desc).map (fun d => d.parameters.length) = some 1 := by decide +kernel
noncomputable def fX8_shape (g : zS) (a0 : Nat) (b0 : UInt32) : Option ((UInt32 ⊕ String) × zS) := zbj (zgI g [7] a0 2) (fun i1 => if i1 = 0 then zgd (3 ≤ g.rc ∧ 300 ≤ g.rs) (some (.inr zARI, (zxg g))) else zgd (vf_n32 (FP.fmul b0 (FP.i2f ((64 : Int32) / i1)))) (zgd (vf_n64 (FP.f2d (FP.fmul b0 (FP.i2f ((64 : Int32) / i1))))) (zbj (fJ13_rint (FP.f2d (FP.fmul b0 (FP.i2f ((64 : Int32) / i1))))) (fun x6 => zgd (vf_n32 (FP.d2f x6)) (zgd (vf_n32 (FP.fdiv (FP.d2f x6) (FP.i2f ((64 : Int32) / i1)))) (zbj (fX0_clipped (FP.fdiv (FP.d2f x6) (FP.i2f ((64 : Int32) / i1)))) (fun r10 => some (.inl r10, g))))))))
theorem wX8_shape {G : zG} {d : Nat} {K : List Nat} {Q : zO → zS → Prop} {g : zS} {a0 : Nat} {b0 : UInt32} {p : (UInt32 ⊕ String) × zS} (h : fX8_shape g a0 b0 = some p) (kq : Q (zoF p.1 p.2) p.2) : zEM G (d + 8) K YX8_shape [.ref a0, .float b0] g Q := by
  show zEF G (d + 8) K YX8_shape 0 [some (.ref a0), some (.float b0), none] [] g Q
  unfold fX8_shape at h
  refine ez_bipush (v := 64) dX8_shape_0 (by decide) ?_
  refine ez_aload_n (i := 0) (v := .ref a0) dX8_shape_2 rfl rfl rfl ?_
  obtain ⟨i1, hx2, h⟩ := zbj_some h
  refine gX8_7 dX8_shape_3 rfl hx2 ?_
  by_cases hc : i1 = 0
  · replace h := zif_t hc h
    rw [hc]
    obtain ⟨hr3, h⟩ := zgd_some h
    refine ex_idiv (x := (64 : Int32)) dX8_shape_6 (Nat.le_of_ble_eq_true rfl) hr3.1 hr3.2 ?_
    obtain rfl := Option.some.inj h
    exact zTH_out (fun x hx => by cases hx) kq
  · replace h := zif_f hc h
    refine ez_idiv dX8_shape_6 hc ?_
    refine ez_istore_n (i := 2) dX8_shape_7 rfl (show 2 < 3 by decide) ?_
    show zEF G (d + 8) K YX8_shape 8 [some (.ref a0), some (.float b0), some (.int ((64 : Int32) / i1))] [] g Q
    refine ez_fload_n (i := 1) (x := b0) dX8_shape_8 rfl rfl ?_
    refine ez_iload_n (i := 2) (x := ((64 : Int32) / i1)) dX8_shape_9 rfl rfl ?_
    refine ez_i2f dX8_shape_10 ?_
    obtain ⟨hg4, h⟩ := zgd_some h
    refine ez_fmul dX8_shape_11 hg4 ?_
    obtain ⟨hg5, h⟩ := zgd_some h
    refine ez_f2d dX8_shape_12 hg5 ?_
    obtain ⟨x6, hx7, h⟩ := zbj_some h
    refine ez_rint dX8_shape_13 rfl q810 hx7 (Nat.le_of_ble_eq_true rfl) ?_
    obtain ⟨hg8, h⟩ := zgd_some h
    refine ez_d2f dX8_shape_16 hg8 ?_
    refine ez_iload_n (i := 2) (x := ((64 : Int32) / i1)) dX8_shape_17 rfl rfl ?_
    refine ez_i2f dX8_shape_18 ?_
    obtain ⟨hg9, h⟩ := zgd_some h
    refine ez_fdiv dX8_shape_19 hg9 ?_
    obtain ⟨r10, hq12, h⟩ := zbj_some h
    refine ez_callSN (Y' := YX0_clipped) (vs := [.float (FP.fdiv (FP.d2f x6) (FP.i2f ((64 : Int32) / i1)))]) (rest := []) dX8_shape_20 rfl zkX0_clipped q829 q412 q52 znX0_clipped (Nat.le_of_ble_eq_true rfl) (Nat.le_of_ble_eq_true rfl) rfl (wX0_clipped (d := d + 7) hq12 (zBack_v ?_))
    show zEF G (d + 8) K YX8_shape 23 [some (.ref a0), some (.float b0), some (.int ((64 : Int32) / i1))] [.float r10] g Q
    obtain rfl := Option.some.inj h
    exact ez_fret dX8_shape_23 rfl kq
def YX0_init : zM := (yX0_init, cX0_init, 2, (Option.none : Option Jvm.ClassFile.FieldType), [], false)
theorem zkX0_init : zMok YX0_init := ⟨rfl, q85, by decide +kernel, by decide +kernel⟩
theorem znX0_init : (parseMethodDescriptor YX0_init.nm.desc).map (fun d => d.parameters.length) = some 0 := by decide +kernel
noncomputable def fX0_init_L80 : Nat → zS → Nat → Int32 → (zS → Nat → Option (Unit × zS)) → Option (Unit × zS)
  | 0, _, _, _, _ => none
  | n + 1, g, y0, y1, k105 => if (8 : Int32) ≤ y1 then k105 g y0 else zbj (zgN g [0] y0 4) (fun a35 => zgd (1 ≤ g.rc ∧ 14 ≤ g.rs) (zlet (znew g (.inr (1, nwX1)) 14) (fun g38 => zbd (fX1_init g38 g.sz) (fun _ g40 => zbj (zob g40 [1] g.sz) (fun ob42 => zbj (zsR g40 9 a35 y1 (some g.sz)) (fun g44 => fX0_init_L80 n g44 y0 (y1 + (1 : Int32)) k105))))))
noncomputable def fX0_init_L107 : Nat → zS → Nat → Int32 → Option (Unit × zS)
  | 0, _, _, _ => none
  | n + 1, g, y0, y1 => if (4 : Int32) ≤ y1 then some ((), g) else zbj (zgN g [0] y0 5) (fun a48 => zbj (zsI g 0 a48 y1 (-1 : Int32)) (fun g50 => fX0_init_L107 n g50 y0 (y1 + (1 : Int32))))
noncomputable def fX0_init (g : zS) (a0 : Nat) : Option (Unit × zS) := zgd (¬ (16 : Int32) < 0 ∧ 1 ≤ g.rc ∧ (16 : Int32).toNatClampNeg ≤ g.rs ∧ (16 : Int32).toNatClampNeg * 4 ≤ 536870912) (zlet (znew g (.inl (7, (16 : Int32).toNatClampNeg, .inr (.inr (.inr (.inr fun _ => none))))) (16 : Int32).toNatClampNeg) (fun g2 => zbj (zpV g2 [0] a0 0 (va_rf (some g.sz))) (fun g3 => zgd (¬ (12 : Int32) < 0 ∧ 1 ≤ g3.rc ∧ (12 : Int32).toNatClampNeg ≤ g3.rs ∧ (12 : Int32).toNatClampNeg * 4 ≤ 536870912) (zlet (znew g3 (.inl (8, (12 : Int32).toNatClampNeg, .inr (.inr (.inr (.inr fun _ => none))))) (12 : Int32).toNatClampNeg) (fun g6 => zbj (zpV g6 [0] a0 2 (va_rf (some g3.sz))) (fun g7 => zgd (¬ (8 : Int32) < 0 ∧ 1 ≤ g7.rc ∧ (8 : Int32).toNatClampNeg ≤ g7.rs ∧ (8 : Int32).toNatClampNeg * 4 ≤ 536870912) (zlet (znew g7 (.inl (9, (8 : Int32).toNatClampNeg, .inr (.inr (.inr (.inr fun _ => none))))) (8 : Int32).toNatClampNeg) (fun g10 => zbj (zpV g10 [0] a0 4 (va_rf (some g7.sz))) (fun g11 => zgd (¬ (4 : Int32) < 0 ∧ 1 ≤ g11.rc ∧ (4 : Int32).toNatClampNeg ≤ g11.rs ∧ (4 : Int32).toNatClampNeg * 8 ≤ 536870912) (zlet (znew g11 (.inl (0, za0 0 (4 : Int32).toNatClampNeg)) (4 : Int32).toNatClampNeg) (fun g14 => zbj (zpV g14 [0] a0 5 (va_rf (some g11.sz))) (fun g15 => zbj (zpV g15 [0] a0 6 (.int (2 : Int32))) (fun g17 => zgd (¬ (512 : Int32) < 0 ∧ 1 ≤ g17.rc ∧ (512 : Int32).toNatClampNeg ≤ g17.rs ∧ (512 : Int32).toNatClampNeg * 8 ≤ 536870912) (zlet (znew g17 (.inl (1, za0 1 (512 : Int32).toNatClampNeg)) (512 : Int32).toNatClampNeg) (fun g20 => zbj (zpV g20 [0] a0 11 (va_rf (some g17.sz))) (fun g21 => zgd (¬ (7 : Int32) < 0 ∧ 1 ≤ g21.rc ∧ (7 : Int32).toNatClampNeg ≤ g21.rs ∧ (7 : Int32).toNatClampNeg * 8 ≤ 536870912) (zlet (znew g21 (.inl (0, za0 0 (7 : Int32).toNatClampNeg)) (7 : Int32).toNatClampNeg) (fun g24 => zbj (zpV g24 [0] a0 14 (va_rf (some g21.sz))) (fun g25 => zgd (¬ (500 : Int32) < 0 ∧ 1 ≤ g25.rc ∧ (500 : Int32).toNatClampNeg ≤ g25.rs ∧ (500 : Int32).toNatClampNeg * 8 ≤ 536870912) (zlet (znew g25 (.inl (0, za0 0 (500 : Int32).toNatClampNeg)) (500 : Int32).toNatClampNeg) (fun g28 => zbj (zpV g28 [0] a0 15 (va_rf (some g25.sz))) (fun g29 => zgd (¬ (150 : Int32) < 0 ∧ 1 ≤ g29.rc ∧ (150 : Int32).toNatClampNeg ≤ g29.rs ∧ (150 : Int32).toNatClampNeg * 8 ≤ 536870912) (zlet (znew g29 (.inl (0, za0 0 (150 : Int32).toNatClampNeg)) (150 : Int32).toNatClampNeg) (fun g32 => zbj (zpV g32 [0] a0 17 (va_rf (some g29.sz))) (fun g33 => fX0_init_L80 1000 g33 a0 (0 : Int32) (fun (g46 : zS) (x47 : Nat) => fX0_init_L107 1000 g46 x47 (0 : Int32) ))))))))))))))))))))))))))
theorem fX0_init_L80_ok {G : zG} {d : Nat} {K : List Nat} {Q : zO → zS → Prop} : ∀ (n : Nat) (g : zS) (y0 : Nat) (y1 : Int32) (k105 : zS → Nat → Option (Unit × zS)) (p : Unit × zS) (h : fX0_init_L80 n g y0 y1 k105 = some p) (hk105 : ∀ (g : zS) (x0 : Nat), k105 g x0 = some p → zEF G (d + 2) K YX0_init 105 [some (.ref x0), none] [] g Q) (kq : Q (.inl none) p.2), zEF G (d + 2) K YX0_init 80 [some (.ref y0), some (.int y1)] [] g Q := by
  intro n
  induction n with
  | zero =>
    intro g y0 y1 k105 p h hk105 kq
    rw [fX0_init_L80] at h
    cases h
  | succ n ih =>
    intro g y0 y1 k105 p h hk105 kq
    rw [fX0_init_L80] at h
    refine ez_iload_n (i := 1) (x := y1) dX0_init_80 rfl rfl ?_
    refine ez_bipush (v := 8) dX0_init_81 (by decide) ?_
    refine ez_icmp_ge (tgt := 105) dX0_init_83 (by decide) (fun hc => ?_) (fun hc => ?_)
    · replace h := zif_t hc h
      refine ez_clr 1 ?_
      exact hk105 g y0 h
    · replace h := zif_f hc h
      refine ez_aload_n (i := 0) (v := .ref y0) dX0_init_86 rfl rfl rfl ?_
      obtain ⟨a35, hx36, h⟩ := zbj_some h
      refine gX0_55 dX0_init_87 rfl (zgN_some hx36) ?_
      show zEF G (d + 2) K YX0_init 90 [some (.ref y0), some (.int y1)] [.ref a35] g Q
      refine ez_iload_n (i := 1) (x := y1) dX0_init_90 rfl rfl ?_
      obtain ⟨hg37, h⟩ := zgd_some h
      refine ez_new (ci := 1) (C := RX1) (Tt := TX1) (N := 14) (fs := nwX1) dX0_init_91 rfl rfl q93 q95 q53 tyX1 (by decide +kernel) nwX1_ok hg37.1 hg37.2 ?_
      refine zlet_use (fun g38 => zEF G (d + 2) K YX0_init 94 [some (.ref y0), some (.int y1)] [.ref g.sz, .int y1, .ref a35] g38 Q) h (fun g38 h => ?_)
      refine ez_dup dX0_init_94 rfl ?_
      obtain ⟨r39, g40, hq41, h⟩ := zbd_some h
      refine ez_callIN (Y' := YX1_init) (a := g.sz) (vs := []) (rest := [.ref g.sz, .int y1, .ref a35]) dX0_init_95 rfl zkX1_init rfl rfl rfl q96 q97 znX1_init (Nat.le_of_ble_eq_true rfl) (Nat.le_of_ble_eq_true rfl) rfl (wX1_init (d := d + 0) hq41 (zBack_n ?_))
      show zEF G (d + 2) K YX0_init 98 [some (.ref y0), some (.int y1)] [.ref g.sz, .int y1, .ref a35] g40 Q
      obtain ⟨ob42, hx43, h⟩ := zbj_some h
      obtain ⟨g44, hx45, h⟩ := zbj_some h
      refine sX_aa9 dX0_init_98 hx43 hx45 ?_
      refine ez_iinc (x := y1) (v := (y1 + (1 : Int32))) dX0_init_99 rfl rfl (show 1 < 2 by decide) ?_
      show zEF G (d + 2) K YX0_init 102 [some (.ref y0), some (.int (y1 + (1 : Int32)))] [] g44 Q
      refine ez_goto (tgt := 80) dX0_init_102 (by decide) ?_
      exact ih g44 y0 (y1 + (1 : Int32)) _ _ h hk105 kq
theorem fX0_init_L107_ok {G : zG} {d : Nat} {K : List Nat} {Q : zO → zS → Prop} : ∀ (n : Nat) (g : zS) (y0 : Nat) (y1 : Int32) (p : Unit × zS) (h : fX0_init_L107 n g y0 y1 = some p) (kq : Q (.inl none) p.2), zEF G (d + 2) K YX0_init 107 [some (.ref y0), some (.int y1)] [] g Q := by
  intro n
  induction n with
  | zero =>
    intro g y0 y1 p h kq
    rw [fX0_init_L107] at h
    cases h
  | succ n ih =>
    intro g y0 y1 p h kq
    rw [fX0_init_L107] at h
    refine ez_iload_n (i := 1) (x := y1) dX0_init_107 rfl rfl ?_
    refine ez_iconst (v := 4) dX0_init_108 (by decide) ?_
    refine ez_icmp_ge (tgt := 125) dX0_init_109 (by decide) (fun hc => ?_) (fun hc => ?_)
    · replace h := zif_t hc h
      obtain rfl := Option.some.inj h
      exact ez_vret dX0_init_125 rfl kq
    · replace h := zif_f hc h
      refine ez_aload_n (i := 0) (v := .ref y0) dX0_init_112 rfl rfl rfl ?_
      obtain ⟨a48, hx49, h⟩ := zbj_some h
      refine gX0_59 dX0_init_113 rfl (zgN_some hx49) ?_
      show zEF G (d + 2) K YX0_init 116 [some (.ref y0), some (.int y1)] [.ref a48] g Q
      refine ez_iload_n (i := 1) (x := y1) dX0_init_116 rfl rfl ?_
      refine ez_iconst (v := -1) dX0_init_117 (by decide) ?_
      obtain ⟨g50, hx51, h⟩ := zbj_some h
      refine sX_ia dX0_init_118 hx51 ?_
      refine ez_iinc (x := y1) (v := (y1 + (1 : Int32))) dX0_init_119 rfl rfl (show 1 < 2 by decide) ?_
      show zEF G (d + 2) K YX0_init 122 [some (.ref y0), some (.int (y1 + (1 : Int32)))] [] g50 Q
      refine ez_goto (tgt := 107) dX0_init_122 (by decide) ?_
      exact ih g50 y0 (y1 + (1 : Int32)) _ h kq
theorem wX0_init {G : zG} {d : Nat} {K : List Nat} {Q : zO → zS → Prop} {g : zS} {a0 : Nat} {p : Unit × zS} (h : fX0_init g a0 = some p) (kq : Q (.inl none) p.2) : zEM G (d + 2) K YX0_init [.ref a0] g Q := by
  show zEF G (d + 2) K YX0_init 0 [some (.ref a0), none] [] g Q
  unfold fX0_init at h
  refine ez_aload_n (i := 0) (v := .ref a0) dX0_init_0 rfl rfl rfl ?_
  refine ez_objInit dX0_init_1 rfl q86 q87 q88 (Nat.le_of_ble_eq_true rfl) ?_
  refine ez_aload_n (i := 0) (v := .ref a0) dX0_init_4 rfl rfl rfl ?_
  refine ez_bipush (v := 16) dX0_init_5 (by decide) ?_
  obtain ⟨hg1, h⟩ := zgd_some h
  refine ez_anew 7 (by decide) (by decide) dX0_init_7 rfl rfl q89 q90 hg1.1 rfl hg1.2.2.2 hg1.2.1 hg1.2.2.1 ?_
  refine zlet_use (fun g2 => zEF G (d + 2) K YX0_init 10 [some (.ref a0), none] [.ref g.sz, .ref a0] g2 Q) h (fun g2 h => ?_)
  obtain ⟨g3, hx4, h⟩ := zbj_some h
  refine pX0_31 (x := (some g.sz)) dX0_init_10 rfl rfl hx4 ?_
  refine ez_aload_n (i := 0) (v := .ref a0) dX0_init_13 rfl rfl rfl ?_
  refine ez_bipush (v := 12) dX0_init_14 (by decide) ?_
  obtain ⟨hg5, h⟩ := zgd_some h
  refine ez_anew 8 (by decide) (by decide) dX0_init_16 rfl rfl q91 q92 hg5.1 rfl hg5.2.2.2 hg5.2.1 hg5.2.2.1 ?_
  refine zlet_use (fun g6 => zEF G (d + 2) K YX0_init 19 [some (.ref a0), none] [.ref g3.sz, .ref a0] g6 Q) h (fun g6 h => ?_)
  obtain ⟨g7, hx8, h⟩ := zbj_some h
  refine pX0_49 (x := (some g3.sz)) dX0_init_19 rfl rfl hx8 ?_
  refine ez_aload_n (i := 0) (v := .ref a0) dX0_init_22 rfl rfl rfl ?_
  refine ez_bipush (v := 8) dX0_init_23 (by decide) ?_
  obtain ⟨hg9, h⟩ := zgd_some h
  refine ez_anew 9 (by decide) (by decide) dX0_init_25 rfl rfl q93 q94 hg9.1 rfl hg9.2.2.2 hg9.2.1 hg9.2.2.1 ?_
  refine zlet_use (fun g10 => zEF G (d + 2) K YX0_init 28 [some (.ref a0), none] [.ref g7.sz, .ref a0] g10 Q) h (fun g10 h => ?_)
  obtain ⟨g11, hx12, h⟩ := zbj_some h
  refine pX0_55 (x := (some g7.sz)) dX0_init_28 rfl rfl hx12 ?_
  refine ez_aload_n (i := 0) (v := .ref a0) dX0_init_31 rfl rfl rfl ?_
  refine ez_iconst (v := 4) dX0_init_32 (by decide) ?_
  obtain ⟨hg13, h⟩ := zgd_some h
  refine ez_newa 0 (by decide) dX0_init_33 rfl q152 hg13.1 rfl hg13.2.2.2 hg13.2.1 hg13.2.2.1 ?_
  refine zlet_use (fun g14 => zEF G (d + 2) K YX0_init 35 [some (.ref a0), none] [.ref g11.sz, .ref a0] g14 Q) h (fun g14 h => ?_)
  obtain ⟨g15, hx16, h⟩ := zbj_some h
  refine pX0_59 (x := (some g11.sz)) dX0_init_35 rfl rfl hx16 ?_
  refine ez_aload_n (i := 0) (v := .ref a0) dX0_init_38 rfl rfl rfl ?_
  refine ez_iconst (v := 2) dX0_init_39 (by decide) ?_
  obtain ⟨g17, hx18, h⟩ := zbj_some h
  refine pX0_63 (x := (2 : Int32)) dX0_init_40 rfl hx18 ?_
  refine ez_aload_n (i := 0) (v := .ref a0) dX0_init_43 rfl rfl rfl ?_
  refine ez_sipush (v := 512) dX0_init_44 (by decide) ?_
  obtain ⟨hg19, h⟩ := zgd_some h
  refine ez_newa 1 (by decide) dX0_init_47 rfl q153 hg19.1 rfl hg19.2.2.2 hg19.2.1 hg19.2.2.1 ?_
  refine zlet_use (fun g20 => zEF G (d + 2) K YX0_init 49 [some (.ref a0), none] [.ref g17.sz, .ref a0] g20 Q) h (fun g20 h => ?_)
  obtain ⟨g21, hx22, h⟩ := zbj_some h
  refine pX0_67 (x := (some g17.sz)) dX0_init_49 rfl rfl hx22 ?_
  refine ez_aload_n (i := 0) (v := .ref a0) dX0_init_52 rfl rfl rfl ?_
  refine ez_bipush (v := 7) dX0_init_53 (by decide) ?_
  obtain ⟨hg23, h⟩ := zgd_some h
  refine ez_newa 0 (by decide) dX0_init_55 rfl q152 hg23.1 rfl hg23.2.2.2 hg23.2.1 hg23.2.2.1 ?_
  refine zlet_use (fun g24 => zEF G (d + 2) K YX0_init 57 [some (.ref a0), none] [.ref g21.sz, .ref a0] g24 Q) h (fun g24 h => ?_)
  obtain ⟨g25, hx26, h⟩ := zbj_some h
  refine pX0_71 (x := (some g21.sz)) dX0_init_57 rfl rfl hx26 ?_
  refine ez_aload_n (i := 0) (v := .ref a0) dX0_init_60 rfl rfl rfl ?_
  refine ez_sipush (v := 500) dX0_init_61 (by decide) ?_
  obtain ⟨hg27, h⟩ := zgd_some h
  refine ez_newa 0 (by decide) dX0_init_64 rfl q152 hg27.1 rfl hg27.2.2.2 hg27.2.1 hg27.2.2.1 ?_
  refine zlet_use (fun g28 => zEF G (d + 2) K YX0_init 66 [some (.ref a0), none] [.ref g25.sz, .ref a0] g28 Q) h (fun g28 h => ?_)
  obtain ⟨g29, hx30, h⟩ := zbj_some h
  refine pX0_74 (x := (some g25.sz)) dX0_init_66 rfl rfl hx30 ?_
  refine ez_aload_n (i := 0) (v := .ref a0) dX0_init_69 rfl rfl rfl ?_
  refine ez_sipush (v := 150) dX0_init_70 (by decide) ?_
  obtain ⟨hg31, h⟩ := zgd_some h
  refine ez_newa 0 (by decide) dX0_init_73 rfl q152 hg31.1 rfl hg31.2.2.2 hg31.2.1 hg31.2.2.1 ?_
  refine zlet_use (fun g32 => zEF G (d + 2) K YX0_init 75 [some (.ref a0), none] [.ref g29.sz, .ref a0] g32 Q) h (fun g32 h => ?_)
  obtain ⟨g33, hx34, h⟩ := zbj_some h
  refine pX0_77 (x := (some g29.sz)) dX0_init_75 rfl rfl hx34 ?_
  refine ez_iconst (v := 0) dX0_init_78 (by decide) ?_
  refine ez_istore_n (i := 1) dX0_init_79 rfl (show 1 < 2 by decide) ?_
  show zEF G (d + 2) K YX0_init 80 [some (.ref a0), some (.int (0 : Int32))] [] g33 Q
  refine fX0_init_L80_ok (d := d) (K := K) 1000 g33 a0 (0 : Int32) _ _ h (fun g46 x47 h => ?_) kq
  refine ez_iconst (v := 0) dX0_init_105 (by decide) ?_
  refine ez_istore_n (i := 1) dX0_init_106 rfl (show 1 < 2 by decide) ?_
  show zEF G (d + 2) K YX0_init 107 [some (.ref x47), some (.int (0 : Int32))] [] g46 Q
  refine fX0_init_L107_ok (d := d) (K := K) 1000 g46 x47 (0 : Int32) _ h  kq
def YX0_met : zM := (yX0_met, cX0_met, 2, (Option.some Jvm.ClassFile.FieldType.int), [], false)
theorem zkX0_met : zMok YX0_met := ⟨rfl, q332, by decide +kernel, by decide +kernel⟩
theorem znX0_met : (parseMethodDescriptor YX0_met.nm.desc).map (fun d => d.parameters.length) = some 1 := by decide +kernel
theorem slX0_met : Cond.selects RX0 yX0_met yX0_met ∈ lw_all := lw_w 2 rfl rfl
noncomputable def fX0_met (g : zS) (a0 : Nat) (b0 : Int32) : Option (Int32 × zS) := zbj (zgN g [0] a0 14) (fun a1 => zbj (zaI g 0 a1 b0) (fun e3 => zbj (zsI g 0 a1 b0 (e3 + (1 : Int32))) (fun g5 => some (((-10 : Int32) - b0), g5))))
theorem wX0_met {G : zG} {d : Nat} {K : List Nat} {Q : zO → zS → Prop} {g : zS} {a0 : Nat} {b0 : Int32} {p : Int32 × zS} (h : fX0_met g a0 b0 = some p) (kq : Q (.inl (some (.int p.1))) p.2) : zEM G (d + 0) K YX0_met [.ref a0, .int b0] g Q := by
  show zEF G (d + 0) K YX0_met 0 [some (.ref a0), some (.int b0)] [] g Q
  unfold fX0_met at h
  refine ez_aload_n (i := 0) (v := .ref a0) dX0_met_0 rfl rfl rfl ?_
  obtain ⟨a1, hx2, h⟩ := zbj_some h
  refine gX0_71 dX0_met_1 rfl (zgN_some hx2) ?_
  show zEF G (d + 0) K YX0_met 4 [some (.ref a0), some (.int b0)] [.ref a1] g Q
  refine ez_iload_n (i := 1) (x := b0) dX0_met_4 rfl rfl ?_
  refine ez_dup2 dX0_met_5 rfl rfl ?_
  obtain ⟨e3, hx4, h⟩ := zbj_some h
  refine lX_ia dX0_met_6 hx4 ?_
  refine ez_iconst (v := 1) dX0_met_7 (by decide) ?_
  refine ez_iadd dX0_met_8 ?_
  obtain ⟨g5, hx6, h⟩ := zbj_some h
  refine sX_ia dX0_met_9 hx6 ?_
  refine ez_bipush (v := -10) dX0_met_10 (by decide) ?_
  refine ez_iload_n (i := 1) (x := b0) dX0_met_12 rfl rfl ?_
  refine ez_isub dX0_met_13 ?_
  obtain rfl := Option.some.inj h
  exact ez_iret dX0_met_14 rfl rfl kq
def YX0_clip : zM := (yX0_clip, cX0_clip, 4, (Option.some Jvm.ClassFile.FieldType.int), [(30, 48, 51, 94)], false)
theorem zkX0_clip : zMok YX0_clip := ⟨rfl, q218, by decide +kernel, by decide +kernel⟩
theorem znX0_clip : (parseMethodDescriptor YX0_clip.nm.desc).map (fun d => d.parameters.length) = some 2 := by decide +kernel
noncomputable def fX0_clip (g : zS) (a0 : Nat) (b0 : Int32) (b1 : Int32) : Option (Int32 × zS) := zbj (fX0_isIn b0 (0 : Int32) (4 : Int32)) (fun r1 => if r1 = 0 then some ((-102 : Int32), g) else if b1 ≤ (64 : Int32) then zbj (zgI g [0] a0 1) (fun i4 => if i4 = (16 : Int32) then some ((-104 : Int32), g) else zbj (zgN g [0] a0 0) (fun a6 => zbj (zgI g [0] a0 1) (fun i8 => zgd (1 ≤ g.rc ∧ 3 ≤ g.rs) (zlet (znew g (.inr (3, nwX3)) 3) (fun g11 => zbd (fX3_init g11 g.sz b0 b1) (fun r12 g13 => zsm r12 (fun _ => zbj (zob g13 [3] g.sz) (fun ob17 => zbj (zsR g13 7 a6 i8 (some g.sz)) (fun g19 => zbj (zgI g19 [0] a0 1) (fun i21 => zbj (zpV g19 [0] a0 1 (.int (i21 + (1 : Int32)))) (fun g23 => zbj (zgI g23 [0] a0 1) (fun i25 => some ((i25 - (1 : Int32)), g23))))))) (fun X16 => if X16 = zNAS then zbj (zob g13 [0] a0) (fun ob27 => zbd (fX0_met g13 a0 (5 : Int32)) (fun r29 g30 => some (r29, g30))) else none))))))) else some ((-102 : Int32), g))
theorem wX0_clip {G : zG} {d : Nat} {K : List Nat} {Q : zO → zS → Prop} {g : zS} {a0 : Nat} {b0 : Int32} {b1 : Int32} {p : Int32 × zS} (h : fX0_clip g a0 b0 b1 = some p) (kq : Q (.inl (some (.int p.1))) p.2) : zEM G (d + 10) K YX0_clip [.ref a0, .int b0, .int b1] g Q := by
  show zEF G (d + 10) K YX0_clip 0 [some (.ref a0), some (.int b0), some (.int b1), none] [] g Q
  unfold fX0_clip at h
  refine ez_iload_n (i := 1) (x := b0) dX0_clip_0 rfl rfl ?_
  refine ez_iconst (v := 0) dX0_clip_1 (by decide) ?_
  refine ez_iconst (v := 4) dX0_clip_2 (by decide) ?_
  obtain ⟨r1, hq3, h⟩ := zbj_some h
  refine ez_callS (Y' := YX0_isIn) (vs := [.int b0, .int (0 : Int32), .int (4 : Int32)]) (rest := []) dX0_clip_3 rfl zkX0_isIn q306 q307 q52 znX0_isIn (Nat.le_of_ble_eq_true rfl) (Nat.le_of_ble_eq_true rfl) rfl (wX0_isIn (d := d + 9) hq3 (zBack_v ?_))
  show zEF G (d + 10) K YX0_clip 6 [some (.ref a0), some (.int b0), some (.int b1), none] [.int r1] g Q
  refine ez_if_eq (tgt := 15) dX0_clip_6 (by decide) (fun hc => ?_) (fun hc => ?_)
  · replace h := zif_t hc h
    refine ez_bipush (v := -102) dX0_clip_15 (by decide) ?_
    obtain rfl := Option.some.inj h
    exact ez_iret dX0_clip_17 rfl rfl kq
  · replace h := zif_f hc h
    refine ez_iload_n (i := 2) (x := b1) dX0_clip_9 rfl rfl ?_
    refine ez_bipush (v := 64) dX0_clip_10 (by decide) ?_
    refine ez_icmp_le (tgt := 18) dX0_clip_12 (by decide) (fun hc => ?_) (fun hc => ?_)
    · replace h := zif_t hc h
      refine ez_aload_n (i := 0) (v := .ref a0) dX0_clip_18 rfl rfl rfl ?_
      obtain ⟨i4, hx5, h⟩ := zbj_some h
      refine gX0_85 dX0_clip_19 rfl hx5 ?_
      refine ez_bipush (v := 16) dX0_clip_22 (by decide) ?_
      refine ez_icmp_ne (tgt := 30) dX0_clip_24 (by decide) (fun hc => ?_) (fun hc => ?_)
      · replace h := zif_f hc h
        refine ez_aload_n (i := 0) (v := .ref a0) dX0_clip_30 rfl rfl rfl ?_
        obtain ⟨a6, hx7, h⟩ := zbj_some h
        refine gX0_31 dX0_clip_31 rfl (zgN_some hx7) ?_
        show zEF G (d + 10) K YX0_clip 34 [some (.ref a0), some (.int b0), some (.int b1), none] [.ref a6] g Q
        refine ez_aload_n (i := 0) (v := .ref a0) dX0_clip_34 rfl rfl rfl ?_
        obtain ⟨i8, hx9, h⟩ := zbj_some h
        refine gX0_85 dX0_clip_35 rfl hx9 ?_
        obtain ⟨hg10, h⟩ := zgd_some h
        refine ez_new (ci := 3) (C := RX3) (Tt := TX3) (N := 3) (fs := nwX3) dX0_clip_38 rfl rfl q89 q309 q60 tyX3 (by decide +kernel) nwX3_ok hg10.1 hg10.2 ?_
        refine zlet_use (fun g11 => zEF G (d + 10) K YX0_clip 41 [some (.ref a0), some (.int b0), some (.int b1), none] [.ref g.sz, .int i8, .ref a6] g11 Q) h (fun g11 h => ?_)
        refine ez_dup dX0_clip_41 rfl ?_
        refine ez_iload_n (i := 1) (x := b0) dX0_clip_42 rfl rfl ?_
        refine ez_iload_n (i := 2) (x := b1) dX0_clip_43 rfl rfl ?_
        obtain ⟨r12, g13, hq14, h⟩ := zbd_some h
        refine ez_callI (Y' := YX3_init) (a := g.sz) (vs := [.int b0, .int b1]) (rest := [.ref g.sz, .int i8, .ref a6]) dX0_clip_44 rfl zkX3_init rfl rfl rfl q310 q311 znX3_init (Nat.le_of_ble_eq_true rfl) (Nat.le_of_ble_eq_true rfl) rfl (wX3_init (d := d + 0) hq14 ?_)
        rcases r12 with v15 | X16
        · replace h := zsm_l h
          refine zBack_n ?_
          show zEF G (d + 10) K YX0_clip 47 [some (.ref a0), some (.int b0), some (.int b1), none] [.ref g.sz, .int i8, .ref a6] g13 Q
          obtain ⟨ob17, hx18, h⟩ := zbj_some h
          obtain ⟨g19, hx20, h⟩ := zbj_some h
          refine sX_aa7 dX0_clip_47 hx18 hx20 ?_
          refine ez_goto (tgt := 58) dX0_clip_48 (by decide) ?_
          refine ez_aload_n (i := 0) (v := .ref a0) dX0_clip_58 rfl rfl rfl ?_
          refine ez_dup dX0_clip_59 rfl ?_
          obtain ⟨i21, hx22, h⟩ := zbj_some h
          refine gX0_85 dX0_clip_60 rfl hx22 ?_
          refine ez_iconst (v := 1) dX0_clip_63 (by decide) ?_
          refine ez_iadd dX0_clip_64 ?_
          obtain ⟨g23, hx24, h⟩ := zbj_some h
          refine pX0_85 (x := (i21 + (1 : Int32))) dX0_clip_65 rfl hx24 ?_
          refine ez_aload_n (i := 0) (v := .ref a0) dX0_clip_68 rfl rfl rfl ?_
          obtain ⟨i25, hx26, h⟩ := zbj_some h
          refine gX0_85 dX0_clip_69 rfl hx26 ?_
          refine ez_iconst (v := 1) dX0_clip_72 (by decide) ?_
          refine ez_isub dX0_clip_73 ?_
          obtain rfl := Option.some.inj h
          exact ez_iret dX0_clip_74 rfl rfl kq
        · replace h := zsm_r h
          refine zBack_t ?_
          by_cases he32 : X16 = zNAS
          · replace h := zif_t he32 h
            rw [he32]
            refine zTH_catch (h := 51) (Or.inr ⟨by decide, by decide, "java/lang/NegativeArraySizeException", q219, Or.inr ⟨q283, rfl⟩⟩) ?_
            refine ez_astore_n (i := 3) dX0_clip_51 rfl (show 3 < 4 by decide) rfl ?_
            show zEF G (d + 10) K YX0_clip 52 [some (.ref a0), some (.int b0), some (.int b1), some (.ref (g13.sz - 1))] [] g13 Q
            refine ez_aload_n (i := 0) (v := .ref a0) dX0_clip_52 rfl rfl rfl ?_
            refine ez_iconst (v := 5) dX0_clip_53 (by decide) ?_
            obtain ⟨ob27, hx28, h⟩ := zbj_some h
            obtain ⟨r29, g30, hq31, h⟩ := zbd_some h
            refine ez_callV (C := RX0) (Tt := TX0) (N := 20) (Y' := YX0_met) (a := a0) (vs := [.int (5 : Int32)]) (rest := []) dX0_clip_54 rfl zkX0_met q329 q331 rfl slX0_met (zob1 hx28) znX0_met (Nat.le_of_ble_eq_true rfl) (Nat.le_of_ble_eq_true rfl) rfl (wX0_met (d := d + 9) hq31 (zBack_v ?_))
            show zEF G (d + 10) K YX0_clip 57 [some (.ref a0), some (.int b0), some (.int b1), some (.ref (g13.sz - 1))] [.int r29] g30 Q
            obtain rfl := Option.some.inj h
            exact ez_iret dX0_clip_57 rfl rfl kq
          · replace h := zif_f he32 h
            cases h
      · replace h := zif_t hc h
        refine ez_bipush (v := -104) dX0_clip_27 (by decide) ?_
        obtain rfl := Option.some.inj h
        exact ez_iret dX0_clip_29 rfl rfl kq
    · replace h := zif_f hc h
      refine ez_bipush (v := -102) dX0_clip_15 (by decide) ?_
      obtain rfl := Option.some.inj h
      exact ez_iret dX0_clip_17 rfl rfl kq
def YX0_isClip : zM := (yX0_isClip, cX0_isClip, 2, (Option.some Jvm.ClassFile.FieldType.boolean), [], false)
theorem zkX0_isClip : zMok YX0_isClip := ⟨rfl, q373, by decide +kernel, by decide +kernel⟩
theorem znX0_isClip : (parseMethodDescriptor YX0_isClip.nm.desc).map (fun d => d.parameters.length) = some 1 := by decide +kernel
theorem slX0_isClip : Cond.selects RX0 yX0_isClip yX0_isClip ∈ lw_all := lw_w 3 rfl rfl
noncomputable def fX0_isClip (g : zS) (a0 : Nat) (b0 : Int32) : Option (Int32 × zS) := zbj (zgI g [0] a0 1) (fun i1 => zbj (fX0_isIn b0 (0 : Int32) (i1 - (1 : Int32))) (fun r3 => zgd (zbl r3) (some (r3, g))))
theorem wX0_isClip {G : zG} {d : Nat} {K : List Nat} {Q : zO → zS → Prop} {g : zS} {a0 : Nat} {b0 : Int32} {p : Int32 × zS} (h : fX0_isClip g a0 b0 = some p) (kq : Q (.inl (some (.int p.1))) p.2) : zEM G (d + 1) K YX0_isClip [.ref a0, .int b0] g Q := by
  show zEF G (d + 1) K YX0_isClip 0 [some (.ref a0), some (.int b0)] [] g Q
  unfold fX0_isClip at h
  refine ez_iload_n (i := 1) (x := b0) dX0_isClip_0 rfl rfl ?_
  refine ez_iconst (v := 0) dX0_isClip_1 (by decide) ?_
  refine ez_aload_n (i := 0) (v := .ref a0) dX0_isClip_2 rfl rfl rfl ?_
  obtain ⟨i1, hx2, h⟩ := zbj_some h
  refine gX0_85 dX0_isClip_3 rfl hx2 ?_
  refine ez_iconst (v := 1) dX0_isClip_6 (by decide) ?_
  refine ez_isub dX0_isClip_7 ?_
  obtain ⟨r3, hq5, h⟩ := zbj_some h
  refine ez_callS (Y' := YX0_isIn) (vs := [.int b0, .int (0 : Int32), .int (i1 - (1 : Int32))]) (rest := []) dX0_isClip_8 rfl zkX0_isIn q306 q307 q52 znX0_isIn (Nat.le_of_ble_eq_true rfl) (Nat.le_of_ble_eq_true rfl) rfl (wX0_isIn (d := d + 0) hq5 (zBack_v ?_))
  show zEF G (d + 1) K YX0_isClip 11 [some (.ref a0), some (.int b0)] [.int r3] g Q
  obtain ⟨hg6, h⟩ := zgd_some h
  obtain rfl := Option.some.inj h
  exact ez_iret dX0_isClip_11 rfl hg6.1 kq
def YX0_number : zM := (yX0_number, cX0_number, 8, (Option.some Jvm.ClassFile.FieldType.int), [(77, 90, 93, 119), (77, 90, 101, 121)], false)
theorem zkX0_number : zMok YX0_number := ⟨rfl, q336, by decide +kernel, by decide +kernel⟩
theorem znX0_number : (parseMethodDescriptor YX0_number.nm.desc).map (fun d => d.parameters.length) = some 4 := by decide +kernel
noncomputable def fX0_number (g : zS) (a0 : Nat) (b0 : Int32) (b1 : Int32) (b2 : Int32) (b3 : Int64) : Option (Int32 × zS) := zbj (zob g [0] a0) (fun ob1 => zbd (fX0_isClip g a0 b0) (fun r3 g4 => if r3 = 0 then some ((-101 : Int32), g4) else zjoin (fun (g6 : zS) (v7 : Nat) (v8 : Int32) (v9 : Int32) (v10 : Int32) (v11 : Int64) (v12 : Int32) => zbj (fX0_isIn v9 (0 : Int32) (4 : Int32)) (fun r13 => if r13 = 0 then some ((-102 : Int32), g6) else if v12 = 0 then zbj (zgI g6 [0] v7 7) (fun i16 => if i16 = 0 then zbj (zgN g6 [0] v7 0) (fun a18 => zbj (zaN g6 7 a18 v8) (fun a20 => zbj (zob g6 [3] a20) (fun ob22 => zbd (fX3_put g6 a20 v9 v10 v11) (fun r24 g25 => zsm r24 (fun _ => some ((0 : Int32), g25)) (fun X28 => if X28 = zAIO then zbj (zob g25 [0] v7) (fun ob29 => zbd (fX0_met g25 v7 (2 : Int32)) (fun r31 g32 => some (r31, g32))) else if X28 = zCCE then zbj (zob g25 [0] v7) (fun ob35 => zbd (fX0_met g25 v7 (3 : Int32)) (fun r37 g38 => some (r37, g38))) else none))))) else some ((-103 : Int32), g6)) else some ((-102 : Int32), g6))) (fun j41 => if b1 = (3 : Int32) then zbj (fX0_isNoFloat (b3.toInt32)) (fun r49 => j41 g4 a0 b0 b1 b2 b3 r49) else zjoin (fun (g42 : zS) (v43 : Nat) (v44 : Int32) (v45 : Int32) (v46 : Int32) (v47 : Int64) => j41 g42 v43 v44 v45 v46 v47 (0 : Int32)) (fun j48 => if b1 = (4 : Int32) then if (if (b3 &&& (9223372036854775807 : Int64)) > (9218868437227405312 : Int64) then 1 else if (b3 &&& (9223372036854775807 : Int64)) == (9218868437227405312 : Int64) then 0 else -1 : Int32) ≤ 0 then j48 g4 a0 b0 b1 b2 b3 else j41 g4 a0 b0 b1 b2 b3 (1 : Int32) else j48 g4 a0 b0 b1 b2 b3))))
theorem wX0_number {G : zG} {d : Nat} {K : List Nat} {Q : zO → zS → Prop} {g : zS} {a0 : Nat} {b0 : Int32} {b1 : Int32} {b2 : Int32} {b3 : Int64} {p : Int32 × zS} (h : fX0_number g a0 b0 b1 b2 b3 = some p) (kq : Q (.inl (some (.int p.1))) p.2) : zEM G (d + 9) K YX0_number [.ref a0, .int b0, .int b1, .int b2, .long b3] g Q := by
  show zEF G (d + 9) K YX0_number 0 [some (.ref a0), some (.int b0), some (.int b1), some (.int b2), some (.long b3), none, none, none] [] g Q
  unfold fX0_number at h
  refine ez_aload_n (i := 0) (v := .ref a0) dX0_number_0 rfl rfl rfl ?_
  refine ez_iload_n (i := 1) (x := b0) dX0_number_1 rfl rfl ?_
  obtain ⟨ob1, hx2, h⟩ := zbj_some h
  obtain ⟨r3, g4, hq5, h⟩ := zbd_some h
  refine ez_callV (C := RX0) (Tt := TX0) (N := 20) (Y' := YX0_isClip) (a := a0) (vs := [.int b0]) (rest := []) dX0_number_2 rfl zkX0_isClip q370 q372 rfl slX0_isClip (zob1 hx2) znX0_isClip (Nat.le_of_ble_eq_true rfl) (Nat.le_of_ble_eq_true rfl) rfl (wX0_isClip (d := d + 7) hq5 (zBack_v ?_))
  show zEF G (d + 9) K YX0_number 5 [some (.ref a0), some (.int b0), some (.int b1), some (.int b2), some (.long b3), none, none, none] [.int r3] g4 Q
  refine ez_if_ne (tgt := 11) dX0_number_5 (by decide) (fun hc => ?_) (fun hc => ?_)
  · replace h := zif_f hc h
    refine ez_iload_n (i := 2) (x := b1) dX0_number_11 rfl rfl ?_
    refine ez_iconst (v := 3) dX0_number_12 (by decide) ?_
    refine zjoin_use (fun (j : zS → Nat → Int32 → Int32 → Int32 → Int64 → Int32 → Option (Int32 × zS)) => ∀ (g6 : zS) (v7 : Nat) (v8 : Int32) (v9 : Int32) (v10 : Int32) (v11 : Int64) (v12 : Int32), j g6 v7 v8 v9 v10 v11 v12 = some p → zEF G (d + 9) K YX0_number 48 [some (.ref v7), some (.int v8), some (.int v9), some (.int v10), some (.long v11), none, none, none] [.int v12] g6 Q) h (fun g6 v7 v8 v9 v10 v11 v12 h => ?_) (fun j41 hj41 h => ?_)
    · refine ez_istore (i := 6) dX0_number_48 (show 6 < 8 by decide) ?_
      show zEF G (d + 9) K YX0_number 50 [some (.ref v7), some (.int v8), some (.int v9), some (.int v10), some (.long v11), none, some (.int v12), none] [] g6 Q
      refine ez_iload_n (i := 2) (x := v9) dX0_number_50 rfl rfl ?_
      refine ez_iconst (v := 0) dX0_number_51 (by decide) ?_
      refine ez_iconst (v := 4) dX0_number_52 (by decide) ?_
      obtain ⟨r13, hq15, h⟩ := zbj_some h
      refine ez_callS (Y' := YX0_isIn) (vs := [.int v9, .int (0 : Int32), .int (4 : Int32)]) (rest := []) dX0_number_53 rfl zkX0_isIn q306 q307 q52 znX0_isIn (Nat.le_of_ble_eq_true rfl) (Nat.le_of_ble_eq_true rfl) rfl (wX0_isIn (d := d + 8) hq15 (zBack_v ?_))
      show zEF G (d + 9) K YX0_number 56 [some (.ref v7), some (.int v8), some (.int v9), some (.int v10), some (.long v11), none, some (.int v12), none] [.int r13] g6 Q
      refine ez_if_eq (tgt := 64) dX0_number_56 (by decide) (fun hc => ?_) (fun hc => ?_)
      · replace h := zif_t hc h
        refine ez_bipush (v := -102) dX0_number_64 (by decide) ?_
        obtain rfl := Option.some.inj h
        exact ez_iret dX0_number_66 rfl rfl kq
      · replace h := zif_f hc h
        refine ez_iload (i := 6) (x := v12) dX0_number_59 rfl ?_
        refine ez_if_eq (tgt := 67) dX0_number_61 (by decide) (fun hc => ?_) (fun hc => ?_)
        · replace h := zif_t hc h
          refine ez_aload_n (i := 0) (v := .ref v7) dX0_number_67 rfl rfl rfl ?_
          obtain ⟨i16, hx17, h⟩ := zbj_some h
          refine gX0_111 dX0_number_68 rfl hx17 ?_
          refine ez_if_eq (tgt := 77) dX0_number_71 (by decide) (fun hc => ?_) (fun hc => ?_)
          · replace h := zif_t hc h
            refine ez_aload_n (i := 0) (v := .ref v7) dX0_number_77 rfl rfl rfl ?_
            obtain ⟨a18, hx19, h⟩ := zbj_some h
            refine gX0_31 dX0_number_78 rfl (zgN_some hx19) ?_
            show zEF G (d + 9) K YX0_number 81 [some (.ref v7), some (.int v8), some (.int v9), some (.int v10), some (.long v11), none, some (.int v12), none] [.ref a18] g6 Q
            refine ez_iload_n (i := 1) (x := v8) dX0_number_81 rfl rfl ?_
            obtain ⟨a20, hx21, h⟩ := zbj_some h
            refine lX_aa7 dX0_number_82 (zaN_some hx21) ?_
            show zEF G (d + 9) K YX0_number 83 [some (.ref v7), some (.int v8), some (.int v9), some (.int v10), some (.long v11), none, some (.int v12), none] [.ref a20] g6 Q
            refine ez_iload_n (i := 2) (x := v9) dX0_number_83 rfl rfl ?_
            refine ez_iload_n (i := 3) (x := v10) dX0_number_84 rfl rfl ?_
            refine ez_lload (i := 4) (x := v11) dX0_number_85 rfl ?_
            obtain ⟨ob22, hx23, h⟩ := zbj_some h
            obtain ⟨r24, g25, hq26, h⟩ := zbd_some h
            refine ez_callV (C := RX3) (Tt := TX3) (N := 3) (Y' := YX3_put) (a := a20) (vs := [.int v9, .int v10, .long v11]) (rest := []) dX0_number_87 rfl zkX3_put q381 q382 rfl q383 (zob1 hx23) znX3_put (Nat.le_of_ble_eq_true rfl) (Nat.le_of_ble_eq_true rfl) rfl (wX3_put (d := d + 0) hq26 ?_)
            rcases r24 with v27 | X28
            · replace h := zsm_l h
              refine zBack_n ?_
              show zEF G (d + 9) K YX0_number 90 [some (.ref v7), some (.int v8), some (.int v9), some (.int v10), some (.long v11), none, some (.int v12), none] [] g25 Q
              refine ez_goto (tgt := 109) dX0_number_90 (by decide) ?_
              refine ez_iconst (v := 0) dX0_number_109 (by decide) ?_
              obtain rfl := Option.some.inj h
              exact ez_iret dX0_number_110 rfl rfl kq
            · replace h := zsm_r h
              refine zBack_t ?_
              by_cases he34 : X28 = zAIO
              · replace h := zif_t he34 h
                rw [he34]
                refine zTH_catch (h := 101) (Or.inr ⟨by decide, by decide, "java/lang/ClassCastException", q337, Or.inl ⟨nc_36, Or.inr ⟨by decide, by decide, "java/lang/ArrayIndexOutOfBoundsException", q351, Or.inr ⟨q366, rfl⟩⟩⟩⟩) ?_
                refine ez_astore (i := 7) dX0_number_101 (show 7 < 8 by decide) rfl ?_
                show zEF G (d + 9) K YX0_number 103 [some (.ref v7), some (.int v8), some (.int v9), some (.int v10), some (.long v11), none, some (.int v12), some (.ref (g25.sz - 1))] [] g25 Q
                refine ez_aload_n (i := 0) (v := .ref v7) dX0_number_103 rfl rfl rfl ?_
                refine ez_iconst (v := 2) dX0_number_104 (by decide) ?_
                obtain ⟨ob29, hx30, h⟩ := zbj_some h
                obtain ⟨r31, g32, hq33, h⟩ := zbd_some h
                refine ez_callV (C := RX0) (Tt := TX0) (N := 20) (Y' := YX0_met) (a := v7) (vs := [.int (2 : Int32)]) (rest := []) dX0_number_105 rfl zkX0_met q329 q331 rfl slX0_met (zob1 hx30) znX0_met (Nat.le_of_ble_eq_true rfl) (Nat.le_of_ble_eq_true rfl) rfl (wX0_met (d := d + 8) hq33 (zBack_v ?_))
                show zEF G (d + 9) K YX0_number 108 [some (.ref v7), some (.int v8), some (.int v9), some (.int v10), some (.long v11), none, some (.int v12), some (.ref (g25.sz - 1))] [.int r31] g32 Q
                obtain rfl := Option.some.inj h
                exact ez_iret dX0_number_108 rfl rfl kq
              · replace h := zif_f he34 h
                by_cases he40 : X28 = zCCE
                · replace h := zif_t he40 h
                  rw [he40]
                  refine zTH_catch (h := 93) (Or.inr ⟨by decide, by decide, "java/lang/ClassCastException", q337, Or.inr ⟨q349, rfl⟩⟩) ?_
                  refine ez_astore (i := 7) dX0_number_93 (show 7 < 8 by decide) rfl ?_
                  show zEF G (d + 9) K YX0_number 95 [some (.ref v7), some (.int v8), some (.int v9), some (.int v10), some (.long v11), none, some (.int v12), some (.ref (g25.sz - 1))] [] g25 Q
                  refine ez_aload_n (i := 0) (v := .ref v7) dX0_number_95 rfl rfl rfl ?_
                  refine ez_iconst (v := 3) dX0_number_96 (by decide) ?_
                  obtain ⟨ob35, hx36, h⟩ := zbj_some h
                  obtain ⟨r37, g38, hq39, h⟩ := zbd_some h
                  refine ez_callV (C := RX0) (Tt := TX0) (N := 20) (Y' := YX0_met) (a := v7) (vs := [.int (3 : Int32)]) (rest := []) dX0_number_97 rfl zkX0_met q329 q331 rfl slX0_met (zob1 hx36) znX0_met (Nat.le_of_ble_eq_true rfl) (Nat.le_of_ble_eq_true rfl) rfl (wX0_met (d := d + 8) hq39 (zBack_v ?_))
                  show zEF G (d + 9) K YX0_number 100 [some (.ref v7), some (.int v8), some (.int v9), some (.int v10), some (.long v11), none, some (.int v12), some (.ref (g25.sz - 1))] [.int r37] g38 Q
                  obtain rfl := Option.some.inj h
                  exact ez_iret dX0_number_100 rfl rfl kq
                · replace h := zif_f he40 h
                  cases h
          · replace h := zif_f hc h
            refine ez_bipush (v := -103) dX0_number_74 (by decide) ?_
            obtain rfl := Option.some.inj h
            exact ez_iret dX0_number_76 rfl rfl kq
        · replace h := zif_f hc h
          refine ez_bipush (v := -102) dX0_number_64 (by decide) ?_
          obtain rfl := Option.some.inj h
          exact ez_iret dX0_number_66 rfl rfl kq
    · refine ez_icmp_ne (tgt := 25) dX0_number_13 (by decide) (fun hc => ?_) (fun hc => ?_)
      · replace h := zif_f hc h
        refine ez_iload_n (i := 2) (x := b1) dX0_number_25 rfl rfl ?_
        refine ez_iconst (v := 4) dX0_number_26 (by decide) ?_
        refine zjoin_use (fun (j : zS → Nat → Int32 → Int32 → Int32 → Int64 → Option (Int32 × zS)) => ∀ (g42 : zS) (v43 : Nat) (v44 : Int32) (v45 : Int32) (v46 : Int32) (v47 : Int64), j g42 v43 v44 v45 v46 v47 = some p → zEF G (d + 9) K YX0_number 47 [some (.ref v43), some (.int v44), some (.int v45), some (.int v46), some (.long v47), none, none, none] [] g42 Q) h (fun g42 v43 v44 v45 v46 v47 h => ?_) (fun j48 hj48 h => ?_)
        · refine ez_iconst (v := 0) dX0_number_47 (by decide) ?_
          exact hj41 g42 v43 v44 v45 v46 v47 (0 : Int32) h
        · refine ez_icmp_ne (tgt := 47) dX0_number_27 (by decide) (fun hc => ?_) (fun hc => ?_)
          · replace h := zif_f hc h
            exact hj48 g4 a0 b0 b1 b2 b3 h
          · replace h := zif_t hc h
            refine ez_lload (i := 4) (x := b3) dX0_number_30 rfl ?_
            refine ez_ldc2l dX0_number_32 rfl q379 ?_
            refine ez_land dX0_number_35 ?_
            refine ez_ldc2l dX0_number_36 rfl q380 ?_
            refine ez_lcmp (v := (if (b3 &&& (9223372036854775807 : Int64)) > (9218868437227405312 : Int64) then 1 else if (b3 &&& (9223372036854775807 : Int64)) == (9218868437227405312 : Int64) then 0 else -1 : Int32)) dX0_number_39 rfl ?_
            refine ez_if_le (tgt := 47) dX0_number_40 (by decide) (fun hc => ?_) (fun hc => ?_)
            · replace h := zif_t hc h
              exact hj48 g4 a0 b0 b1 b2 b3 h
            · replace h := zif_f hc h
              refine ez_iconst (v := 1) dX0_number_43 (by decide) ?_
              refine ez_goto (tgt := 48) dX0_number_44 (by decide) ?_
              exact hj41 g4 a0 b0 b1 b2 b3 (1 : Int32) h
      · replace h := zif_t hc h
        refine ez_lload (i := 4) (x := b3) dX0_number_16 rfl ?_
        refine ez_l2i dX0_number_18 ?_
        obtain ⟨r49, hq51, h⟩ := zbj_some h
        refine ez_callS (Y' := YX0_isNoFloat) (vs := [.int (b3.toInt32)]) (rest := []) dX0_number_19 rfl zkX0_isNoFloat q374 q375 q52 znX0_isNoFloat (Nat.le_of_ble_eq_true rfl) (Nat.le_of_ble_eq_true rfl) rfl (wX0_isNoFloat (d := d + 8) hq51 (zBack_v ?_))
        show zEF G (d + 9) K YX0_number 22 [some (.ref a0), some (.int b0), some (.int b1), some (.int b2), some (.long b3), none, none, none] [.int r49] g4 Q
        refine ez_goto (tgt := 48) dX0_number_22 (by decide) ?_
        exact hj41 g4 a0 b0 b1 b2 b3 r49 h
  · replace h := zif_t hc h
    refine ez_bipush (v := -101) dX0_number_8 (by decide) ?_
    obtain rfl := Option.some.inj h
    exact ez_iret dX0_number_10 rfl rfl kq
def YX0_sample : zM := (yX0_sample, cX0_sample, 3, (Option.some Jvm.ClassFile.FieldType.int), [], false)
theorem zkX0_sample : zMok YX0_sample := ⟨rfl, q399, by decide +kernel, by decide +kernel⟩
theorem znX0_sample : (parseMethodDescriptor YX0_sample.nm.desc).map (fun d => d.parameters.length) = some 2 := by decide +kernel
noncomputable def fX0_sample (g : zS) (a0 : Nat) (b0 : Int32) (b1 : Int32) : Option (Int32 × zS) := zbj (zob g [0] a0) (fun ob1 => zbd (fX0_isClip g a0 b0) (fun r3 g4 => if r3 = 0 then some ((0 : Int32), g4) else zbj (zgN g4 [0] a0 0) (fun a6 => zbj (zaN g4 7 a6 b0) (fun a8 => zbj (zob g4 [3] a8) (fun ob10 => zbd (fX3_has g4 a8 b1) (fun r12 g13 => if r12 = 0 then some ((0 : Int32), g13) else zbj (zgN g13 [0] a0 0) (fun a15 => zbj (zaN g13 7 a15 b0) (fun a17 => zbj (zob g13 [3] a17) (fun ob19 => zbd (fX3_sample g13 a17 b1) (fun r21 g22 => zsm r21 (fun v24 => zbj (fJ8_floatToIntBits v24) (fun r26 => some (r26, g22))) (fun X25 => none)))))))))))
theorem wX0_sample {G : zG} {d : Nat} {K : List Nat} {Q : zO → zS → Prop} {g : zS} {a0 : Nat} {b0 : Int32} {b1 : Int32} {p : Int32 × zS} (h : fX0_sample g a0 b0 b1 = some p) (kq : Q (.inl (some (.int p.1))) p.2) : zEM G (d + 9) K YX0_sample [.ref a0, .int b0, .int b1] g Q := by
  show zEF G (d + 9) K YX0_sample 0 [some (.ref a0), some (.int b0), some (.int b1)] [] g Q
  unfold fX0_sample at h
  refine ez_aload_n (i := 0) (v := .ref a0) dX0_sample_0 rfl rfl rfl ?_
  refine ez_iload_n (i := 1) (x := b0) dX0_sample_1 rfl rfl ?_
  obtain ⟨ob1, hx2, h⟩ := zbj_some h
  obtain ⟨r3, g4, hq5, h⟩ := zbd_some h
  refine ez_callV (C := RX0) (Tt := TX0) (N := 20) (Y' := YX0_isClip) (a := a0) (vs := [.int b0]) (rest := []) dX0_sample_2 rfl zkX0_isClip q370 q372 rfl slX0_isClip (zob1 hx2) znX0_isClip (Nat.le_of_ble_eq_true rfl) (Nat.le_of_ble_eq_true rfl) rfl (wX0_isClip (d := d + 7) hq5 (zBack_v ?_))
  show zEF G (d + 9) K YX0_sample 5 [some (.ref a0), some (.int b0), some (.int b1)] [.int r3] g4 Q
  refine ez_if_eq (tgt := 37) dX0_sample_5 (by decide) (fun hc => ?_) (fun hc => ?_)
  · replace h := zif_t hc h
    refine ez_iconst (v := 0) dX0_sample_37 (by decide) ?_
    obtain rfl := Option.some.inj h
    exact ez_iret dX0_sample_38 rfl rfl kq
  · replace h := zif_f hc h
    refine ez_aload_n (i := 0) (v := .ref a0) dX0_sample_8 rfl rfl rfl ?_
    obtain ⟨a6, hx7, h⟩ := zbj_some h
    refine gX0_31 dX0_sample_9 rfl (zgN_some hx7) ?_
    show zEF G (d + 9) K YX0_sample 12 [some (.ref a0), some (.int b0), some (.int b1)] [.ref a6] g4 Q
    refine ez_iload_n (i := 1) (x := b0) dX0_sample_12 rfl rfl ?_
    obtain ⟨a8, hx9, h⟩ := zbj_some h
    refine lX_aa7 dX0_sample_13 (zaN_some hx9) ?_
    show zEF G (d + 9) K YX0_sample 14 [some (.ref a0), some (.int b0), some (.int b1)] [.ref a8] g4 Q
    refine ez_iload_n (i := 2) (x := b1) dX0_sample_14 rfl rfl ?_
    obtain ⟨ob10, hx11, h⟩ := zbj_some h
    obtain ⟨r12, g13, hq14, h⟩ := zbd_some h
    refine ez_callV (C := RX3) (Tt := TX3) (N := 3) (Y' := YX3_has) (a := a8) (vs := [.int b1]) (rest := []) dX0_sample_15 rfl zkX3_has q400 q401 rfl q402 (zob1 hx11) znX3_has (Nat.le_of_ble_eq_true rfl) (Nat.le_of_ble_eq_true rfl) rfl (wX3_has (d := d + 8) hq14 (zBack_v ?_))
    show zEF G (d + 9) K YX0_sample 18 [some (.ref a0), some (.int b0), some (.int b1)] [.int r12] g13 Q
    refine ez_if_eq (tgt := 37) dX0_sample_18 (by decide) (fun hc => ?_) (fun hc => ?_)
    · replace h := zif_t hc h
      refine ez_iconst (v := 0) dX0_sample_37 (by decide) ?_
      obtain rfl := Option.some.inj h
      exact ez_iret dX0_sample_38 rfl rfl kq
    · replace h := zif_f hc h
      refine ez_aload_n (i := 0) (v := .ref a0) dX0_sample_21 rfl rfl rfl ?_
      obtain ⟨a15, hx16, h⟩ := zbj_some h
      refine gX0_31 dX0_sample_22 rfl (zgN_some hx16) ?_
      show zEF G (d + 9) K YX0_sample 25 [some (.ref a0), some (.int b0), some (.int b1)] [.ref a15] g13 Q
      refine ez_iload_n (i := 1) (x := b0) dX0_sample_25 rfl rfl ?_
      obtain ⟨a17, hx18, h⟩ := zbj_some h
      refine lX_aa7 dX0_sample_26 (zaN_some hx18) ?_
      show zEF G (d + 9) K YX0_sample 27 [some (.ref a0), some (.int b0), some (.int b1)] [.ref a17] g13 Q
      refine ez_iload_n (i := 2) (x := b1) dX0_sample_27 rfl rfl ?_
      obtain ⟨ob19, hx20, h⟩ := zbj_some h
      obtain ⟨r21, g22, hq23, h⟩ := zbd_some h
      refine ez_callV (C := RX3) (Tt := TX3) (N := 3) (Y' := YX3_sample) (a := a17) (vs := [.int b1]) (rest := []) dX0_sample_28 rfl zkX3_sample q404 q405 rfl q406 (zob1 hx20) znX3_sample (Nat.le_of_ble_eq_true rfl) (Nat.le_of_ble_eq_true rfl) rfl (wX3_sample (d := d + 0) hq23 ?_)
      rcases r21 with v24 | X25
      · replace h := zsm_l h
        refine zBack_v ?_
        show zEF G (d + 9) K YX0_sample 31 [some (.ref a0), some (.int b0), some (.int b1)] [.float v24] g22 Q
        obtain ⟨r26, hq28, h⟩ := zbj_some h
        refine ez_callS (Y' := YJ8_floatToIntBits) (vs := [.float v24]) (rest := []) dX0_sample_31 rfl zkJ8_floatToIntBits q416 q417 q65 znJ8_floatToIntBits (Nat.le_of_ble_eq_true rfl) (Nat.le_of_ble_eq_true rfl) rfl (wJ8_floatToIntBits (d := d + 7) hq28 (zBack_v ?_))
        show zEF G (d + 9) K YX0_sample 34 [some (.ref a0), some (.int b0), some (.int b1)] [.int r26] g22 Q
        refine ez_goto (tgt := 38) dX0_sample_34 (by decide) ?_
        obtain rfl := Option.some.inj h
        exact ez_iret dX0_sample_38 rfl rfl kq
      · replace h := zsm_r h
        refine zBack_t ?_
        cases h
def YX0_fitsPlug : zM := (yX0_fitsPlug, cX0_fitsPlug, 3, (Option.some Jvm.ClassFile.FieldType.boolean), [], false)
theorem zkX0_fitsPlug : zMok YX0_fitsPlug := ⟨rfl, q438, by decide +kernel, by decide +kernel⟩
theorem znX0_fitsPlug : (parseMethodDescriptor YX0_fitsPlug.nm.desc).map (fun d => d.parameters.length) = some 2 := by decide +kernel
theorem slX0_fitsPlug : Cond.selects RX0 yX0_fitsPlug yX0_fitsPlug ∈ lw_all := lw_w 4 rfl rfl
noncomputable def fX0_fitsPlug (g : zS) (a0 : Nat) (b0 : Int32) (b1 : Int32) : Option (Int32 × zS) := if b0 = (3 : Int32) then zbj (fX0_isIn b1 (-64 : Int32) (64 : Int32)) (fun r9 => zgd (zbl r9) (some (r9, g))) else zjoin (fun (g1 : zS) (v2 : Int32) => if (16 : Int32) < v2 then some ((0 : Int32), g1) else some ((1 : Int32), g1)) (fun j3 => if b0 = (4 : Int32) then j3 g b1 else if b0 = (5 : Int32) then j3 g b1 else if b0 = (7 : Int32) then zbj (zob g [0] a0) (fun ob4 => zbd (fX0_isClip g a0 b1) (fun r6 g7 => if r6 = 0 then some ((0 : Int32), g7) else some ((1 : Int32), g7))) else some ((1 : Int32), g))
theorem wX0_fitsPlug {G : zG} {d : Nat} {K : List Nat} {Q : zO → zS → Prop} {g : zS} {a0 : Nat} {b0 : Int32} {b1 : Int32} {p : Int32 × zS} (h : fX0_fitsPlug g a0 b0 b1 = some p) (kq : Q (.inl (some (.int p.1))) p.2) : zEM G (d + 2) K YX0_fitsPlug [.ref a0, .int b0, .int b1] g Q := by
  show zEF G (d + 2) K YX0_fitsPlug 0 [some (.ref a0), some (.int b0), some (.int b1)] [] g Q
  unfold fX0_fitsPlug at h
  refine ez_iload_n (i := 1) (x := b0) dX0_fitsPlug_0 rfl rfl ?_
  refine ez_iconst (v := 3) dX0_fitsPlug_1 (by decide) ?_
  refine ez_icmp_ne (tgt := 16) dX0_fitsPlug_2 (by decide) (fun hc => ?_) (fun hc => ?_)
  · replace h := zif_f hc h
    refine ez_iload_n (i := 1) (x := b0) dX0_fitsPlug_16 rfl rfl ?_
    refine ez_iconst (v := 4) dX0_fitsPlug_17 (by decide) ?_
    refine zjoin_use (fun (j : zS → Int32 → Option (Int32 × zS)) => ∀ (g1 : zS) (v2 : Int32), j g1 v2 = some p → zEF G (d + 2) K YX0_fitsPlug 26 [none, none, some (.int v2)] [] g1 Q) h (fun g1 v2 h => ?_) (fun j3 hj3 h => ?_)
    · refine ez_iload_n (i := 2) (x := v2) dX0_fitsPlug_26 rfl rfl ?_
      refine ez_bipush (v := 16) dX0_fitsPlug_27 (by decide) ?_
      refine ez_icmp_gt (tgt := 36) dX0_fitsPlug_29 (by decide) (fun hc => ?_) (fun hc => ?_)
      · replace h := zif_t hc h
        refine ez_iconst (v := 0) dX0_fitsPlug_36 (by decide) ?_
        refine ez_goto (tgt := 59) dX0_fitsPlug_37 (by decide) ?_
        obtain rfl := Option.some.inj h
        exact ez_iret dX0_fitsPlug_59 rfl rfl kq
      · replace h := zif_f hc h
        refine ez_iconst (v := 1) dX0_fitsPlug_32 (by decide) ?_
        refine ez_goto (tgt := 59) dX0_fitsPlug_33 (by decide) ?_
        obtain rfl := Option.some.inj h
        exact ez_iret dX0_fitsPlug_59 rfl rfl kq
    · refine ez_icmp_eq (tgt := 26) dX0_fitsPlug_18 (by decide) (fun hc => ?_) (fun hc => ?_)
      · replace h := zif_t hc h
        refine ez_clr 0 ?_
        refine ez_clr 1 ?_
        exact hj3 g b1 h
      · replace h := zif_f hc h
        refine ez_iload_n (i := 1) (x := b0) dX0_fitsPlug_21 rfl rfl ?_
        refine ez_iconst (v := 5) dX0_fitsPlug_22 (by decide) ?_
        refine ez_icmp_ne (tgt := 40) dX0_fitsPlug_23 (by decide) (fun hc => ?_) (fun hc => ?_)
        · replace h := zif_f hc h
          refine ez_iload_n (i := 1) (x := b0) dX0_fitsPlug_40 rfl rfl ?_
          refine ez_bipush (v := 7) dX0_fitsPlug_41 (by decide) ?_
          refine ez_icmp_ne (tgt := 54) dX0_fitsPlug_43 (by decide) (fun hc => ?_) (fun hc => ?_)
          · replace h := zif_f hc h
            refine ez_iconst (v := 1) dX0_fitsPlug_54 (by decide) ?_
            refine ez_goto (tgt := 59) dX0_fitsPlug_55 (by decide) ?_
            obtain rfl := Option.some.inj h
            exact ez_iret dX0_fitsPlug_59 rfl rfl kq
          · replace h := zif_t hc h
            refine ez_aload_n (i := 0) (v := .ref a0) dX0_fitsPlug_46 rfl rfl rfl ?_
            refine ez_iload_n (i := 2) (x := b1) dX0_fitsPlug_47 rfl rfl ?_
            obtain ⟨ob4, hx5, h⟩ := zbj_some h
            obtain ⟨r6, g7, hq8, h⟩ := zbd_some h
            refine ez_callV (C := RX0) (Tt := TX0) (N := 20) (Y' := YX0_isClip) (a := a0) (vs := [.int b1]) (rest := []) dX0_fitsPlug_48 rfl zkX0_isClip q370 q372 rfl slX0_isClip (zob1 hx5) znX0_isClip (Nat.le_of_ble_eq_true rfl) (Nat.le_of_ble_eq_true rfl) rfl (wX0_isClip (d := d + 0) hq8 (zBack_v ?_))
            show zEF G (d + 2) K YX0_fitsPlug 51 [some (.ref a0), some (.int b0), some (.int b1)] [.int r6] g7 Q
            refine ez_if_eq (tgt := 58) dX0_fitsPlug_51 (by decide) (fun hc => ?_) (fun hc => ?_)
            · replace h := zif_t hc h
              refine ez_iconst (v := 0) dX0_fitsPlug_58 (by decide) ?_
              obtain rfl := Option.some.inj h
              exact ez_iret dX0_fitsPlug_59 rfl rfl kq
            · replace h := zif_f hc h
              refine ez_iconst (v := 1) dX0_fitsPlug_54 (by decide) ?_
              refine ez_goto (tgt := 59) dX0_fitsPlug_55 (by decide) ?_
              obtain rfl := Option.some.inj h
              exact ez_iret dX0_fitsPlug_59 rfl rfl kq
        · replace h := zif_t hc h
          refine ez_clr 0 ?_
          refine ez_clr 1 ?_
          exact hj3 g b1 h
  · replace h := zif_t hc h
    refine ez_iload_n (i := 2) (x := b1) dX0_fitsPlug_5 rfl rfl ?_
    refine ez_bipush (v := -64) dX0_fitsPlug_6 (by decide) ?_
    refine ez_bipush (v := 64) dX0_fitsPlug_8 (by decide) ?_
    obtain ⟨r9, hq11, h⟩ := zbj_some h
    refine ez_callS (Y' := YX0_isIn) (vs := [.int b1, .int (-64 : Int32), .int (64 : Int32)]) (rest := []) dX0_fitsPlug_10 rfl zkX0_isIn q306 q307 q52 znX0_isIn (Nat.le_of_ble_eq_true rfl) (Nat.le_of_ble_eq_true rfl) rfl (wX0_isIn (d := d + 1) hq11 (zBack_v ?_))
    show zEF G (d + 2) K YX0_fitsPlug 13 [some (.ref a0), some (.int b0), some (.int b1)] [.int r9] g Q
    refine ez_goto (tgt := 59) dX0_fitsPlug_13 (by decide) ?_
    obtain ⟨hg12, h⟩ := zgd_some h
    obtain rfl := Option.some.inj h
    exact ez_iret dX0_fitsPlug_59 rfl hg12.1 kq
def YX0_newPlug : zM := (yX0_newPlug, cX0_newPlug, 4, (Option.some (Jvm.ClassFile.FieldType.object "ScoreThreads$Plug")), [], false)
theorem zkX0_newPlug : zMok YX0_newPlug := ⟨rfl, q442, by decide +kernel, by decide +kernel⟩
theorem znX0_newPlug : (parseMethodDescriptor YX0_newPlug.nm.desc).map (fun d => d.parameters.length) = some 3 := by decide +kernel
theorem slX0_newPlug : Cond.selects RX0 yX0_newPlug yX0_newPlug ∈ lw_all := lw_w 5 rfl rfl
noncomputable def fX0_newPlug (g : zS) (a0 : Nat) (b0 : Int32) (b1 : UInt32) (b2 : Int32) : Option ((Nat ⊕ String) × zS) := if b0 = (0 : Int32) then zgd (1 ≤ g.rc ∧ 4 ≤ g.rs) (zlet (znew g (.inr (4, nwX5)) 4) (fun g2 => zbd (fX5_init g2 g.sz b0 b1 b2) (fun _ g4 => some (.inl g.sz, g4)))) else if b0 = (1 : Int32) then zgd (1 ≤ g.rc ∧ 4 ≤ g.rs) (zlet (znew g (.inr (5, nwX6)) 4) (fun g7 => zbd (fX6_init g7 g.sz b0 b1 b2) (fun _ g9 => some (.inl g.sz, g9)))) else if b0 = (2 : Int32) then zgd (1 ≤ g.rc ∧ 4 ≤ g.rs) (zlet (znew g (.inr (6, nwX7)) 4) (fun g12 => zbd (fX7_init g12 g.sz b0 b1 b2) (fun _ g14 => some (.inl g.sz, g14)))) else if b0 = (3 : Int32) then zgd (1 ≤ g.rc ∧ 4 ≤ g.rs) (zlet (znew g (.inr (7, nwX8)) 4) (fun g17 => zbd (fX8_init g17 g.sz b0 b1 b2) (fun _ g19 => some (.inl g.sz, g19)))) else if b0 = (4 : Int32) then zgd (1 ≤ g.rc ∧ 6 ≤ g.rs) (zlet (znew g (.inr (8, nwX9)) 6) (fun g22 => zbd (fX9_init g22 g.sz b0 b1 b2) (fun r23 g24 => zsm r23 (fun _ => some (.inl g.sz, g24)) (fun X27 => some (.inr X27, g24))))) else if b0 = (5 : Int32) then zgd (1 ≤ g.rc ∧ 6 ≤ g.rs) (zlet (znew g (.inr (9, nwX10)) 6) (fun g29 => zbd (fX10_init g29 g.sz b0 b1 b2) (fun r30 g31 => zsm r30 (fun _ => some (.inl g.sz, g31)) (fun X34 => some (.inr X34, g31))))) else if b0 = (6 : Int32) then zgd (1 ≤ g.rc ∧ 4 ≤ g.rs) (zlet (znew g (.inr (10, nwX11)) 4) (fun g36 => zbd (fX11_init g36 g.sz b0 b1 b2) (fun _ g38 => some (.inl g.sz, g38)))) else zgd (1 ≤ g.rc ∧ 5 ≤ g.rs) (zlet (znew g (.inr (11, nwX12)) 5) (fun g41 => zbj (zgN g41 [0] a0 0) (fun a42 => zbj (zaN g41 7 a42 b2) (fun a44 => zbd (fX12_init g41 g.sz b0 b1 b2 a44) (fun _ g47 => some (.inl g.sz, g47))))))
theorem wX0_newPlug {G : zG} {d : Nat} {K : List Nat} {Q : zO → zS → Prop} {g : zS} {a0 : Nat} {b0 : Int32} {b1 : UInt32} {b2 : Int32} {p : (Nat ⊕ String) × zS} (h : fX0_newPlug g a0 b0 b1 b2 = some p) (kq : Q (zoR p.1 p.2) p.2) : zEM G (d + 10) K YX0_newPlug [.ref a0, .int b0, .float b1, .int b2] g Q := by
  show zEF G (d + 10) K YX0_newPlug 0 [some (.ref a0), some (.int b0), some (.float b1), some (.int b2)] [] g Q
  unfold fX0_newPlug at h
  refine ez_iload_n (i := 1) (x := b0) dX0_newPlug_0 rfl rfl ?_
  by_cases hs0 : b0 = (0 : Int32)
  · replace h := zif_t hs0 h
    refine ez_tableIn (tgt := 44) (off := 43) dX0_newPlug_1 (by rw [hs0]; decide) (by rw [hs0]; decide) (by rw [hs0]; rfl) (by decide) ?_
    obtain ⟨hg1, h⟩ := zgd_some h
    refine ez_new (ci := 4) (C := RX5) (Tt := TX5) (N := 4) (fs := nwX5) dX0_newPlug_44 rfl rfl q443 q444 q68 tyX5 (by decide +kernel) nwX5_ok hg1.1 hg1.2 ?_
    refine zlet_use (fun g2 => zEF G (d + 10) K YX0_newPlug 47 [some (.ref a0), some (.int b0), some (.float b1), some (.int b2)] [.ref g.sz] g2 Q) h (fun g2 h => ?_)
    refine ez_dup dX0_newPlug_47 rfl ?_
    refine ez_iload_n (i := 1) (x := b0) dX0_newPlug_48 rfl rfl ?_
    refine ez_fload_n (i := 2) (x := b1) dX0_newPlug_49 rfl rfl ?_
    refine ez_iload_n (i := 3) (x := b2) dX0_newPlug_50 rfl rfl ?_
    obtain ⟨r3, g4, hq5, h⟩ := zbd_some h
    refine ez_callI (Y' := YX5_init) (a := g.sz) (vs := [.int b0, .float b1, .int b2]) (rest := [.ref g.sz]) dX0_newPlug_51 rfl zkX5_init rfl rfl rfl q445 q446 znX5_init (Nat.le_of_ble_eq_true rfl) (Nat.le_of_ble_eq_true rfl) rfl (wX5_init (d := d + 7) hq5 (zBack_n ?_))
    show zEF G (d + 10) K YX0_newPlug 54 [some (.ref a0), some (.int b0), some (.float b1), some (.int b2)] [.ref g.sz] g4 Q
    obtain rfl := Option.some.inj h
    exact ez_aret dX0_newPlug_54 rfl rfl rfl kq
  · replace h := zif_f hs0 h
    by_cases hs1 : b0 = (1 : Int32)
    · replace h := zif_t hs1 h
      refine ez_tableIn (tgt := 55) (off := 54) dX0_newPlug_1 (by rw [hs1]; decide) (by rw [hs1]; decide) (by rw [hs1]; rfl) (by decide) ?_
      obtain ⟨hg6, h⟩ := zgd_some h
      refine ez_new (ci := 5) (C := RX6) (Tt := TX6) (N := 4) (fs := nwX6) dX0_newPlug_55 rfl rfl q478 q479 q69 tyX6 (by decide +kernel) nwX6_ok hg6.1 hg6.2 ?_
      refine zlet_use (fun g7 => zEF G (d + 10) K YX0_newPlug 58 [some (.ref a0), some (.int b0), some (.float b1), some (.int b2)] [.ref g.sz] g7 Q) h (fun g7 h => ?_)
      refine ez_dup dX0_newPlug_58 rfl ?_
      refine ez_iload_n (i := 1) (x := b0) dX0_newPlug_59 rfl rfl ?_
      refine ez_fload_n (i := 2) (x := b1) dX0_newPlug_60 rfl rfl ?_
      refine ez_iload_n (i := 3) (x := b2) dX0_newPlug_61 rfl rfl ?_
      obtain ⟨r8, g9, hq10, h⟩ := zbd_some h
      refine ez_callI (Y' := YX6_init) (a := g.sz) (vs := [.int b0, .float b1, .int b2]) (rest := [.ref g.sz]) dX0_newPlug_62 rfl zkX6_init rfl rfl rfl q480 q481 znX6_init (Nat.le_of_ble_eq_true rfl) (Nat.le_of_ble_eq_true rfl) rfl (wX6_init (d := d + 6) hq10 (zBack_n ?_))
      show zEF G (d + 10) K YX0_newPlug 65 [some (.ref a0), some (.int b0), some (.float b1), some (.int b2)] [.ref g.sz] g9 Q
      obtain rfl := Option.some.inj h
      exact ez_aret dX0_newPlug_65 rfl rfl rfl kq
    · replace h := zif_f hs1 h
      by_cases hs2 : b0 = (2 : Int32)
      · replace h := zif_t hs2 h
        refine ez_tableIn (tgt := 66) (off := 65) dX0_newPlug_1 (by rw [hs2]; decide) (by rw [hs2]; decide) (by rw [hs2]; rfl) (by decide) ?_
        obtain ⟨hg11, h⟩ := zgd_some h
        refine ez_new (ci := 6) (C := RX7) (Tt := TX7) (N := 4) (fs := nwX7) dX0_newPlug_66 rfl rfl q489 q490 q70 tyX7 (by decide +kernel) nwX7_ok hg11.1 hg11.2 ?_
        refine zlet_use (fun g12 => zEF G (d + 10) K YX0_newPlug 69 [some (.ref a0), some (.int b0), some (.float b1), some (.int b2)] [.ref g.sz] g12 Q) h (fun g12 h => ?_)
        refine ez_dup dX0_newPlug_69 rfl ?_
        refine ez_iload_n (i := 1) (x := b0) dX0_newPlug_70 rfl rfl ?_
        refine ez_fload_n (i := 2) (x := b1) dX0_newPlug_71 rfl rfl ?_
        refine ez_iload_n (i := 3) (x := b2) dX0_newPlug_72 rfl rfl ?_
        obtain ⟨r13, g14, hq15, h⟩ := zbd_some h
        refine ez_callI (Y' := YX7_init) (a := g.sz) (vs := [.int b0, .float b1, .int b2]) (rest := [.ref g.sz]) dX0_newPlug_73 rfl zkX7_init rfl rfl rfl q491 q492 znX7_init (Nat.le_of_ble_eq_true rfl) (Nat.le_of_ble_eq_true rfl) rfl (wX7_init (d := d + 5) hq15 (zBack_n ?_))
        show zEF G (d + 10) K YX0_newPlug 76 [some (.ref a0), some (.int b0), some (.float b1), some (.int b2)] [.ref g.sz] g14 Q
        obtain rfl := Option.some.inj h
        exact ez_aret dX0_newPlug_76 rfl rfl rfl kq
      · replace h := zif_f hs2 h
        by_cases hs3 : b0 = (3 : Int32)
        · replace h := zif_t hs3 h
          refine ez_tableIn (tgt := 77) (off := 76) dX0_newPlug_1 (by rw [hs3]; decide) (by rw [hs3]; decide) (by rw [hs3]; rfl) (by decide) ?_
          obtain ⟨hg16, h⟩ := zgd_some h
          refine ez_new (ci := 7) (C := RX8) (Tt := TX8) (N := 4) (fs := nwX8) dX0_newPlug_77 rfl rfl q500 q501 q71 tyX8 (by decide +kernel) nwX8_ok hg16.1 hg16.2 ?_
          refine zlet_use (fun g17 => zEF G (d + 10) K YX0_newPlug 80 [some (.ref a0), some (.int b0), some (.float b1), some (.int b2)] [.ref g.sz] g17 Q) h (fun g17 h => ?_)
          refine ez_dup dX0_newPlug_80 rfl ?_
          refine ez_iload_n (i := 1) (x := b0) dX0_newPlug_81 rfl rfl ?_
          refine ez_fload_n (i := 2) (x := b1) dX0_newPlug_82 rfl rfl ?_
          refine ez_iload_n (i := 3) (x := b2) dX0_newPlug_83 rfl rfl ?_
          obtain ⟨r18, g19, hq20, h⟩ := zbd_some h
          refine ez_callI (Y' := YX8_init) (a := g.sz) (vs := [.int b0, .float b1, .int b2]) (rest := [.ref g.sz]) dX0_newPlug_84 rfl zkX8_init rfl rfl rfl q502 q503 znX8_init (Nat.le_of_ble_eq_true rfl) (Nat.le_of_ble_eq_true rfl) rfl (wX8_init (d := d + 7) hq20 (zBack_n ?_))
          show zEF G (d + 10) K YX0_newPlug 87 [some (.ref a0), some (.int b0), some (.float b1), some (.int b2)] [.ref g.sz] g19 Q
          obtain rfl := Option.some.inj h
          exact ez_aret dX0_newPlug_87 rfl rfl rfl kq
        · replace h := zif_f hs3 h
          by_cases hs4 : b0 = (4 : Int32)
          · replace h := zif_t hs4 h
            refine ez_tableIn (tgt := 88) (off := 87) dX0_newPlug_1 (by rw [hs4]; decide) (by rw [hs4]; decide) (by rw [hs4]; rfl) (by decide) ?_
            obtain ⟨hg21, h⟩ := zgd_some h
            refine ez_new (ci := 8) (C := RX9) (Tt := TX9) (N := 6) (fs := nwX9) dX0_newPlug_88 rfl rfl q511 q512 q72 tyX9 (by decide +kernel) nwX9_ok hg21.1 hg21.2 ?_
            refine zlet_use (fun g22 => zEF G (d + 10) K YX0_newPlug 91 [some (.ref a0), some (.int b0), some (.float b1), some (.int b2)] [.ref g.sz] g22 Q) h (fun g22 h => ?_)
            refine ez_dup dX0_newPlug_91 rfl ?_
            refine ez_iload_n (i := 1) (x := b0) dX0_newPlug_92 rfl rfl ?_
            refine ez_fload_n (i := 2) (x := b1) dX0_newPlug_93 rfl rfl ?_
            refine ez_iload_n (i := 3) (x := b2) dX0_newPlug_94 rfl rfl ?_
            obtain ⟨r23, g24, hq25, h⟩ := zbd_some h
            refine ez_callI (Y' := YX9_init) (a := g.sz) (vs := [.int b0, .float b1, .int b2]) (rest := [.ref g.sz]) dX0_newPlug_95 rfl zkX9_init rfl rfl rfl q513 q514 znX9_init (Nat.le_of_ble_eq_true rfl) (Nat.le_of_ble_eq_true rfl) rfl (wX9_init (d := d + 1) hq25 ?_)
            rcases r23 with v26 | X27
            · replace h := zsm_l h
              refine zBack_n ?_
              show zEF G (d + 10) K YX0_newPlug 98 [some (.ref a0), some (.int b0), some (.float b1), some (.int b2)] [.ref g.sz] g24 Q
              obtain rfl := Option.some.inj h
              exact ez_aret dX0_newPlug_98 rfl rfl rfl kq
            · replace h := zsm_r h
              refine zBack_t ?_
              obtain rfl := Option.some.inj h
              exact zTH_out (fun x hx => by cases hx) kq
          · replace h := zif_f hs4 h
            by_cases hs5 : b0 = (5 : Int32)
            · replace h := zif_t hs5 h
              refine ez_tableIn (tgt := 99) (off := 98) dX0_newPlug_1 (by rw [hs5]; decide) (by rw [hs5]; decide) (by rw [hs5]; rfl) (by decide) ?_
              obtain ⟨hg28, h⟩ := zgd_some h
              refine ez_new (ci := 9) (C := RX10) (Tt := TX10) (N := 6) (fs := nwX10) dX0_newPlug_99 rfl rfl q530 q531 q73 tyX10 (by decide +kernel) nwX10_ok hg28.1 hg28.2 ?_
              refine zlet_use (fun g29 => zEF G (d + 10) K YX0_newPlug 102 [some (.ref a0), some (.int b0), some (.float b1), some (.int b2)] [.ref g.sz] g29 Q) h (fun g29 h => ?_)
              refine ez_dup dX0_newPlug_102 rfl ?_
              refine ez_iload_n (i := 1) (x := b0) dX0_newPlug_103 rfl rfl ?_
              refine ez_fload_n (i := 2) (x := b1) dX0_newPlug_104 rfl rfl ?_
              refine ez_iload_n (i := 3) (x := b2) dX0_newPlug_105 rfl rfl ?_
              obtain ⟨r30, g31, hq32, h⟩ := zbd_some h
              refine ez_callI (Y' := YX10_init) (a := g.sz) (vs := [.int b0, .float b1, .int b2]) (rest := [.ref g.sz]) dX0_newPlug_106 rfl zkX10_init rfl rfl rfl q532 q533 znX10_init (Nat.le_of_ble_eq_true rfl) (Nat.le_of_ble_eq_true rfl) rfl (wX10_init (d := d + 0) hq32 ?_)
              rcases r30 with v33 | X34
              · replace h := zsm_l h
                refine zBack_n ?_
                show zEF G (d + 10) K YX0_newPlug 109 [some (.ref a0), some (.int b0), some (.float b1), some (.int b2)] [.ref g.sz] g31 Q
                obtain rfl := Option.some.inj h
                exact ez_aret dX0_newPlug_109 rfl rfl rfl kq
              · replace h := zsm_r h
                refine zBack_t ?_
                obtain rfl := Option.some.inj h
                exact zTH_out (fun x hx => by cases hx) kq
            · replace h := zif_f hs5 h
              by_cases hs6 : b0 = (6 : Int32)
              · replace h := zif_t hs6 h
                refine ez_tableIn (tgt := 110) (off := 109) dX0_newPlug_1 (by rw [hs6]; decide) (by rw [hs6]; decide) (by rw [hs6]; rfl) (by decide) ?_
                obtain ⟨hg35, h⟩ := zgd_some h
                refine ez_new (ci := 10) (C := RX11) (Tt := TX11) (N := 4) (fs := nwX11) dX0_newPlug_110 rfl rfl q543 q544 q74 tyX11 (by decide +kernel) nwX11_ok hg35.1 hg35.2 ?_
                refine zlet_use (fun g36 => zEF G (d + 10) K YX0_newPlug 113 [some (.ref a0), some (.int b0), some (.float b1), some (.int b2)] [.ref g.sz] g36 Q) h (fun g36 h => ?_)
                refine ez_dup dX0_newPlug_113 rfl ?_
                refine ez_iload_n (i := 1) (x := b0) dX0_newPlug_114 rfl rfl ?_
                refine ez_fload_n (i := 2) (x := b1) dX0_newPlug_115 rfl rfl ?_
                refine ez_iload_n (i := 3) (x := b2) dX0_newPlug_116 rfl rfl ?_
                obtain ⟨r37, g38, hq39, h⟩ := zbd_some h
                refine ez_callI (Y' := YX11_init) (a := g.sz) (vs := [.int b0, .float b1, .int b2]) (rest := [.ref g.sz]) dX0_newPlug_117 rfl zkX11_init rfl rfl rfl q545 q546 znX11_init (Nat.le_of_ble_eq_true rfl) (Nat.le_of_ble_eq_true rfl) rfl (wX11_init (d := d + 7) hq39 (zBack_n ?_))
                show zEF G (d + 10) K YX0_newPlug 120 [some (.ref a0), some (.int b0), some (.float b1), some (.int b2)] [.ref g.sz] g38 Q
                obtain rfl := Option.some.inj h
                exact ez_aret dX0_newPlug_120 rfl rfl rfl kq
              · replace h := zif_f hs6 h
                have he0 : b0.toInt ≠ 0 := zsw_ne hs0
                have he1 : b0.toInt ≠ 1 := zsw_ne hs1
                have he2 : b0.toInt ≠ 2 := zsw_ne hs2
                have he3 : b0.toInt ≠ 3 := zsw_ne hs3
                have he4 : b0.toInt ≠ 4 := zsw_ne hs4
                have he5 : b0.toInt ≠ 5 := zsw_ne hs5
                have he6 : b0.toInt ≠ 6 := zsw_ne hs6
                refine ez_tableOut (tgt := 121) dX0_newPlug_1 (by omega) (by decide) ?_
                obtain ⟨hg40, h⟩ := zgd_some h
                refine ez_new (ci := 11) (C := RX12) (Tt := TX12) (N := 5) (fs := nwX12) dX0_newPlug_121 rfl rfl q554 q555 q75 tyX12 (by decide +kernel) nwX12_ok hg40.1 hg40.2 ?_
                refine zlet_use (fun g41 => zEF G (d + 10) K YX0_newPlug 124 [some (.ref a0), some (.int b0), some (.float b1), some (.int b2)] [.ref g.sz] g41 Q) h (fun g41 h => ?_)
                refine ez_dup dX0_newPlug_124 rfl ?_
                refine ez_iload_n (i := 1) (x := b0) dX0_newPlug_125 rfl rfl ?_
                refine ez_fload_n (i := 2) (x := b1) dX0_newPlug_126 rfl rfl ?_
                refine ez_iload_n (i := 3) (x := b2) dX0_newPlug_127 rfl rfl ?_
                refine ez_aload_n (i := 0) (v := .ref a0) dX0_newPlug_128 rfl rfl rfl ?_
                obtain ⟨a42, hx43, h⟩ := zbj_some h
                refine gX0_31 dX0_newPlug_129 rfl (zgN_some hx43) ?_
                show zEF G (d + 10) K YX0_newPlug 132 [some (.ref a0), some (.int b0), some (.float b1), some (.int b2)] [.ref a42, .int b2, .float b1, .int b0, .ref g.sz, .ref g.sz] g41 Q
                refine ez_iload_n (i := 3) (x := b2) dX0_newPlug_132 rfl rfl ?_
                obtain ⟨a44, hx45, h⟩ := zbj_some h
                refine lX_aa7 dX0_newPlug_133 (zaN_some hx45) ?_
                show zEF G (d + 10) K YX0_newPlug 134 [some (.ref a0), some (.int b0), some (.float b1), some (.int b2)] [.ref a44, .int b2, .float b1, .int b0, .ref g.sz, .ref g.sz] g41 Q
                obtain ⟨r46, g47, hq48, h⟩ := zbd_some h
                refine ez_callI (Y' := YX12_init) (a := g.sz) (vs := [.int b0, .float b1, .int b2, .ref a44]) (rest := [.ref g.sz]) dX0_newPlug_134 rfl zkX12_init rfl rfl rfl q556 q557 znX12_init (Nat.le_of_ble_eq_true rfl) (Nat.le_of_ble_eq_true rfl) rfl (wX12_init (d := d + 7) hq48 (zBack_n ?_))
                show zEF G (d + 10) K YX0_newPlug 137 [some (.ref a0), some (.int b0), some (.float b1), some (.int b2)] [.ref g.sz] g47 Q
                obtain rfl := Option.some.inj h
                exact ez_aret dX0_newPlug_137 rfl rfl rfl kq
def YX0_plug : zM := (yX0_plug, cX0_plug, 5, (Option.some Jvm.ClassFile.FieldType.int), [(43, 62, 65, 94)], false)
theorem zkX0_plug : zMok YX0_plug := ⟨rfl, q429, by decide +kernel, by decide +kernel⟩
theorem znX0_plug : (parseMethodDescriptor YX0_plug.nm.desc).map (fun d => d.parameters.length) = some 3 := by decide +kernel
noncomputable def fX0_plug (g : zS) (a0 : Nat) (b0 : Int32) (b1 : Int32) (b2 : Int32) : Option (Int32 × zS) := zbj (fX0_isIn b0 (0 : Int32) (7 : Int32)) (fun r1 => if r1 = 0 then some ((-102 : Int32), g) else zbj (fX0_isLevel b1 (3238002688 : UInt32)) (fun r4 => if r4 = 0 then some ((-102 : Int32), g) else zbj (zob g [0] a0) (fun ob7 => zbd (fX0_fitsPlug g a0 b0 b2) (fun r9 g10 => if r9 = 0 then some ((-102 : Int32), g10) else zbj (zgI g10 [0] a0 3) (fun i12 => if i12 = (12 : Int32) then some ((-104 : Int32), g10) else zbj (zgN g10 [0] a0 2) (fun a14 => zbj (zgI g10 [0] a0 3) (fun i16 => zgd (vn_sni2f b1 = false) (zbj (zob g10 [0] a0) (fun ob19 => zbd (fX0_newPlug g10 a0 b0 (b1.toUInt32) b2) (fun r21 g22 => zsm r21 (fun v24 => zbj (zob g22 [4, 5, 6, 7, 8, 9, 10, 11] v24) (fun ob26 => zbj (zsR g22 8 a14 i16 (some v24)) (fun g28 => zbj (zgI g28 [0] a0 3) (fun i30 => zbj (zpV g28 [0] a0 3 (.int (i30 + (1 : Int32)))) (fun g32 => zbj (zgI g32 [0] a0 3) (fun i34 => some ((i34 - (1 : Int32)), g32))))))) (fun X25 => if X25 = zNAS then zbj (zob g22 [0] a0) (fun ob36 => zbd (fX0_met g22 a0 (5 : Int32)) (fun r38 g39 => some (r38, g39))) else none)))))))))))
theorem wX0_plug {G : zG} {d : Nat} {K : List Nat} {Q : zO → zS → Prop} {g : zS} {a0 : Nat} {b0 : Int32} {b1 : Int32} {b2 : Int32} {p : Int32 × zS} (h : fX0_plug g a0 b0 b1 b2 = some p) (kq : Q (.inl (some (.int p.1))) p.2) : zEM G (d + 11) K YX0_plug [.ref a0, .int b0, .int b1, .int b2] g Q := by
  show zEF G (d + 11) K YX0_plug 0 [some (.ref a0), some (.int b0), some (.int b1), some (.int b2), none] [] g Q
  unfold fX0_plug at h
  refine ez_iload_n (i := 1) (x := b0) dX0_plug_0 rfl rfl ?_
  refine ez_iconst (v := 0) dX0_plug_1 (by decide) ?_
  refine ez_bipush (v := 7) dX0_plug_2 (by decide) ?_
  obtain ⟨r1, hq3, h⟩ := zbj_some h
  refine ez_callS (Y' := YX0_isIn) (vs := [.int b0, .int (0 : Int32), .int (7 : Int32)]) (rest := []) dX0_plug_4 rfl zkX0_isIn q306 q307 q52 znX0_isIn (Nat.le_of_ble_eq_true rfl) (Nat.le_of_ble_eq_true rfl) rfl (wX0_isIn (d := d + 10) hq3 (zBack_v ?_))
  show zEF G (d + 11) K YX0_plug 7 [some (.ref a0), some (.int b0), some (.int b1), some (.int b2), none] [.int r1] g Q
  refine ez_if_eq (tgt := 28) dX0_plug_7 (by decide) (fun hc => ?_) (fun hc => ?_)
  · replace h := zif_t hc h
    refine ez_bipush (v := -102) dX0_plug_28 (by decide) ?_
    obtain rfl := Option.some.inj h
    exact ez_iret dX0_plug_30 rfl rfl kq
  · replace h := zif_f hc h
    refine ez_iload_n (i := 2) (x := b1) dX0_plug_10 rfl rfl ?_
    refine ez_ldcf dX0_plug_11 rfl q415 ?_
    obtain ⟨r4, hq6, h⟩ := zbj_some h
    refine ez_callS (Y' := YX0_isLevel) (vs := [.int b1, .float (3238002688 : UInt32)]) (rest := []) dX0_plug_13 rfl zkX0_isLevel q430 q431 q52 znX0_isLevel (Nat.le_of_ble_eq_true rfl) (Nat.le_of_ble_eq_true rfl) rfl (wX0_isLevel (d := d + 9) hq6 (zBack_v ?_))
    show zEF G (d + 11) K YX0_plug 16 [some (.ref a0), some (.int b0), some (.int b1), some (.int b2), none] [.int r4] g Q
    refine ez_if_eq (tgt := 28) dX0_plug_16 (by decide) (fun hc => ?_) (fun hc => ?_)
    · replace h := zif_t hc h
      refine ez_bipush (v := -102) dX0_plug_28 (by decide) ?_
      obtain rfl := Option.some.inj h
      exact ez_iret dX0_plug_30 rfl rfl kq
    · replace h := zif_f hc h
      refine ez_aload_n (i := 0) (v := .ref a0) dX0_plug_19 rfl rfl rfl ?_
      refine ez_iload_n (i := 1) (x := b0) dX0_plug_20 rfl rfl ?_
      refine ez_iload_n (i := 3) (x := b2) dX0_plug_21 rfl rfl ?_
      obtain ⟨ob7, hx8, h⟩ := zbj_some h
      obtain ⟨r9, g10, hq11, h⟩ := zbd_some h
      refine ez_callV (C := RX0) (Tt := TX0) (N := 20) (Y' := YX0_fitsPlug) (a := a0) (vs := [.int b0, .int b2]) (rest := []) dX0_plug_22 rfl zkX0_fitsPlug q435 q437 rfl slX0_fitsPlug (zob1 hx8) znX0_fitsPlug (Nat.le_of_ble_eq_true rfl) (Nat.le_of_ble_eq_true rfl) rfl (wX0_fitsPlug (d := d + 8) hq11 (zBack_v ?_))
      show zEF G (d + 11) K YX0_plug 25 [some (.ref a0), some (.int b0), some (.int b1), some (.int b2), none] [.int r9] g10 Q
      refine ez_if_ne (tgt := 31) dX0_plug_25 (by decide) (fun hc => ?_) (fun hc => ?_)
      · replace h := zif_f hc h
        refine ez_aload_n (i := 0) (v := .ref a0) dX0_plug_31 rfl rfl rfl ?_
        obtain ⟨i12, hx13, h⟩ := zbj_some h
        refine gX0_88 dX0_plug_32 rfl hx13 ?_
        refine ez_bipush (v := 12) dX0_plug_35 (by decide) ?_
        refine ez_icmp_ne (tgt := 43) dX0_plug_37 (by decide) (fun hc => ?_) (fun hc => ?_)
        · replace h := zif_f hc h
          refine ez_aload_n (i := 0) (v := .ref a0) dX0_plug_43 rfl rfl rfl ?_
          obtain ⟨a14, hx15, h⟩ := zbj_some h
          refine gX0_49 dX0_plug_44 rfl (zgN_some hx15) ?_
          show zEF G (d + 11) K YX0_plug 47 [some (.ref a0), some (.int b0), some (.int b1), some (.int b2), none] [.ref a14] g10 Q
          refine ez_aload_n (i := 0) (v := .ref a0) dX0_plug_47 rfl rfl rfl ?_
          obtain ⟨i16, hx17, h⟩ := zbj_some h
          refine gX0_88 dX0_plug_48 rfl hx17 ?_
          refine ez_aload_n (i := 0) (v := .ref a0) dX0_plug_51 rfl rfl rfl ?_
          refine ez_iload_n (i := 1) (x := b0) dX0_plug_52 rfl rfl ?_
          refine ez_iload_n (i := 2) (x := b1) dX0_plug_53 rfl rfl ?_
          obtain ⟨hg18, h⟩ := zgd_some h
          refine ez_raw2f dX0_plug_54 rfl q434 q391 q390 q65 (Nat.le_of_ble_eq_true rfl) hg18 ?_
          refine ez_iload_n (i := 3) (x := b2) dX0_plug_57 rfl rfl ?_
          obtain ⟨ob19, hx20, h⟩ := zbj_some h
          obtain ⟨r21, g22, hq23, h⟩ := zbd_some h
          refine ez_callV (C := RX0) (Tt := TX0) (N := 20) (Y' := YX0_newPlug) (a := a0) (vs := [.int b0, .float (b1.toUInt32), .int b2]) (rest := [.int i16, .ref a14]) dX0_plug_58 rfl zkX0_newPlug q439 q441 rfl slX0_newPlug (zob1 hx20) znX0_newPlug (Nat.le_of_ble_eq_true rfl) (Nat.le_of_ble_eq_true rfl) rfl (wX0_newPlug (d := d + 0) hq23 ?_)
          rcases r21 with v24 | X25
          · replace h := zsm_l h
            refine zBack_v ?_
            show zEF G (d + 11) K YX0_plug 61 [some (.ref a0), some (.int b0), some (.int b1), some (.int b2), none] [.ref v24, .int i16, .ref a14] g22 Q
            obtain ⟨ob26, hx27, h⟩ := zbj_some h
            obtain ⟨g28, hx29, h⟩ := zbj_some h
            refine sX_aa8 dX0_plug_61 hx27 hx29 ?_
            refine ez_goto (tgt := 73) dX0_plug_62 (by decide) ?_
            refine ez_aload_n (i := 0) (v := .ref a0) dX0_plug_73 rfl rfl rfl ?_
            refine ez_dup dX0_plug_74 rfl ?_
            obtain ⟨i30, hx31, h⟩ := zbj_some h
            refine gX0_88 dX0_plug_75 rfl hx31 ?_
            refine ez_iconst (v := 1) dX0_plug_78 (by decide) ?_
            refine ez_iadd dX0_plug_79 ?_
            obtain ⟨g32, hx33, h⟩ := zbj_some h
            refine pX0_88 (x := (i30 + (1 : Int32))) dX0_plug_80 rfl hx33 ?_
            refine ez_aload_n (i := 0) (v := .ref a0) dX0_plug_83 rfl rfl rfl ?_
            obtain ⟨i34, hx35, h⟩ := zbj_some h
            refine gX0_88 dX0_plug_84 rfl hx35 ?_
            refine ez_iconst (v := 1) dX0_plug_87 (by decide) ?_
            refine ez_isub dX0_plug_88 ?_
            obtain rfl := Option.some.inj h
            exact ez_iret dX0_plug_89 rfl rfl kq
          · replace h := zsm_r h
            refine zBack_t ?_
            by_cases he41 : X25 = zNAS
            · replace h := zif_t he41 h
              rw [he41]
              refine zTH_catch (h := 65) (Or.inr ⟨by decide, by decide, "java/lang/NegativeArraySizeException", q219, Or.inr ⟨q283, rfl⟩⟩) ?_
              refine ez_astore (i := 4) dX0_plug_65 (show 4 < 5 by decide) rfl ?_
              show zEF G (d + 11) K YX0_plug 67 [some (.ref a0), some (.int b0), some (.int b1), some (.int b2), some (.ref (g22.sz - 1))] [] g22 Q
              refine ez_aload_n (i := 0) (v := .ref a0) dX0_plug_67 rfl rfl rfl ?_
              refine ez_iconst (v := 5) dX0_plug_68 (by decide) ?_
              obtain ⟨ob36, hx37, h⟩ := zbj_some h
              obtain ⟨r38, g39, hq40, h⟩ := zbd_some h
              refine ez_callV (C := RX0) (Tt := TX0) (N := 20) (Y' := YX0_met) (a := a0) (vs := [.int (5 : Int32)]) (rest := []) dX0_plug_69 rfl zkX0_met q329 q331 rfl slX0_met (zob1 hx37) znX0_met (Nat.le_of_ble_eq_true rfl) (Nat.le_of_ble_eq_true rfl) rfl (wX0_met (d := d + 10) hq40 (zBack_v ?_))
              show zEF G (d + 11) K YX0_plug 72 [some (.ref a0), some (.int b0), some (.int b1), some (.int b2), some (.ref (g22.sz - 1))] [.int r38] g39 Q
              obtain rfl := Option.some.inj h
              exact ez_iret dX0_plug_72 rfl rfl kq
            · replace h := zif_f he41 h
              cases h
        · replace h := zif_t hc h
          refine ez_bipush (v := -104) dX0_plug_40 (by decide) ?_
          obtain rfl := Option.some.inj h
          exact ez_iret dX0_plug_42 rfl rfl kq
      · replace h := zif_t hc h
        refine ez_bipush (v := -102) dX0_plug_28 (by decide) ?_
        obtain rfl := Option.some.inj h
        exact ez_iret dX0_plug_30 rfl rfl kq
def YX0_isPlug : zM := (yX0_isPlug, cX0_isPlug, 2, (Option.some Jvm.ClassFile.FieldType.boolean), [], false)
theorem zkX0_isPlug : zMok YX0_isPlug := ⟨rfl, q600, by decide +kernel, by decide +kernel⟩
theorem znX0_isPlug : (parseMethodDescriptor YX0_isPlug.nm.desc).map (fun d => d.parameters.length) = some 1 := by decide +kernel
theorem slX0_isPlug : Cond.selects RX0 yX0_isPlug yX0_isPlug ∈ lw_all := lw_w 6 rfl rfl
noncomputable def fX0_isPlug (g : zS) (a0 : Nat) (b0 : Int32) : Option (Int32 × zS) := zbj (zgI g [0] a0 3) (fun i1 => zbj (fX0_isIn b0 (0 : Int32) (i1 - (1 : Int32))) (fun r3 => zgd (zbl r3) (some (r3, g))))
theorem wX0_isPlug {G : zG} {d : Nat} {K : List Nat} {Q : zO → zS → Prop} {g : zS} {a0 : Nat} {b0 : Int32} {p : Int32 × zS} (h : fX0_isPlug g a0 b0 = some p) (kq : Q (.inl (some (.int p.1))) p.2) : zEM G (d + 1) K YX0_isPlug [.ref a0, .int b0] g Q := by
  show zEF G (d + 1) K YX0_isPlug 0 [some (.ref a0), some (.int b0)] [] g Q
  unfold fX0_isPlug at h
  refine ez_iload_n (i := 1) (x := b0) dX0_isPlug_0 rfl rfl ?_
  refine ez_iconst (v := 0) dX0_isPlug_1 (by decide) ?_
  refine ez_aload_n (i := 0) (v := .ref a0) dX0_isPlug_2 rfl rfl rfl ?_
  obtain ⟨i1, hx2, h⟩ := zbj_some h
  refine gX0_88 dX0_isPlug_3 rfl hx2 ?_
  refine ez_iconst (v := 1) dX0_isPlug_6 (by decide) ?_
  refine ez_isub dX0_isPlug_7 ?_
  obtain ⟨r3, hq5, h⟩ := zbj_some h
  refine ez_callS (Y' := YX0_isIn) (vs := [.int b0, .int (0 : Int32), .int (i1 - (1 : Int32))]) (rest := []) dX0_isPlug_8 rfl zkX0_isIn q306 q307 q52 znX0_isIn (Nat.le_of_ble_eq_true rfl) (Nat.le_of_ble_eq_true rfl) rfl (wX0_isIn (d := d + 0) hq5 (zBack_v ?_))
  show zEF G (d + 1) K YX0_isPlug 11 [some (.ref a0), some (.int b0)] [.int r3] g Q
  obtain ⟨hg6, h⟩ := zgd_some h
  obtain rfl := Option.some.inj h
  exact ez_iret dX0_isPlug_11 rfl hg6.1 kq
def YX4_uses : zM := (yX4_uses, cX4_uses, 1, (some .int), [], true)
theorem zkX4_uses : zMokS YX4_uses := ⟨rfl, rfl, q637, by decide +kernel, by decide +kernel⟩
theorem znX4_uses : (parseMethodDescriptor YX4_uses.nm.desc).map (fun d => d.parameters.length) = some 0 := by decide +kernel
noncomputable def fX4_uses (g : zS) (a0 : Nat) : Option (Int32 × zS) := zbj (zgI g [4, 5, 6, 7, 8, 9, 10, 11] a0 3) (fun i1 => some (i1, g))
theorem wX4_uses {G : zG} {d : Nat} {K : List Nat} {Q : zO → zS → Prop} {g : zS} {a0 : Nat} {p : Int32 × zS} (h : fX4_uses g a0 = some p) (kq : Q (.inl (some (.int p.1))) p.2) : zEM G (d + 0) K YX4_uses [.ref a0] g Q := by
  show zEF G (d + 0) K YX4_uses 0 [some (.ref a0)] [] g Q
  unfold fX4_uses at h
  refine ez_aload_n (i := 0) (v := .ref a0) dX4_uses_0 rfl rfl rfl ?_
  obtain ⟨i1, hx2, h⟩ := zbj_some h
  refine gX4_26 dX4_uses_1 rfl hx2 ?_
  obtain rfl := Option.some.inj h
  exact ez_iret dX4_uses_4 rfl rfl kq

/-! methods that touch no object -/
set_option maxRecDepth 100000
def zlet {α β : Type} (x : α) (f : α → Option β) : Option β := f x
theorem zlet_use {α β : Type} {x : α} {f : α → Option β} {p : β} (Pg : α → Prop) (h : zlet x f = some p) (hk : ∀ y, f y = some p → Pg y) : Pg x := hk x h
theorem zif_t {α : Type} {c : Prop} [Decidable c] {a b p : α} (hc : c) (h : (if c then a else b) = p) : a = p := by rw [if_pos hc] at h; exact h
theorem zif_f {α : Type} {c : Prop} [Decidable c] {a b p : α} (hc : ¬ c) (h : (if c then a else b) = p) : b = p := by rw [if_neg hc] at h; exact h
theorem zsw_ne {x n : Int32} (h : ¬ x = n) : x.toInt ≠ n.toInt := fun e => h (Int32.toInt_inj.mp e)

def YJ8_isNaN : zM := (yJ8_isNaN, cJ8_isNaN, 1, (Option.some Jvm.ClassFile.FieldType.boolean), [], false)
theorem zkJ8_isNaN : zMok YJ8_isNaN := ⟨rfl, q421, by decide +kernel, by decide +kernel⟩
theorem znJ8_isNaN : (parseMethodDescriptor YJ8_isNaN.nm.desc).map (fun d => d.parameters.length) = some 1 := by decide +kernel
noncomputable def fJ8_isNaN (b0 : UInt32) : Option Int32 := if (Op.cmpValue (FP.fcmp b0 b0) .l) = 0 then some (0 : Int32) else some (1 : Int32)
theorem wJ8_isNaN {G : zG} {d : Nat} {K : List Nat} {Q : zO → zS → Prop} {g : zS} {b0 : UInt32} {p : Int32} (h : fJ8_isNaN b0 = some p) (kq : Q (.inl (some (.int p))) g) : zEM G (d + 0) K YJ8_isNaN [.float b0] g Q := by
  show zEF G (d + 0) K YJ8_isNaN 0 [some (.float b0)] [] g Q
  unfold fJ8_isNaN at h
  refine ez_fload_n (i := 0) (x := b0) dJ8_isNaN_0 rfl rfl ?_
  refine ez_fload_n (i := 0) (x := b0) dJ8_isNaN_1 rfl rfl ?_
  refine ez_fcmp dJ8_isNaN_2 ?_
  refine ez_if_eq (tgt := 10) dJ8_isNaN_3 (by decide) (fun hc => ?_) (fun hc => ?_)
  · replace h := zif_t hc h
    refine ez_iconst (v := 0) dJ8_isNaN_10 (by decide) ?_
    obtain rfl := Option.some.inj h
    exact ez_iret dJ8_isNaN_11 rfl rfl kq
  · replace h := zif_f hc h
    refine ez_iconst (v := 1) dJ8_isNaN_6 (by decide) ?_
    refine ez_goto (tgt := 11) dJ8_isNaN_7 (by decide) ?_
    obtain rfl := Option.some.inj h
    exact ez_iret dJ8_isNaN_11 rfl rfl kq
def YJ8_floatToIntBits : zM := (yJ8_floatToIntBits, cJ8_floatToIntBits, 1, (Option.some Jvm.ClassFile.FieldType.int), [], false)
theorem zkJ8_floatToIntBits : zMok YJ8_floatToIntBits := ⟨rfl, q418, by decide +kernel, by decide +kernel⟩
theorem znJ8_floatToIntBits : (parseMethodDescriptor YJ8_floatToIntBits.nm.desc).map (fun d => d.parameters.length) = some 1 := by decide +kernel
noncomputable def fJ8_floatToIntBits (b0 : UInt32) : Option Int32 := zbj (fJ8_isNaN b0) (fun r1 => if r1 = 0 then some (b0.toInt32) else some (2143289344 : Int32))
theorem wJ8_floatToIntBits {G : zG} {d : Nat} {K : List Nat} {Q : zO → zS → Prop} {g : zS} {b0 : UInt32} {p : Int32} (h : fJ8_floatToIntBits b0 = some p) (kq : Q (.inl (some (.int p))) g) : zEM G (d + 1) K YJ8_floatToIntBits [.float b0] g Q := by
  show zEF G (d + 1) K YJ8_floatToIntBits 0 [some (.float b0)] [] g Q
  unfold fJ8_floatToIntBits at h
  refine ez_fload_n (i := 0) (x := b0) dJ8_floatToIntBits_0 rfl rfl ?_
  obtain ⟨r1, hq2, h⟩ := zbj_some h
  refine ez_callS (Y' := YJ8_isNaN) (vs := [.float b0]) (rest := []) dJ8_floatToIntBits_1 rfl zkJ8_isNaN q419 q420 q65 znJ8_isNaN (Nat.le_of_ble_eq_true rfl) (Nat.le_of_ble_eq_true rfl) rfl (wJ8_isNaN (d := d + 0) hq2 (zBack_v ?_))
  show zEF G (d + 1) K YJ8_floatToIntBits 4 [some (.float b0)] [.int r1] g Q
  refine ez_if_ne (tgt := 12) dJ8_floatToIntBits_4 (by decide) (fun hc => ?_) (fun hc => ?_)
  · replace h := zif_f hc h
    refine ez_ldci dJ8_floatToIntBits_12 rfl q425 ?_
    obtain rfl := Option.some.inj h
    exact ez_iret dJ8_floatToIntBits_14 rfl rfl kq
  · replace h := zif_t hc h
    refine ez_fload_n (i := 0) (x := b0) dJ8_floatToIntBits_7 rfl rfl ?_
    refine ez_f2raw dJ8_floatToIntBits_8 rfl q422 q424 q423 q65 (Nat.le_of_ble_eq_true rfl) ?_
    obtain rfl := Option.some.inj h
    exact ez_iret dJ8_floatToIntBits_11 rfl rfl kq
def YJ11_max : zM := (yJ11_max, cJ11_max, 2, (Option.some Jvm.ClassFile.FieldType.int), [], false)
theorem zkJ11_max : zMok YJ11_max := ⟨rfl, q729, by decide +kernel, by decide +kernel⟩
theorem znJ11_max : (parseMethodDescriptor YJ11_max.nm.desc).map (fun d => d.parameters.length) = some 2 := by decide +kernel
noncomputable def fJ11_max (b0 : Int32) (b1 : Int32) : Option Int32 := if b0 < b1 then some b1 else some b0
theorem wJ11_max {G : zG} {d : Nat} {K : List Nat} {Q : zO → zS → Prop} {g : zS} {b0 : Int32} {b1 : Int32} {p : Int32} (h : fJ11_max b0 b1 = some p) (kq : Q (.inl (some (.int p))) g) : zEM G (d + 0) K YJ11_max [.int b0, .int b1] g Q := by
  show zEF G (d + 0) K YJ11_max 0 [some (.int b0), some (.int b1)] [] g Q
  unfold fJ11_max at h
  refine ez_iload_n (i := 0) (x := b0) dJ11_max_0 rfl rfl ?_
  refine ez_iload_n (i := 1) (x := b1) dJ11_max_1 rfl rfl ?_
  refine ez_icmp_lt (tgt := 9) dJ11_max_2 (by decide) (fun hc => ?_) (fun hc => ?_)
  · replace h := zif_t hc h
    refine ez_iload_n (i := 1) (x := b1) dJ11_max_9 rfl rfl ?_
    obtain rfl := Option.some.inj h
    exact ez_iret dJ11_max_10 rfl rfl kq
  · replace h := zif_f hc h
    refine ez_iload_n (i := 0) (x := b0) dJ11_max_5 rfl rfl ?_
    refine ez_goto (tgt := 10) dJ11_max_6 (by decide) ?_
    obtain rfl := Option.some.inj h
    exact ez_iret dJ11_max_10 rfl rfl kq
def YJ11_min : zM := (yJ11_min, cJ11_min, 2, (Option.some Jvm.ClassFile.FieldType.int), [], false)
theorem zkJ11_min : zMok YJ11_min := ⟨rfl, q908, by decide +kernel, by decide +kernel⟩
theorem znJ11_min : (parseMethodDescriptor YJ11_min.nm.desc).map (fun d => d.parameters.length) = some 2 := by decide +kernel
noncomputable def fJ11_min (b0 : Int32) (b1 : Int32) : Option Int32 := if b1 < b0 then some b1 else some b0
theorem wJ11_min {G : zG} {d : Nat} {K : List Nat} {Q : zO → zS → Prop} {g : zS} {b0 : Int32} {b1 : Int32} {p : Int32} (h : fJ11_min b0 b1 = some p) (kq : Q (.inl (some (.int p))) g) : zEM G (d + 0) K YJ11_min [.int b0, .int b1] g Q := by
  show zEF G (d + 0) K YJ11_min 0 [some (.int b0), some (.int b1)] [] g Q
  unfold fJ11_min at h
  refine ez_iload_n (i := 0) (x := b0) dJ11_min_0 rfl rfl ?_
  refine ez_iload_n (i := 1) (x := b1) dJ11_min_1 rfl rfl ?_
  refine ez_icmp_gt (tgt := 9) dJ11_min_2 (by decide) (fun hc => ?_) (fun hc => ?_)
  · replace h := zif_t hc h
    refine ez_iload_n (i := 1) (x := b1) dJ11_min_9 rfl rfl ?_
    obtain rfl := Option.some.inj h
    exact ez_iret dJ11_min_10 rfl rfl kq
  · replace h := zif_f hc h
    refine ez_iload_n (i := 0) (x := b0) dJ11_min_5 rfl rfl ?_
    refine ez_goto (tgt := 10) dJ11_min_6 (by decide) ?_
    obtain rfl := Option.some.inj h
    exact ez_iret dJ11_min_10 rfl rfl kq
def YX0_isIn : zM := (yX0_isIn, cX0_isIn, 3, (Option.some Jvm.ClassFile.FieldType.boolean), [], false)
theorem zkX0_isIn : zMok YX0_isIn := ⟨rfl, q308, by decide +kernel, by decide +kernel⟩
theorem znX0_isIn : (parseMethodDescriptor YX0_isIn.nm.desc).map (fun d => d.parameters.length) = some 3 := by decide +kernel
noncomputable def fX0_isIn (b0 : Int32) (b1 : Int32) (b2 : Int32) : Option Int32 := if b0 < b1 then some (0 : Int32) else if b2 < b0 then some (0 : Int32) else some (1 : Int32)
theorem wX0_isIn {G : zG} {d : Nat} {K : List Nat} {Q : zO → zS → Prop} {g : zS} {b0 : Int32} {b1 : Int32} {b2 : Int32} {p : Int32} (h : fX0_isIn b0 b1 b2 = some p) (kq : Q (.inl (some (.int p))) g) : zEM G (d + 0) K YX0_isIn [.int b0, .int b1, .int b2] g Q := by
  show zEF G (d + 0) K YX0_isIn 0 [some (.int b0), some (.int b1), some (.int b2)] [] g Q
  unfold fX0_isIn at h
  refine ez_iload_n (i := 0) (x := b0) dX0_isIn_0 rfl rfl ?_
  refine ez_iload_n (i := 1) (x := b1) dX0_isIn_1 rfl rfl ?_
  refine ez_icmp_lt (tgt := 14) dX0_isIn_2 (by decide) (fun hc => ?_) (fun hc => ?_)
  · replace h := zif_t hc h
    refine ez_iconst (v := 0) dX0_isIn_14 (by decide) ?_
    obtain rfl := Option.some.inj h
    exact ez_iret dX0_isIn_15 rfl rfl kq
  · replace h := zif_f hc h
    refine ez_iload_n (i := 0) (x := b0) dX0_isIn_5 rfl rfl ?_
    refine ez_iload_n (i := 2) (x := b2) dX0_isIn_6 rfl rfl ?_
    refine ez_icmp_gt (tgt := 14) dX0_isIn_7 (by decide) (fun hc => ?_) (fun hc => ?_)
    · replace h := zif_t hc h
      refine ez_iconst (v := 0) dX0_isIn_14 (by decide) ?_
      obtain rfl := Option.some.inj h
      exact ez_iret dX0_isIn_15 rfl rfl kq
    · replace h := zif_f hc h
      refine ez_iconst (v := 1) dX0_isIn_10 (by decide) ?_
      refine ez_goto (tgt := 15) dX0_isIn_11 (by decide) ?_
      obtain rfl := Option.some.inj h
      exact ez_iret dX0_isIn_15 rfl rfl kq
def YX0_clipped : zM := (yX0_clipped, cX0_clipped, 1, (Option.some Jvm.ClassFile.FieldType.float), [], false)
theorem zkX0_clipped : zMok YX0_clipped := ⟨rfl, q413, by decide +kernel, by decide +kernel⟩
theorem znX0_clipped : (parseMethodDescriptor YX0_clipped.nm.desc).map (fun d => d.parameters.length) = some 1 := by decide +kernel
noncomputable def fX0_clipped (b0 : UInt32) : Option UInt32 := if (Op.cmpValue (FP.fcmp b0 (1090519040 : UInt32)) .l) ≤ 0 then if 0 ≤ (Op.cmpValue (FP.fcmp b0 (3238002688 : UInt32)) .g) then some b0 else some (3238002688 : UInt32) else some (1090519040 : UInt32)
theorem wX0_clipped {G : zG} {d : Nat} {K : List Nat} {Q : zO → zS → Prop} {g : zS} {b0 : UInt32} {p : UInt32} (h : fX0_clipped b0 = some p) (kq : Q (.inl (some (.float p))) g) : zEM G (d + 0) K YX0_clipped [.float b0] g Q := by
  show zEF G (d + 0) K YX0_clipped 0 [some (.float b0)] [] g Q
  unfold fX0_clipped at h
  refine ez_fload_n (i := 0) (x := b0) dX0_clipped_0 rfl rfl ?_
  refine ez_ldcf dX0_clipped_1 rfl q414 ?_
  refine ez_fcmp dX0_clipped_3 ?_
  refine ez_if_le (tgt := 12) dX0_clipped_4 (by decide) (fun hc => ?_) (fun hc => ?_)
  · replace h := zif_t hc h
    refine ez_fload_n (i := 0) (x := b0) dX0_clipped_12 rfl rfl ?_
    refine ez_ldcf dX0_clipped_13 rfl q415 ?_
    refine ez_fcmp dX0_clipped_15 ?_
    refine ez_if_ge (tgt := 24) dX0_clipped_16 (by decide) (fun hc => ?_) (fun hc => ?_)
    · replace h := zif_t hc h
      refine ez_fload_n (i := 0) (x := b0) dX0_clipped_24 rfl rfl ?_
      obtain rfl := Option.some.inj h
      exact ez_fret dX0_clipped_25 rfl kq
    · replace h := zif_f hc h
      refine ez_ldcf dX0_clipped_19 rfl q415 ?_
      refine ez_goto (tgt := 25) dX0_clipped_21 (by decide) ?_
      obtain rfl := Option.some.inj h
      exact ez_fret dX0_clipped_25 rfl kq
  · replace h := zif_f hc h
    refine ez_ldcf dX0_clipped_7 rfl q414 ?_
    refine ez_goto (tgt := 25) dX0_clipped_9 (by decide) ?_
    obtain rfl := Option.some.inj h
    exact ez_fret dX0_clipped_25 rfl kq
def YX0_isNoFloat : zM := (yX0_isNoFloat, cX0_isNoFloat, 1, (Option.some Jvm.ClassFile.FieldType.boolean), [], false)
theorem zkX0_isNoFloat : zMok YX0_isNoFloat := ⟨rfl, q376, by decide +kernel, by decide +kernel⟩
theorem znX0_isNoFloat : (parseMethodDescriptor YX0_isNoFloat.nm.desc).map (fun d => d.parameters.length) = some 1 := by decide +kernel
noncomputable def fX0_isNoFloat (b0 : Int32) : Option Int32 := if (b0 &&& (2147483647 : Int32)) ≤ (2139095040 : Int32) then some (0 : Int32) else some (1 : Int32)
theorem wX0_isNoFloat {G : zG} {d : Nat} {K : List Nat} {Q : zO → zS → Prop} {g : zS} {b0 : Int32} {p : Int32} (h : fX0_isNoFloat b0 = some p) (kq : Q (.inl (some (.int p))) g) : zEM G (d + 0) K YX0_isNoFloat [.int b0] g Q := by
  show zEF G (d + 0) K YX0_isNoFloat 0 [some (.int b0)] [] g Q
  unfold fX0_isNoFloat at h
  refine ez_iload_n (i := 0) (x := b0) dX0_isNoFloat_0 rfl rfl ?_
  refine ez_ldci dX0_isNoFloat_1 rfl q377 ?_
  refine ez_iand dX0_isNoFloat_3 ?_
  refine ez_ldci dX0_isNoFloat_4 rfl q378 ?_
  refine ez_icmp_le (tgt := 13) dX0_isNoFloat_6 (by decide) (fun hc => ?_) (fun hc => ?_)
  · replace h := zif_t hc h
    refine ez_iconst (v := 0) dX0_isNoFloat_13 (by decide) ?_
    obtain rfl := Option.some.inj h
    exact ez_iret dX0_isNoFloat_14 rfl rfl kq
  · replace h := zif_f hc h
    refine ez_iconst (v := 1) dX0_isNoFloat_9 (by decide) ?_
    refine ez_goto (tgt := 14) dX0_isNoFloat_10 (by decide) ?_
    obtain rfl := Option.some.inj h
    exact ez_iret dX0_isNoFloat_14 rfl rfl kq
def YX0_isLevel : zM := (yX0_isLevel, cX0_isLevel, 3, (Option.some Jvm.ClassFile.FieldType.boolean), [], false)
theorem zkX0_isLevel : zMok YX0_isLevel := ⟨rfl, q432, by decide +kernel, by decide +kernel⟩
theorem znX0_isLevel : (parseMethodDescriptor YX0_isLevel.nm.desc).map (fun d => d.parameters.length) = some 2 := by decide +kernel
noncomputable def fX0_isLevel (b0 : Int32) (b1 : UInt32) : Option Int32 := zbj (fX0_isNoFloat b0) (fun r1 => zjoin (fun (v4 : UInt32) (v5 : UInt32) => if (Op.cmpValue (FP.fcmp v5 v4) .l) < 0 then some (0 : Int32) else if 0 < (Op.cmpValue (FP.fcmp v5 (1090519040 : UInt32)) .g) then some (0 : Int32) else some (1 : Int32)) (fun j6 => if r1 = 0 then zgd (vn_sni2f b0 = false) (j6 b1 (b0.toUInt32)) else j6 b1 (1120272384 : UInt32)))
theorem wX0_isLevel {G : zG} {d : Nat} {K : List Nat} {Q : zO → zS → Prop} {g : zS} {b0 : Int32} {b1 : UInt32} {p : Int32} (h : fX0_isLevel b0 b1 = some p) (kq : Q (.inl (some (.int p))) g) : zEM G (d + 1) K YX0_isLevel [.int b0, .float b1] g Q := by
  show zEF G (d + 1) K YX0_isLevel 0 [some (.int b0), some (.float b1), none] [] g Q
  unfold fX0_isLevel at h
  refine ez_iload_n (i := 0) (x := b0) dX0_isLevel_0 rfl rfl ?_
  obtain ⟨r1, hq2, h⟩ := zbj_some h
  refine ez_callS (Y' := YX0_isNoFloat) (vs := [.int b0]) (rest := []) dX0_isLevel_1 rfl zkX0_isNoFloat q374 q375 q52 znX0_isNoFloat (Nat.le_of_ble_eq_true rfl) (Nat.le_of_ble_eq_true rfl) rfl (wX0_isNoFloat (d := d + 0) hq2 (zBack_v ?_))
  show zEF G (d + 1) K YX0_isLevel 4 [some (.int b0), some (.float b1), none] [.int r1] g Q
  refine zjoin_use (fun (j : UInt32 → UInt32 → Option Int32) => ∀ (v4 : UInt32) (v5 : UInt32), j v4 v5 = some p → zEF G (d + 1) K YX0_isLevel 16 [none, some (.float v4), none] [.float v5] g Q) h (fun v4 v5 h => ?_) (fun j6 hj6 h => ?_)
  · refine ez_fstore_n (i := 2) dX0_isLevel_16 rfl (show 2 < 3 by decide) ?_
    show zEF G (d + 1) K YX0_isLevel 17 [none, some (.float v4), some (.float v5)] [] g Q
    refine ez_fload_n (i := 2) (x := v5) dX0_isLevel_17 rfl rfl ?_
    refine ez_fload_n (i := 1) (x := v4) dX0_isLevel_18 rfl rfl ?_
    refine ez_fcmp dX0_isLevel_19 ?_
    refine ez_if_lt (tgt := 34) dX0_isLevel_20 (by decide) (fun hc => ?_) (fun hc => ?_)
    · replace h := zif_t hc h
      refine ez_iconst (v := 0) dX0_isLevel_34 (by decide) ?_
      obtain rfl := Option.some.inj h
      exact ez_iret dX0_isLevel_35 rfl rfl kq
    · replace h := zif_f hc h
      refine ez_fload_n (i := 2) (x := v5) dX0_isLevel_23 rfl rfl ?_
      refine ez_ldcf dX0_isLevel_24 rfl q414 ?_
      refine ez_fcmp dX0_isLevel_26 ?_
      refine ez_if_gt (tgt := 34) dX0_isLevel_27 (by decide) (fun hc => ?_) (fun hc => ?_)
      · replace h := zif_t hc h
        refine ez_iconst (v := 0) dX0_isLevel_34 (by decide) ?_
        obtain rfl := Option.some.inj h
        exact ez_iret dX0_isLevel_35 rfl rfl kq
      · replace h := zif_f hc h
        refine ez_iconst (v := 1) dX0_isLevel_30 (by decide) ?_
        refine ez_goto (tgt := 35) dX0_isLevel_31 (by decide) ?_
        obtain rfl := Option.some.inj h
        exact ez_iret dX0_isLevel_35 rfl rfl kq
  · refine ez_if_eq (tgt := 12) dX0_isLevel_4 (by decide) (fun hc => ?_) (fun hc => ?_)
    · replace h := zif_t hc h
      refine ez_iload_n (i := 0) (x := b0) dX0_isLevel_12 rfl rfl ?_
      obtain ⟨hg7, h⟩ := zgd_some h
      refine ez_raw2f dX0_isLevel_13 rfl q434 q391 q390 q65 (Nat.le_of_ble_eq_true rfl) hg7 ?_
      refine ez_clr 0 ?_
      exact hj6 b1 (b0.toUInt32) h
    · replace h := zif_f hc h
      refine ez_ldcf dX0_isLevel_7 rfl q433 ?_
      refine ez_goto (tgt := 16) dX0_isLevel_9 (by decide) ?_
      refine ez_clr 0 ?_
      exact hj6 b1 (1120272384 : UInt32) h
def YX0_isTrack : zM := (yX0_isTrack, cX0_isTrack, 1, (Option.some Jvm.ClassFile.FieldType.boolean), [], false)
theorem zkX0_isTrack : zMok YX0_isTrack := ⟨rfl, q647, by decide +kernel, by decide +kernel⟩
theorem znX0_isTrack : (parseMethodDescriptor YX0_isTrack.nm.desc).map (fun d => d.parameters.length) = some 1 := by decide +kernel
noncomputable def fX0_isTrack (b0 : Int32) : Option Int32 := zbj (fX0_isIn b0 (0 : Int32) (7 : Int32)) (fun r1 => zgd (zbl r1) (some r1))
theorem wX0_isTrack {G : zG} {d : Nat} {K : List Nat} {Q : zO → zS → Prop} {g : zS} {b0 : Int32} {p : Int32} (h : fX0_isTrack b0 = some p) (kq : Q (.inl (some (.int p))) g) : zEM G (d + 1) K YX0_isTrack [.int b0] g Q := by
  show zEF G (d + 1) K YX0_isTrack 0 [some (.int b0)] [] g Q
  unfold fX0_isTrack at h
  refine ez_iload_n (i := 0) (x := b0) dX0_isTrack_0 rfl rfl ?_
  refine ez_iconst (v := 0) dX0_isTrack_1 (by decide) ?_
  refine ez_bipush (v := 7) dX0_isTrack_2 (by decide) ?_
  obtain ⟨r1, hq2, h⟩ := zbj_some h
  refine ez_callS (Y' := YX0_isIn) (vs := [.int b0, .int (0 : Int32), .int (7 : Int32)]) (rest := []) dX0_isTrack_4 rfl zkX0_isIn q306 q307 q52 znX0_isIn (Nat.le_of_ble_eq_true rfl) (Nat.le_of_ble_eq_true rfl) rfl (wX0_isIn (d := d + 0) hq2 (zBack_v ?_))
  show zEF G (d + 1) K YX0_isTrack 7 [some (.int b0)] [.int r1] g Q
  obtain ⟨hb, h⟩ := zgd_some h
  obtain rfl := Option.some.inj h
  exact ez_iret dX0_isTrack_7 rfl hb.1 kq
def YX2_in : zM := (yX2_in, cX2_in, 3, (Option.some Jvm.ClassFile.FieldType.boolean), [], false)
theorem zkX2_in : zMok YX2_in := ⟨rfl, q1100, by decide +kernel, by decide +kernel⟩
theorem znX2_in : (parseMethodDescriptor YX2_in.nm.desc).map (fun d => d.parameters.length) = some 3 := by decide +kernel
noncomputable def fX2_in (b0 : Int32) (b1 : Int32) (b2 : Int32) : Option Int32 := if b0 < b1 then some (0 : Int32) else if b2 < b0 then some (0 : Int32) else some (1 : Int32)
theorem wX2_in {G : zG} {d : Nat} {K : List Nat} {Q : zO → zS → Prop} {g : zS} {b0 : Int32} {b1 : Int32} {b2 : Int32} {p : Int32} (h : fX2_in b0 b1 b2 = some p) (kq : Q (.inl (some (.int p))) g) : zEM G (d + 0) K YX2_in [.int b0, .int b1, .int b2] g Q := by
  show zEF G (d + 0) K YX2_in 0 [some (.int b0), some (.int b1), some (.int b2)] [] g Q
  unfold fX2_in at h
  refine ez_iload_n (i := 0) (x := b0) dX2_in_0 rfl rfl ?_
  refine ez_iload_n (i := 1) (x := b1) dX2_in_1 rfl rfl ?_
  refine ez_icmp_lt (tgt := 14) dX2_in_2 (by decide) (fun hc => ?_) (fun hc => ?_)
  · replace h := zif_t hc h
    refine ez_iconst (v := 0) dX2_in_14 (by decide) ?_
    obtain rfl := Option.some.inj h
    exact ez_iret dX2_in_15 rfl rfl kq
  · replace h := zif_f hc h
    refine ez_iload_n (i := 0) (x := b0) dX2_in_5 rfl rfl ?_
    refine ez_iload_n (i := 2) (x := b2) dX2_in_6 rfl rfl ?_
    refine ez_icmp_gt (tgt := 14) dX2_in_7 (by decide) (fun hc => ?_) (fun hc => ?_)
    · replace h := zif_t hc h
      refine ez_iconst (v := 0) dX2_in_14 (by decide) ?_
      obtain rfl := Option.some.inj h
      exact ez_iret dX2_in_15 rfl rfl kq
    · replace h := zif_f hc h
      refine ez_iconst (v := 1) dX2_in_10 (by decide) ?_
      refine ez_goto (tgt := 15) dX2_in_11 (by decide) ?_
      obtain rfl := Option.some.inj h
      exact ez_iret dX2_in_15 rfl rfl kq
def YX2_tells : zM := (yX2_tells, cX2_tells, 3, (Option.some Jvm.ClassFile.FieldType.boolean), [], false)
theorem zkX2_tells : zMok YX2_tells := ⟨rfl, q1111, by decide +kernel, by decide +kernel⟩
theorem znX2_tells : (parseMethodDescriptor YX2_tells.nm.desc).map (fun d => d.parameters.length) = some 2 := by decide +kernel
noncomputable def fX2_tells (b0 : Int32) (b1 : Int64) : Option Int32 := if b0 = (3 : Int32) then if 0 < (if (b1 &&& (2147483647 : Int64)) > (2139095040 : Int64) then 1 else if (b1 &&& (2147483647 : Int64)) == (2139095040 : Int64) then 0 else -1 : Int32) then some (0 : Int32) else some (1 : Int32) else if b0 = (4 : Int32) then if 0 < (if (b1 &&& (9223372036854775807 : Int64)) > (9218868437227405312 : Int64) then 1 else if (b1 &&& (9223372036854775807 : Int64)) == (9218868437227405312 : Int64) then 0 else -1 : Int32) then some (0 : Int32) else some (1 : Int32) else some (1 : Int32)
theorem wX2_tells {G : zG} {d : Nat} {K : List Nat} {Q : zO → zS → Prop} {g : zS} {b0 : Int32} {b1 : Int64} {p : Int32} (h : fX2_tells b0 b1 = some p) (kq : Q (.inl (some (.int p))) g) : zEM G (d + 0) K YX2_tells [.int b0, .long b1] g Q := by
  show zEF G (d + 0) K YX2_tells 0 [some (.int b0), some (.long b1), none] [] g Q
  unfold fX2_tells at h
  refine ez_iload_n (i := 0) (x := b0) dX2_tells_0 rfl rfl ?_
  refine ez_iconst (v := 3) dX2_tells_1 (by decide) ?_
  refine ez_icmp_ne (tgt := 25) dX2_tells_2 (by decide) (fun hc => ?_) (fun hc => ?_)
  · replace h := zif_f hc h
    refine ez_iload_n (i := 0) (x := b0) dX2_tells_25 rfl rfl ?_
    refine ez_iconst (v := 4) dX2_tells_26 (by decide) ?_
    refine ez_icmp_ne (tgt := 42) dX2_tells_27 (by decide) (fun hc => ?_) (fun hc => ?_)
    · replace h := zif_f hc h
      refine ez_iconst (v := 1) dX2_tells_42 (by decide) ?_
      refine ez_goto (tgt := 47) dX2_tells_43 (by decide) ?_
      obtain rfl := Option.some.inj h
      exact ez_iret dX2_tells_47 rfl rfl kq
    · replace h := zif_t hc h
      refine ez_lload_n (i := 1) (x := b1) dX2_tells_30 rfl rfl ?_
      refine ez_ldc2l dX2_tells_31 rfl q1114 ?_
      refine ez_land dX2_tells_34 ?_
      refine ez_ldc2l dX2_tells_35 rfl q1115 ?_
      refine ez_lcmp (v := (if (b1 &&& (9223372036854775807 : Int64)) > (9218868437227405312 : Int64) then 1 else if (b1 &&& (9223372036854775807 : Int64)) == (9218868437227405312 : Int64) then 0 else -1 : Int32)) dX2_tells_38 rfl ?_
      refine ez_if_gt (tgt := 46) dX2_tells_39 (by decide) (fun hc => ?_) (fun hc => ?_)
      · replace h := zif_t hc h
        refine ez_iconst (v := 0) dX2_tells_46 (by decide) ?_
        obtain rfl := Option.some.inj h
        exact ez_iret dX2_tells_47 rfl rfl kq
      · replace h := zif_f hc h
        refine ez_iconst (v := 1) dX2_tells_42 (by decide) ?_
        refine ez_goto (tgt := 47) dX2_tells_43 (by decide) ?_
        obtain rfl := Option.some.inj h
        exact ez_iret dX2_tells_47 rfl rfl kq
  · replace h := zif_t hc h
    refine ez_lload_n (i := 1) (x := b1) dX2_tells_5 rfl rfl ?_
    refine ez_ldc2l dX2_tells_6 rfl q1112 ?_
    refine ez_land dX2_tells_9 ?_
    refine ez_ldc2l dX2_tells_10 rfl q1113 ?_
    refine ez_lcmp (v := (if (b1 &&& (2147483647 : Int64)) > (2139095040 : Int64) then 1 else if (b1 &&& (2147483647 : Int64)) == (2139095040 : Int64) then 0 else -1 : Int32)) dX2_tells_13 rfl ?_
    refine ez_if_gt (tgt := 21) dX2_tells_14 (by decide) (fun hc => ?_) (fun hc => ?_)
    · replace h := zif_t hc h
      refine ez_iconst (v := 0) dX2_tells_21 (by decide) ?_
      refine ez_goto (tgt := 47) dX2_tells_22 (by decide) ?_
      obtain rfl := Option.some.inj h
      exact ez_iret dX2_tells_47 rfl rfl kq
    · replace h := zif_f hc h
      refine ez_iconst (v := 1) dX2_tells_17 (by decide) ?_
      refine ez_goto (tgt := 47) dX2_tells_18 (by decide) ?_
      obtain rfl := Option.some.inj h
      exact ez_iret dX2_tells_47 rfl rfl kq
def YX2_clipped : zM := (yX2_clipped, cX2_clipped, 1, (Option.some Jvm.ClassFile.FieldType.float), [], false)
theorem zkX2_clipped : zMok YX2_clipped := ⟨rfl, q1127, by decide +kernel, by decide +kernel⟩
theorem znX2_clipped : (parseMethodDescriptor YX2_clipped.nm.desc).map (fun d => d.parameters.length) = some 1 := by decide +kernel
noncomputable def fX2_clipped (b0 : UInt32) : Option UInt32 := if (Op.cmpValue (FP.fcmp b0 (1090519040 : UInt32)) .l) ≤ 0 then if 0 ≤ (Op.cmpValue (FP.fcmp b0 (3238002688 : UInt32)) .g) then some b0 else some (3238002688 : UInt32) else some (1090519040 : UInt32)
theorem wX2_clipped {G : zG} {d : Nat} {K : List Nat} {Q : zO → zS → Prop} {g : zS} {b0 : UInt32} {p : UInt32} (h : fX2_clipped b0 = some p) (kq : Q (.inl (some (.float p))) g) : zEM G (d + 0) K YX2_clipped [.float b0] g Q := by
  show zEF G (d + 0) K YX2_clipped 0 [some (.float b0)] [] g Q
  unfold fX2_clipped at h
  refine ez_fload_n (i := 0) (x := b0) dX2_clipped_0 rfl rfl ?_
  refine ez_ldcf dX2_clipped_1 rfl q1128 ?_
  refine ez_fcmp dX2_clipped_3 ?_
  refine ez_if_le (tgt := 12) dX2_clipped_4 (by decide) (fun hc => ?_) (fun hc => ?_)
  · replace h := zif_t hc h
    refine ez_fload_n (i := 0) (x := b0) dX2_clipped_12 rfl rfl ?_
    refine ez_ldcf dX2_clipped_13 rfl q1129 ?_
    refine ez_fcmp dX2_clipped_15 ?_
    refine ez_if_ge (tgt := 24) dX2_clipped_16 (by decide) (fun hc => ?_) (fun hc => ?_)
    · replace h := zif_t hc h
      refine ez_fload_n (i := 0) (x := b0) dX2_clipped_24 rfl rfl ?_
      obtain rfl := Option.some.inj h
      exact ez_fret dX2_clipped_25 rfl kq
    · replace h := zif_f hc h
      refine ez_ldcf dX2_clipped_19 rfl q1129 ?_
      refine ez_goto (tgt := 25) dX2_clipped_21 (by decide) ?_
      obtain rfl := Option.some.inj h
      exact ez_fret dX2_clipped_25 rfl kq
  · replace h := zif_f hc h
    refine ez_ldcf dX2_clipped_7 rfl q1128 ?_
    refine ez_goto (tgt := 25) dX2_clipped_9 (by decide) ?_
    obtain rfl := Option.some.inj h
    exact ez_fret dX2_clipped_25 rfl kq
def YX2_isWithin : zM := (yX2_isWithin, cX2_isWithin, 3, (Option.some Jvm.ClassFile.FieldType.boolean), [], false)
theorem zkX2_isWithin : zMok YX2_isWithin := ⟨rfl, q1141, by decide +kernel, by decide +kernel⟩
theorem znX2_isWithin : (parseMethodDescriptor YX2_isWithin.nm.desc).map (fun d => d.parameters.length) = some 2 := by decide +kernel
noncomputable def fX2_isWithin (b0 : Int32) (b1 : UInt32) : Option Int32 := if (b0 &&& (2147483647 : Int32)) ≤ (2139095040 : Int32) then zgd (vn_sni2f b0 = false) (if (Op.cmpValue (FP.fcmp (b0.toUInt32) b1) .l) < 0 then some (0 : Int32) else if 0 < (Op.cmpValue (FP.fcmp (b0.toUInt32) (1090519040 : UInt32)) .g) then some (0 : Int32) else some (1 : Int32)) else some (0 : Int32)
theorem wX2_isWithin {G : zG} {d : Nat} {K : List Nat} {Q : zO → zS → Prop} {g : zS} {b0 : Int32} {b1 : UInt32} {p : Int32} (h : fX2_isWithin b0 b1 = some p) (kq : Q (.inl (some (.int p))) g) : zEM G (d + 1) K YX2_isWithin [.int b0, .float b1] g Q := by
  show zEF G (d + 1) K YX2_isWithin 0 [some (.int b0), some (.float b1), none] [] g Q
  unfold fX2_isWithin at h
  refine ez_iload_n (i := 0) (x := b0) dX2_isWithin_0 rfl rfl ?_
  refine ez_ldci dX2_isWithin_1 rfl q1142 ?_
  refine ez_iand dX2_isWithin_3 ?_
  refine ez_ldci dX2_isWithin_4 rfl q1143 ?_
  refine ez_icmp_le (tgt := 11) dX2_isWithin_6 (by decide) (fun hc => ?_) (fun hc => ?_)
  · replace h := zif_t hc h
    refine ez_iload_n (i := 0) (x := b0) dX2_isWithin_11 rfl rfl ?_
    obtain ⟨hg1, h⟩ := zgd_some h
    refine ez_raw2f dX2_isWithin_12 rfl q1132 q391 q390 q65 (Nat.le_of_ble_eq_true rfl) hg1 ?_
    refine ez_fstore_n (i := 2) dX2_isWithin_15 rfl (show 2 < 3 by decide) ?_
    show zEF G (d + 1) K YX2_isWithin 16 [some (.int b0), some (.float b1), some (.float (b0.toUInt32))] [] g Q
    refine ez_fload_n (i := 2) (x := (b0.toUInt32)) dX2_isWithin_16 rfl rfl ?_
    refine ez_fload_n (i := 1) (x := b1) dX2_isWithin_17 rfl rfl ?_
    refine ez_fcmp dX2_isWithin_18 ?_
    refine ez_if_lt (tgt := 33) dX2_isWithin_19 (by decide) (fun hc => ?_) (fun hc => ?_)
    · replace h := zif_t hc h
      refine ez_iconst (v := 0) dX2_isWithin_33 (by decide) ?_
      obtain rfl := Option.some.inj h
      exact ez_iret dX2_isWithin_34 rfl rfl kq
    · replace h := zif_f hc h
      refine ez_fload_n (i := 2) (x := (b0.toUInt32)) dX2_isWithin_22 rfl rfl ?_
      refine ez_ldcf dX2_isWithin_23 rfl q1128 ?_
      refine ez_fcmp dX2_isWithin_25 ?_
      refine ez_if_gt (tgt := 33) dX2_isWithin_26 (by decide) (fun hc => ?_) (fun hc => ?_)
      · replace h := zif_t hc h
        refine ez_iconst (v := 0) dX2_isWithin_33 (by decide) ?_
        obtain rfl := Option.some.inj h
        exact ez_iret dX2_isWithin_34 rfl rfl kq
      · replace h := zif_f hc h
        refine ez_iconst (v := 1) dX2_isWithin_29 (by decide) ?_
        refine ez_goto (tgt := 34) dX2_isWithin_30 (by decide) ?_
        obtain rfl := Option.some.inj h
        exact ez_iret dX2_isWithin_34 rfl rfl kq
  · replace h := zif_f hc h
    refine ez_iconst (v := 0) dX2_isWithin_9 (by decide) ?_
    obtain rfl := Option.some.inj h
    exact ez_iret dX2_isWithin_10 rfl rfl kq
def YX2_isEcho : zM := (yX2_isEcho, cX2_isEcho, 1, (Option.some Jvm.ClassFile.FieldType.boolean), [], false)
theorem zkX2_isEcho : zMok YX2_isEcho := ⟨rfl, q1146, by decide +kernel, by decide +kernel⟩
theorem znX2_isEcho : (parseMethodDescriptor YX2_isEcho.nm.desc).map (fun d => d.parameters.length) = some 1 := by decide +kernel
noncomputable def fX2_isEcho (b0 : Int32) : Option Int32 := if b0 = (4 : Int32) then some (1 : Int32) else if b0 = (5 : Int32) then some (1 : Int32) else some (0 : Int32)
theorem wX2_isEcho {G : zG} {d : Nat} {K : List Nat} {Q : zO → zS → Prop} {g : zS} {b0 : Int32} {p : Int32} (h : fX2_isEcho b0 = some p) (kq : Q (.inl (some (.int p))) g) : zEM G (d + 0) K YX2_isEcho [.int b0] g Q := by
  show zEF G (d + 0) K YX2_isEcho 0 [some (.int b0)] [] g Q
  unfold fX2_isEcho at h
  refine ez_iload_n (i := 0) (x := b0) dX2_isEcho_0 rfl rfl ?_
  refine ez_iconst (v := 4) dX2_isEcho_1 (by decide) ?_
  refine ez_icmp_eq (tgt := 10) dX2_isEcho_2 (by decide) (fun hc => ?_) (fun hc => ?_)
  · replace h := zif_t hc h
    refine ez_iconst (v := 1) dX2_isEcho_10 (by decide) ?_
    refine ez_goto (tgt := 15) dX2_isEcho_11 (by decide) ?_
    obtain rfl := Option.some.inj h
    exact ez_iret dX2_isEcho_15 rfl rfl kq
  · replace h := zif_f hc h
    refine ez_iload_n (i := 0) (x := b0) dX2_isEcho_5 rfl rfl ?_
    refine ez_iconst (v := 5) dX2_isEcho_6 (by decide) ?_
    refine ez_icmp_ne (tgt := 14) dX2_isEcho_7 (by decide) (fun hc => ?_) (fun hc => ?_)
    · replace h := zif_f hc h
      refine ez_iconst (v := 0) dX2_isEcho_14 (by decide) ?_
      obtain rfl := Option.some.inj h
      exact ez_iret dX2_isEcho_15 rfl rfl kq
    · replace h := zif_t hc h
      refine ez_iconst (v := 1) dX2_isEcho_10 (by decide) ?_
      refine ez_goto (tgt := 15) dX2_isEcho_11 (by decide) ?_
      obtain rfl := Option.some.inj h
      exact ez_iret dX2_isEcho_15 rfl rfl kq
def YX2_isTrack : zM := (yX2_isTrack, cX2_isTrack, 1, (Option.some Jvm.ClassFile.FieldType.boolean), [], false)
theorem zkX2_isTrack : zMok YX2_isTrack := ⟨rfl, q1161, by decide +kernel, by decide +kernel⟩
theorem znX2_isTrack : (parseMethodDescriptor YX2_isTrack.nm.desc).map (fun d => d.parameters.length) = some 1 := by decide +kernel
noncomputable def fX2_isTrack (b0 : Int32) : Option Int32 := zbj (fX2_in b0 (0 : Int32) (7 : Int32)) (fun r1 => zgd (zbl r1) (some r1))
theorem wX2_isTrack {G : zG} {d : Nat} {K : List Nat} {Q : zO → zS → Prop} {g : zS} {b0 : Int32} {p : Int32} (h : fX2_isTrack b0 = some p) (kq : Q (.inl (some (.int p))) g) : zEM G (d + 1) K YX2_isTrack [.int b0] g Q := by
  show zEF G (d + 1) K YX2_isTrack 0 [some (.int b0)] [] g Q
  unfold fX2_isTrack at h
  refine ez_iload_n (i := 0) (x := b0) dX2_isTrack_0 rfl rfl ?_
  refine ez_iconst (v := 0) dX2_isTrack_1 (by decide) ?_
  refine ez_bipush (v := 7) dX2_isTrack_2 (by decide) ?_
  obtain ⟨r1, hq2, h⟩ := zbj_some h
  refine ez_callS (Y' := YX2_in) (vs := [.int b0, .int (0 : Int32), .int (7 : Int32)]) (rest := []) dX2_isTrack_4 rfl zkX2_in q1098 q1099 q54 znX2_in (Nat.le_of_ble_eq_true rfl) (Nat.le_of_ble_eq_true rfl) rfl (wX2_in (d := d + 0) hq2 (zBack_v ?_))
  show zEF G (d + 1) K YX2_isTrack 7 [some (.int b0)] [.int r1] g Q
  obtain ⟨hb, h⟩ := zgd_some h
  obtain rfl := Option.some.inj h
  exact ez_iret dX2_isTrack_7 rfl hb.1 kq
def YX2_nearest : zM := (yX2_nearest, cX2_nearest, 3, (Option.some Jvm.ClassFile.FieldType.float), [], false)
theorem zkX2_nearest : zMok YX2_nearest := ⟨rfl, q1228, by decide +kernel, by decide +kernel⟩
theorem znX2_nearest : (parseMethodDescriptor YX2_nearest.nm.desc).map (fun d => d.parameters.length) = some 1 := by decide +kernel
noncomputable def fX2_nearest (b0 : UInt32) : Option UInt32 := zjoin (fun (v2 : UInt32) (v3 : UInt32) => if 0 ≤ (Op.cmpValue (FP.fcmp v3 (1258291200 : UInt32)) .l) then some v2 else if (Op.cmpValue (FP.fcmp v2 FP.fconst0) .l) = 0 then some v2 else zgd (vf_n32 (FP.fadd v3 (1258291200 : UInt32))) (zgd (vf_n32 (FP.fsub (FP.fadd v3 (1258291200 : UInt32)) (1258291200 : UInt32))) (zlet (FP.fsub (FP.fadd v3 (1258291200 : UInt32)) (1258291200 : UInt32)) (fun a6 => if 0 ≤ (Op.cmpValue (FP.fcmp v2 FP.fconst0) .g) then some a6 else some (FP.fneg a6))))) (fun j7 => if 0 ≤ (Op.cmpValue (FP.fcmp b0 FP.fconst0) .g) then j7 b0 b0 else j7 b0 (FP.fneg b0))
theorem wX2_nearest {G : zG} {d : Nat} {K : List Nat} {Q : zO → zS → Prop} {g : zS} {b0 : UInt32} {p : UInt32} (h : fX2_nearest b0 = some p) (kq : Q (.inl (some (.float p))) g) : zEM G (d + 0) K YX2_nearest [.float b0] g Q := by
  show zEF G (d + 0) K YX2_nearest 0 [some (.float b0), none, none] [] g Q
  unfold fX2_nearest at h
  refine ez_fload_n (i := 0) (x := b0) dX2_nearest_0 rfl rfl ?_
  refine ez_fconst0 dX2_nearest_1 ?_
  refine ez_fcmp dX2_nearest_2 ?_
  refine zjoin_use (fun (j : UInt32 → UInt32 → Option UInt32) => ∀ (v2 : UInt32) (v3 : UInt32), j v2 v3 = some p → zEF G (d + 0) K YX2_nearest 12 [some (.float v2), none, none] [.float v3] g Q) h (fun v2 v3 h => ?_) (fun j7 hj7 h => ?_)
  · refine ez_fstore_n (i := 1) dX2_nearest_12 rfl (show 1 < 3 by decide) ?_
    show zEF G (d + 0) K YX2_nearest 13 [some (.float v2), some (.float v3), none] [] g Q
    refine ez_fload_n (i := 1) (x := v3) dX2_nearest_13 rfl rfl ?_
    refine ez_ldcf dX2_nearest_14 rfl q1229 ?_
    refine ez_fcmp dX2_nearest_16 ?_
    refine ez_if_ge (tgt := 26) dX2_nearest_17 (by decide) (fun hc => ?_) (fun hc => ?_)
    · replace h := zif_t hc h
      refine ez_fload_n (i := 0) (x := v2) dX2_nearest_26 rfl rfl ?_
      obtain rfl := Option.some.inj h
      exact ez_fret dX2_nearest_27 rfl kq
    · replace h := zif_f hc h
      refine ez_fload_n (i := 0) (x := v2) dX2_nearest_20 rfl rfl ?_
      refine ez_fconst0 dX2_nearest_21 ?_
      refine ez_fcmp dX2_nearest_22 ?_
      refine ez_if_ne (tgt := 28) dX2_nearest_23 (by decide) (fun hc => ?_) (fun hc => ?_)
      · replace h := zif_f hc h
        refine ez_fload_n (i := 1) (x := v3) dX2_nearest_28 rfl rfl ?_
        refine ez_ldcf dX2_nearest_29 rfl q1229 ?_
        obtain ⟨hg4, h⟩ := zgd_some h
        refine ez_fadd dX2_nearest_31 hg4 ?_
        refine ez_ldcf dX2_nearest_32 rfl q1229 ?_
        obtain ⟨hg5, h⟩ := zgd_some h
        refine ez_fsub dX2_nearest_34 hg5 ?_
        refine ez_fstore_n (i := 2) dX2_nearest_35 rfl (show 2 < 3 by decide) ?_
        refine zlet_use (fun a6 => zEF G (d + 0) K YX2_nearest 36 [some (.float v2), some (.float v3), some (.float a6)] [] g Q) h (fun a6 h => ?_)
        refine ez_fload_n (i := 0) (x := v2) dX2_nearest_36 rfl rfl ?_
        refine ez_fconst0 dX2_nearest_37 ?_
        refine ez_fcmp dX2_nearest_38 ?_
        refine ez_if_ge (tgt := 47) dX2_nearest_39 (by decide) (fun hc => ?_) (fun hc => ?_)
        · replace h := zif_t hc h
          refine ez_fload_n (i := 2) (x := a6) dX2_nearest_47 rfl rfl ?_
          obtain rfl := Option.some.inj h
          exact ez_fret dX2_nearest_48 rfl kq
        · replace h := zif_f hc h
          refine ez_fload_n (i := 2) (x := a6) dX2_nearest_42 rfl rfl ?_
          refine ez_fneg dX2_nearest_43 ?_
          refine ez_goto (tgt := 48) dX2_nearest_44 (by decide) ?_
          obtain rfl := Option.some.inj h
          exact ez_fret dX2_nearest_48 rfl kq
      · replace h := zif_t hc h
        refine ez_fload_n (i := 0) (x := v2) dX2_nearest_26 rfl rfl ?_
        obtain rfl := Option.some.inj h
        exact ez_fret dX2_nearest_27 rfl kq
  · refine ez_if_ge (tgt := 11) dX2_nearest_3 (by decide) (fun hc => ?_) (fun hc => ?_)
    · replace h := zif_t hc h
      refine ez_fload_n (i := 0) (x := b0) dX2_nearest_11 rfl rfl ?_
      exact hj7 b0 b0 h
    · replace h := zif_f hc h
      refine ez_fload_n (i := 0) (x := b0) dX2_nearest_6 rfl rfl ?_
      refine ez_fneg dX2_nearest_7 ?_
      refine ez_goto (tgt := 12) dX2_nearest_8 (by decide) ?_
      exact hj7 b0 (FP.fneg b0) h

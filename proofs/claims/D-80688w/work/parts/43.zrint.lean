/-! state-free methods -/
set_option maxRecDepth 100000

def YJ13_rint : zM := (yJ13_rint, cJ13_rint, 6, (Option.some Jvm.ClassFile.FieldType.double), [], false)
theorem zkJ13_rint : zMok YJ13_rint := ⟨rfl, q815, by decide +kernel, by decide +kernel⟩
theorem znJ13_rint : (parseMethodDescriptor YJ13_rint.nm.desc).map (fun d => d.parameters.length) = some 1 := by decide +kernel
noncomputable def fJ13_rint (b0 : UInt64) : Option UInt64 := zlet (4841369599423283200 : UInt64) (fun a1 => zgd (FP.dIsNaN b0 = false) (zlet ((FP.dconst1 &&& 0x7fffffffffffffff) ||| (if b0 >>> 63 == 1 then 0x8000000000000000 else 0)) (fun a3 => zgd (vf_n64 b0) (zlet (b0 &&& 0x7fffffffffffffff) (fun a5 => if 0 ≤ (Op.cmpValue (FP.dcmp a5 a1) .g) then zgd (vf_n64 (FP.dmul a3 a5)) (some (FP.dmul a3 a5)) else zgd (vf_n64 (FP.dadd a1 a5)) (zgd (vf_n64 (FP.dsub (FP.dadd a1 a5) a1)) (zlet (FP.dsub (FP.dadd a1 a5) a1) (fun a9 => zgd (vf_n64 (FP.dmul a3 a9)) (some (FP.dmul a3 a9))))))))))
theorem wJ13_rint {G : zG} {d : Nat} {K : List Nat} {Q : zO → zS → Prop} {g : zS} {b0 : UInt64} {p : UInt64} (h : fJ13_rint b0 = some p) (kq : Q (.inl (some (.double p))) g) : zEM G (d + 1) K YJ13_rint [.double b0] g Q := by
  show zEF G (d + 1) K YJ13_rint 0 [some (.double b0), none, none, none, none, none] [] g Q
  unfold fJ13_rint at h
  refine ez_ldc2d dJ13_rint_0 rfl q816 ?_
  refine ez_dstore_n (i := 2) dJ13_rint_3 rfl (show 3 < 6 by decide) ?_
  refine zlet_use (fun a1 => zEF G (d + 1) K YJ13_rint 4 [some (.double b0), none, some (.double a1), none, none, none] [] g Q) h (fun a1 h => ?_)
  refine ez_dconst1 dJ13_rint_4 ?_
  refine ez_dload_n (i := 0) (x := b0) dJ13_rint_5 rfl rfl ?_
  obtain ⟨hg2, h⟩ := zgd_some h
  refine ez_copyD dJ13_rint_6 rfl q817 hg2 (Nat.le_of_ble_eq_true rfl) ?_
  refine ez_dstore (i := 4) dJ13_rint_9 (show 5 < 6 by decide) ?_
  refine zlet_use (fun a3 => zEF G (d + 1) K YJ13_rint 11 [some (.double b0), none, some (.double a1), none, some (.double a3), none] [] g Q) h (fun a3 h => ?_)
  refine ez_dload_n (i := 0) (x := b0) dJ13_rint_11 rfl rfl ?_
  obtain ⟨hg4, h⟩ := zgd_some h
  refine ez_absD dJ13_rint_12 rfl q826 hg4 (Nat.le_of_ble_eq_true rfl) ?_
  refine ez_dstore_n (i := 0) dJ13_rint_15 rfl (show 1 < 6 by decide) ?_
  refine zlet_use (fun a5 => zEF G (d + 1) K YJ13_rint 16 [some (.double a5), none, some (.double a1), none, some (.double a3), none] [] g Q) h (fun a5 h => ?_)
  refine ez_dload_n (i := 0) (x := a5) dJ13_rint_16 rfl rfl ?_
  refine ez_dload_n (i := 2) (x := a1) dJ13_rint_17 rfl rfl ?_
  refine ez_dcmp dJ13_rint_18 ?_
  refine ez_if_ge (tgt := 28) dJ13_rint_19 (by decide) (fun hc => ?_) (fun hc => ?_)
  · replace h := zif_t hc h
    refine ez_dload (i := 4) (x := a3) dJ13_rint_28 rfl ?_
    refine ez_dload_n (i := 0) (x := a5) dJ13_rint_30 rfl rfl ?_
    obtain ⟨hg6, h⟩ := zgd_some h
    refine ez_dmul dJ13_rint_31 hg6 ?_
    obtain rfl := Option.some.inj h
    exact ez_dret dJ13_rint_32 rfl kq
  · replace h := zif_f hc h
    refine ez_dload_n (i := 2) (x := a1) dJ13_rint_22 rfl rfl ?_
    refine ez_dload_n (i := 0) (x := a5) dJ13_rint_23 rfl rfl ?_
    obtain ⟨hg7, h⟩ := zgd_some h
    refine ez_dadd dJ13_rint_24 hg7 ?_
    refine ez_dload_n (i := 2) (x := a1) dJ13_rint_25 rfl rfl ?_
    obtain ⟨hg8, h⟩ := zgd_some h
    refine ez_dsub dJ13_rint_26 hg8 ?_
    refine ez_dstore_n (i := 0) dJ13_rint_27 rfl (show 1 < 6 by decide) ?_
    refine zlet_use (fun a9 => zEF G (d + 1) K YJ13_rint 28 [some (.double a9), none, some (.double a1), none, some (.double a3), none] [] g Q) h (fun a9 h => ?_)
    refine ez_dload (i := 4) (x := a3) dJ13_rint_28 rfl ?_
    refine ez_dload_n (i := 0) (x := a9) dJ13_rint_30 rfl rfl ?_
    obtain ⟨hg10, h⟩ := zgd_some h
    refine ez_dmul dJ13_rint_31 hg10 ?_
    obtain rfl := Option.some.inj h
    exact ez_dret dJ13_rint_32 rfl kq
